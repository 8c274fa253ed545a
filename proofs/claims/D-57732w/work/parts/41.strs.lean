/-! STRINGS: the constants -/
set_option maxRecDepth 100000
def bs_X10_22 : List Int32 := []
theorem sm_X10_22 : strC "SnowPass$Parser" 22 bs_X10_22 0 1 = (nrw.drop 1125).take 6 := rfl
theorem str_X10_22 {E : fE} (hE : fOK E) : ∃ q v : Nat, vk_R "SnowPass$Parser" 22 "" q E.s ∧ sat E q v 0 (fun j => bs_X10_22.getD j 0) 0 1 E.s.heap := str_of (bs := bs_X10_22) hE q2490 (by decide) (fun c hc => List.mem_of_mem_drop (List.mem_of_mem_take (by rw [← sm_X10_22]; exact hc)))
def bs_X10_114 : List Int32 := [114, 111, 97, 100]
theorem sm_X10_114 : strC "SnowPass$Parser" 114 bs_X10_114 3505952 0 = (nrw.drop 1131).take 10 := rfl
theorem str_X10_114 {E : fE} (hE : fOK E) : ∃ q v : Nat, vk_R "SnowPass$Parser" 114 "road" q E.s ∧ sat E q v 4 (fun j => bs_X10_114.getD j 0) 3505952 0 E.s.heap := str_of (bs := bs_X10_114) hE q2542 (by decide) (fun c hc => List.mem_of_mem_drop (List.mem_of_mem_take (by rw [← sm_X10_114]; exact hc)))
def bs_X10_104 : List Int32 := [119, 101, 115, 116]
theorem sm_X10_104 : strC "SnowPass$Parser" 104 bs_X10_104 3645871 0 = (nrw.drop 1141).take 10 := rfl
theorem str_X10_104 {E : fE} (hE : fOK E) : ∃ q v : Nat, vk_R "SnowPass$Parser" 104 "west" q E.s ∧ sat E q v 4 (fun j => bs_X10_104.getD j 0) 3645871 0 E.s.heap := str_of (bs := bs_X10_104) hE q2590 (by decide) (fun c hc => List.mem_of_mem_drop (List.mem_of_mem_take (by rw [← sm_X10_104]; exact hc)))
def bs_X10_106 : List Int32 := [101, 97, 115, 116]
theorem sm_X10_106 : strC "SnowPass$Parser" 106 bs_X10_106 3105789 0 = (nrw.drop 1151).take 10 := rfl
theorem str_X10_106 {E : fE} (hE : fOK E) : ∃ q v : Nat, vk_R "SnowPass$Parser" 106 "east" q E.s ∧ sat E q v 4 (fun j => bs_X10_106.getD j 0) 3105789 0 E.s.heap := str_of (bs := bs_X10_106) hE q2596 (by decide) (fun c hc => List.mem_of_mem_drop (List.mem_of_mem_take (by rw [← sm_X10_106]; exact hc)))
def bs_X10_171 : List Int32 := [115, 101, 103, 109, 101, 110, 116]
theorem sm_X10_171 : strC "SnowPass$Parser" 171 bs_X10_171 1973722931 0 = (nrw.drop 1161).take 13 := rfl
theorem str_X10_171 {E : fE} (hE : fOK E) : ∃ q v : Nat, vk_R "SnowPass$Parser" 171 "segment" q E.s ∧ sat E q v 7 (fun j => bs_X10_171.getD j 0) 1973722931 0 E.s.heap := str_of (bs := bs_X10_171) hE q2606 (by decide) (fun c hc => List.mem_of_mem_drop (List.mem_of_mem_take (by rw [← sm_X10_171]; exact hc)))
def bs_X10_173 : List Int32 := [99, 97, 114, 116]
theorem sm_X10_173 : strC "SnowPass$Parser" 173 bs_X10_173 3046176 0 = (nrw.drop 1174).take 10 := rfl
theorem str_X10_173 {E : fE} (hE : fOK E) : ∃ q v : Nat, vk_R "SnowPass$Parser" 173 "cart" q E.s ∧ sat E q v 4 (fun j => bs_X10_173.getD j 0) 3046176 0 E.s.heap := str_of (bs := bs_X10_173) hE q2607 (by decide) (fun c hc => List.mem_of_mem_drop (List.mem_of_mem_take (by rw [← sm_X10_173]; exact hc)))
def bs_X10_112 : List Int32 := [99, 104, 97, 105, 110, 115]
theorem sm_X10_112 : strC "SnowPass$Parser" 112 bs_X10_112 (-1361641006) 0 = (nrw.drop 1184).take 12 := rfl
theorem str_X10_112 {E : fE} (hE : fOK E) : ∃ q v : Nat, vk_R "SnowPass$Parser" 112 "chains" q E.s ∧ sat E q v 6 (fun j => bs_X10_112.getD j 0) (-1361641006) 0 E.s.heap := str_of (bs := bs_X10_112) hE q2636 (by decide) (fun c hc => List.mem_of_mem_drop (List.mem_of_mem_take (by rw [← sm_X10_112]; exact hc)))
def bs_X1_154 : List Int32 := [112, 97, 115, 115]
theorem sm_X1_154 : strC "SnowPass" 154 bs_X1_154 3433489 0 = (nrw.drop 1196).take 10 := rfl
theorem str_X1_154 {E : fE} (hE : fOK E) : ∃ q v : Nat, vk_R "SnowPass" 154 "pass" q E.s ∧ sat E q v 4 (fun j => bs_X1_154.getD j 0) 3433489 0 E.s.heap := str_of (bs := bs_X1_154) hE q2671 (by decide) (fun c hc => List.mem_of_mem_drop (List.mem_of_mem_take (by rw [← sm_X1_154]; exact hc)))
def bs_X1_160 : List Int32 := [115, 97, 108, 116]
theorem sm_X1_160 : strC "SnowPass" 160 bs_X1_160 3522646 0 = (nrw.drop 1206).take 10 := rfl
theorem str_X1_160 {E : fE} (hE : fOK E) : ∃ q v : Nat, vk_R "SnowPass" 160 "salt" q E.s ∧ sat E q v 4 (fun j => bs_X1_160.getD j 0) 3522646 0 E.s.heap := str_of (bs := bs_X1_160) hE q2673 (by decide) (fun c hc => List.mem_of_mem_drop (List.mem_of_mem_take (by rw [← sm_X1_160]; exact hc)))
def bs_X1_162 : List Int32 := [114, 101, 99, 97, 108, 108]
theorem sm_X1_162 : strC "SnowPass" 162 bs_X1_162 (-934922479) 0 = (nrw.drop 1216).take 12 := rfl
theorem str_X1_162 {E : fE} (hE : fOK E) : ∃ q v : Nat, vk_R "SnowPass" 162 "recall" q E.s ∧ sat E q v 6 (fun j => bs_X1_162.getD j 0) (-934922479) 0 E.s.heap := str_of (bs := bs_X1_162) hE q2674 (by decide) (fun c hc => List.mem_of_mem_drop (List.mem_of_mem_take (by rw [← sm_X1_162]; exact hc)))
def bs_X1_164 : List Int32 := [115, 97, 99, 107, 115]
theorem sm_X1_164 : strC "SnowPass" 164 bs_X1_164 109193213 0 = (nrw.drop 1228).take 11 := rfl
theorem str_X1_164 {E : fE} (hE : fOK E) : ∃ q v : Nat, vk_R "SnowPass" 164 "sacks" q E.s ∧ sat E q v 5 (fun j => bs_X1_164.getD j 0) 109193213 0 E.s.heap := str_of (bs := bs_X1_164) hE q2675 (by decide) (fun c hc => List.mem_of_mem_drop (List.mem_of_mem_take (by rw [← sm_X1_164]; exact hc)))
def bs_X1_165 : List Int32 := [115, 110, 111, 119, 102, 97, 108, 108]
theorem sm_X1_165 : strC "SnowPass" 165 bs_X1_165 691752830 0 = (nrw.drop 1239).take 14 := rfl
theorem str_X1_165 {E : fE} (hE : fOK E) : ∃ q v : Nat, vk_R "SnowPass" 165 "snowfall" q E.s ∧ sat E q v 8 (fun j => bs_X1_165.getD j 0) 691752830 0 E.s.heap := str_of (bs := bs_X1_165) hE q2676 (by decide) (fun c hc => List.mem_of_mem_drop (List.mem_of_mem_take (by rw [← sm_X1_165]; exact hc)))
def bs_X1_166 : List Int32 := [119, 105, 110, 100]
theorem sm_X1_166 : strC "SnowPass" 166 bs_X1_166 3649544 0 = (nrw.drop 1253).take 10 := rfl
theorem str_X1_166 {E : fE} (hE : fOK E) : ∃ q v : Nat, vk_R "SnowPass" 166 "wind" q E.s ∧ sat E q v 4 (fun j => bs_X1_166.getD j 0) 3649544 0 E.s.heap := str_of (bs := bs_X1_166) hE q2677 (by decide) (fun c hc => List.mem_of_mem_drop (List.mem_of_mem_take (by rw [← sm_X1_166]; exact hc)))
def bs_X1_167 : List Int32 := [99, 97, 114, 116]
theorem sm_X1_167 : strC "SnowPass" 167 bs_X1_167 3046176 0 = (nrw.drop 1263).take 10 := rfl
theorem str_X1_167 {E : fE} (hE : fOK E) : ∃ q v : Nat, vk_R "SnowPass" 167 "cart" q E.s ∧ sat E q v 4 (fun j => bs_X1_167.getD j 0) 3046176 0 E.s.heap := str_of (bs := bs_X1_167) hE q2678 (by decide) (fun c hc => List.mem_of_mem_drop (List.mem_of_mem_take (by rw [← sm_X1_167]; exact hc)))
def bs_X1_169 : List Int32 := [99, 97, 110, 99, 101, 108]
theorem sm_X1_169 : strC "SnowPass" 169 bs_X1_169 (-1367724422) 0 = (nrw.drop 1274).take 12 := rfl
theorem str_X1_169 {E : fE} (hE : fOK E) : ∃ q v : Nat, vk_R "SnowPass" 169 "cancel" q E.s ∧ sat E q v 6 (fun j => bs_X1_169.getD j 0) (-1367724422) 0 E.s.heap := str_of (bs := bs_X1_169) hE q2679 (by decide) (fun c hc => List.mem_of_mem_drop (List.mem_of_mem_take (by rw [← sm_X1_169]; exact hc)))
def bs_X10_219 : List Int32 := [112, 97, 115, 115]
theorem sm_X10_219 : strC "SnowPass$Parser" 219 bs_X10_219 3433489 0 = (nrw.drop 1286).take 10 := rfl
theorem str_X10_219 {E : fE} (hE : fOK E) : ∃ q v : Nat, vk_R "SnowPass$Parser" 219 "pass" q E.s ∧ sat E q v 4 (fun j => bs_X10_219.getD j 0) 3433489 0 E.s.heap := str_of (bs := bs_X10_219) hE q2684 (by decide) (fun c hc => List.mem_of_mem_drop (List.mem_of_mem_take (by rw [← sm_X10_219]; exact hc)))
def bs_X10_221 : List Int32 := [115, 97, 108, 116]
theorem sm_X10_221 : strC "SnowPass$Parser" 221 bs_X10_221 3522646 0 = (nrw.drop 1297).take 10 := rfl
theorem str_X10_221 {E : fE} (hE : fOK E) : ∃ q v : Nat, vk_R "SnowPass$Parser" 221 "salt" q E.s ∧ sat E q v 4 (fun j => bs_X10_221.getD j 0) 3522646 0 E.s.heap := str_of (bs := bs_X10_221) hE q2685 (by decide) (fun c hc => List.mem_of_mem_drop (List.mem_of_mem_take (by rw [← sm_X10_221]; exact hc)))
def bs_X10_223 : List Int32 := [114, 101, 99, 97, 108, 108]
theorem sm_X10_223 : strC "SnowPass$Parser" 223 bs_X10_223 (-934922479) 0 = (nrw.drop 1308).take 12 := rfl
theorem str_X10_223 {E : fE} (hE : fOK E) : ∃ q v : Nat, vk_R "SnowPass$Parser" 223 "recall" q E.s ∧ sat E q v 6 (fun j => bs_X10_223.getD j 0) (-934922479) 0 E.s.heap := str_of (bs := bs_X10_223) hE q2686 (by decide) (fun c hc => List.mem_of_mem_drop (List.mem_of_mem_take (by rw [← sm_X10_223]; exact hc)))
def bs_X10_225 : List Int32 := [115, 97, 99, 107, 115]
theorem sm_X10_225 : strC "SnowPass$Parser" 225 bs_X10_225 109193213 0 = (nrw.drop 1321).take 11 := rfl
theorem str_X10_225 {E : fE} (hE : fOK E) : ∃ q v : Nat, vk_R "SnowPass$Parser" 225 "sacks" q E.s ∧ sat E q v 5 (fun j => bs_X10_225.getD j 0) 109193213 0 E.s.heap := str_of (bs := bs_X10_225) hE q2687 (by decide) (fun c hc => List.mem_of_mem_drop (List.mem_of_mem_take (by rw [← sm_X10_225]; exact hc)))
def bs_X10_227 : List Int32 := [115, 110, 111, 119, 102, 97, 108, 108]
theorem sm_X10_227 : strC "SnowPass$Parser" 227 bs_X10_227 691752830 0 = (nrw.drop 1333).take 14 := rfl
theorem str_X10_227 {E : fE} (hE : fOK E) : ∃ q v : Nat, vk_R "SnowPass$Parser" 227 "snowfall" q E.s ∧ sat E q v 8 (fun j => bs_X10_227.getD j 0) 691752830 0 E.s.heap := str_of (bs := bs_X10_227) hE q2688 (by decide) (fun c hc => List.mem_of_mem_drop (List.mem_of_mem_take (by rw [← sm_X10_227]; exact hc)))
def bs_X10_228 : List Int32 := [119, 105, 110, 100]
theorem sm_X10_228 : strC "SnowPass$Parser" 228 bs_X10_228 3649544 0 = (nrw.drop 1348).take 10 := rfl
theorem str_X10_228 {E : fE} (hE : fOK E) : ∃ q v : Nat, vk_R "SnowPass$Parser" 228 "wind" q E.s ∧ sat E q v 4 (fun j => bs_X10_228.getD j 0) 3649544 0 E.s.heap := str_of (bs := bs_X10_228) hE q2689 (by decide) (fun c hc => List.mem_of_mem_drop (List.mem_of_mem_take (by rw [← sm_X10_228]; exact hc)))
def bs_X9_38 : List Int32 := [114, 111, 97, 100, 32, 55, 32, 51, 32, 53, 32, 52, 48, 32, 49, 53, 32, 50, 32, 51, 59, 119, 101, 115, 116, 32, 50, 48, 32, 50, 59, 101, 97, 115, 116, 32, 51, 48, 32, 49, 59, 115, 101, 103, 109, 101, 110, 116, 32, 48, 32, 48, 32, 49, 48, 59, 115, 101, 103, 109, 101, 110, 116, 32, 49, 32, 49, 32, 51, 48, 59, 115, 101, 103, 109, 101, 110, 116, 32, 50, 32, 50, 32, 50, 53, 59, 115, 101, 103, 109, 101, 110, 116, 32, 51, 32, 52, 32, 53, 48, 59, 115, 101, 103, 109, 101, 110, 116, 32, 52, 32, 50, 32, 50, 48, 59, 115, 101, 103, 109, 101, 110, 116, 32, 53, 32, 49, 32, 52, 53, 59, 115, 101, 103, 109, 101, 110, 116, 32, 54, 32, 48, 32, 53, 59, 99, 97, 114, 116, 32, 119, 101, 115, 116, 32, 99, 104, 97, 105, 110, 115, 59, 99, 97, 114, 116, 32, 119, 101, 115, 116, 59, 99, 97, 114, 116, 32, 101, 97, 115, 116, 59]
theorem sm_X9_38 : strC "SnowPassModel" 38 bs_X9_38 (-1528683082) 0 = (nrw.drop 1385).take 188 := rfl
theorem str_X9_38 {E : fE} (hE : fOK E) : ∃ q v : Nat, vk_R "SnowPassModel" 38 "road 7 3 5 40 15 2 3;west 20 2;east 30 1;segment 0 0 10;segment 1 1 30;segment 2 2 25;segment 3 4 50;segment 4 2 20;segment 5 1 45;segment 6 0 5;cart west chains;cart west;cart east;" q E.s ∧ sat E q v 182 (fun j => bs_X9_38.getD j 0) (-1528683082) 0 E.s.heap := str_of (bs := bs_X9_38) hE q3276 (by decide) (fun c hc => List.mem_of_mem_drop (List.mem_of_mem_take (by rw [← sm_X9_38]; exact hc)))
def bs_X9_223 : List Int32 := [114, 111, 97, 100]
theorem sm_X9_223 : strC "SnowPassModel" 223 bs_X9_223 3505952 0 = (nrw.drop 1573).take 10 := rfl
theorem str_X9_223 {E : fE} (hE : fOK E) : ∃ q v : Nat, vk_R "SnowPassModel" 223 "road" q E.s ∧ sat E q v 4 (fun j => bs_X9_223.getD j 0) 3505952 0 E.s.heap := str_of (bs := bs_X9_223) hE q3304 (by decide) (fun c hc => List.mem_of_mem_drop (List.mem_of_mem_take (by rw [← sm_X9_223]; exact hc)))
def bs_X9_211 : List Int32 := [119, 101, 115, 116]
theorem sm_X9_211 : strC "SnowPassModel" 211 bs_X9_211 3645871 0 = (nrw.drop 1584).take 10 := rfl
theorem str_X9_211 {E : fE} (hE : fOK E) : ∃ q v : Nat, vk_R "SnowPassModel" 211 "west" q E.s ∧ sat E q v 4 (fun j => bs_X9_211.getD j 0) 3645871 0 E.s.heap := str_of (bs := bs_X9_211) hE q3348 (by decide) (fun c hc => List.mem_of_mem_drop (List.mem_of_mem_take (by rw [← sm_X9_211]; exact hc)))
def bs_X9_213 : List Int32 := [101, 97, 115, 116]
theorem sm_X9_213 : strC "SnowPassModel" 213 bs_X9_213 3105789 0 = (nrw.drop 1595).take 10 := rfl
theorem str_X9_213 {E : fE} (hE : fOK E) : ∃ q v : Nat, vk_R "SnowPassModel" 213 "east" q E.s ∧ sat E q v 4 (fun j => bs_X9_213.getD j 0) 3105789 0 E.s.heap := str_of (bs := bs_X9_213) hE q3349 (by decide) (fun c hc => List.mem_of_mem_drop (List.mem_of_mem_take (by rw [← sm_X9_213]; exact hc)))
def bs_X9_241 : List Int32 := [115, 101, 103, 109, 101, 110, 116]
theorem sm_X9_241 : strC "SnowPassModel" 241 bs_X9_241 1973722931 0 = (nrw.drop 1606).take 13 := rfl
theorem str_X9_241 {E : fE} (hE : fOK E) : ∃ q v : Nat, vk_R "SnowPassModel" 241 "segment" q E.s ∧ sat E q v 7 (fun j => bs_X9_241.getD j 0) 1973722931 0 E.s.heap := str_of (bs := bs_X9_241) hE q3362 (by decide) (fun c hc => List.mem_of_mem_drop (List.mem_of_mem_take (by rw [← sm_X9_241]; exact hc)))
def bs_X9_246 : List Int32 := [99, 97, 114, 116]
theorem sm_X9_246 : strC "SnowPassModel" 246 bs_X9_246 3046176 0 = (nrw.drop 1620).take 10 := rfl
theorem str_X9_246 {E : fE} (hE : fOK E) : ∃ q v : Nat, vk_R "SnowPassModel" 246 "cart" q E.s ∧ sat E q v 4 (fun j => bs_X9_246.getD j 0) 3046176 0 E.s.heap := str_of (bs := bs_X9_246) hE q3371 (by decide) (fun c hc => List.mem_of_mem_drop (List.mem_of_mem_take (by rw [← sm_X9_246]; exact hc)))
def bs_X9_218 : List Int32 := [99, 104, 97, 105, 110, 115]
theorem sm_X9_218 : strC "SnowPassModel" 218 bs_X9_218 (-1361641006) 0 = (nrw.drop 1632).take 12 := rfl
theorem str_X9_218 {E : fE} (hE : fOK E) : ∃ q v : Nat, vk_R "SnowPassModel" 218 "chains" q E.s ∧ sat E q v 6 (fun j => bs_X9_218.getD j 0) (-1361641006) 0 E.s.heap := str_of (bs := bs_X9_218) hE q3384 (by decide) (fun c hc => List.mem_of_mem_drop (List.mem_of_mem_take (by rw [← sm_X9_218]; exact hc)))
def bs_X9_278 : List Int32 := [112, 97, 115, 115]
theorem sm_X9_278 : strC "SnowPassModel" 278 bs_X9_278 3433489 0 = (nrw.drop 1645).take 10 := rfl
theorem str_X9_278 {E : fE} (hE : fOK E) : ∃ q v : Nat, vk_R "SnowPassModel" 278 "pass" q E.s ∧ sat E q v 4 (fun j => bs_X9_278.getD j 0) 3433489 0 E.s.heap := str_of (bs := bs_X9_278) hE q3509 (by decide) (fun c hc => List.mem_of_mem_drop (List.mem_of_mem_take (by rw [← sm_X9_278]; exact hc)))
def bs_X9_280 : List Int32 := [115, 97, 108, 116]
theorem sm_X9_280 : strC "SnowPassModel" 280 bs_X9_280 3522646 0 = (nrw.drop 1657).take 10 := rfl
theorem str_X9_280 {E : fE} (hE : fOK E) : ∃ q v : Nat, vk_R "SnowPassModel" 280 "salt" q E.s ∧ sat E q v 4 (fun j => bs_X9_280.getD j 0) 3522646 0 E.s.heap := str_of (bs := bs_X9_280) hE q3510 (by decide) (fun c hc => List.mem_of_mem_drop (List.mem_of_mem_take (by rw [← sm_X9_280]; exact hc)))
def bs_X9_282 : List Int32 := [114, 101, 99, 97, 108, 108]
theorem sm_X9_282 : strC "SnowPassModel" 282 bs_X9_282 (-934922479) 0 = (nrw.drop 1669).take 12 := rfl
theorem str_X9_282 {E : fE} (hE : fOK E) : ∃ q v : Nat, vk_R "SnowPassModel" 282 "recall" q E.s ∧ sat E q v 6 (fun j => bs_X9_282.getD j 0) (-934922479) 0 E.s.heap := str_of (bs := bs_X9_282) hE q3511 (by decide) (fun c hc => List.mem_of_mem_drop (List.mem_of_mem_take (by rw [← sm_X9_282]; exact hc)))
def bs_X9_284 : List Int32 := [115, 97, 99, 107, 115]
theorem sm_X9_284 : strC "SnowPassModel" 284 bs_X9_284 109193213 0 = (nrw.drop 1683).take 11 := rfl
theorem str_X9_284 {E : fE} (hE : fOK E) : ∃ q v : Nat, vk_R "SnowPassModel" 284 "sacks" q E.s ∧ sat E q v 5 (fun j => bs_X9_284.getD j 0) 109193213 0 E.s.heap := str_of (bs := bs_X9_284) hE q3512 (by decide) (fun c hc => List.mem_of_mem_drop (List.mem_of_mem_take (by rw [← sm_X9_284]; exact hc)))
def bs_X9_272 : List Int32 := [115, 110, 111, 119, 102, 97, 108, 108]
theorem sm_X9_272 : strC "SnowPassModel" 272 bs_X9_272 691752830 0 = (nrw.drop 1696).take 14 := rfl
theorem str_X9_272 {E : fE} (hE : fOK E) : ∃ q v : Nat, vk_R "SnowPassModel" 272 "snowfall" q E.s ∧ sat E q v 8 (fun j => bs_X9_272.getD j 0) 691752830 0 E.s.heap := str_of (bs := bs_X9_272) hE q3517 (by decide) (fun c hc => List.mem_of_mem_drop (List.mem_of_mem_take (by rw [← sm_X9_272]; exact hc)))
def bs_X9_274 : List Int32 := [119, 105, 110, 100]
theorem sm_X9_274 : strC "SnowPassModel" 274 bs_X9_274 3649544 0 = (nrw.drop 1712).take 10 := rfl
theorem str_X9_274 {E : fE} (hE : fOK E) : ∃ q v : Nat, vk_R "SnowPassModel" 274 "wind" q E.s ∧ sat E q v 4 (fun j => bs_X9_274.getD j 0) 3649544 0 E.s.heap := str_of (bs := bs_X9_274) hE q3518 (by decide) (fun c hc => List.mem_of_mem_drop (List.mem_of_mem_take (by rw [← sm_X9_274]; exact hc)))
def bs_X9_276 : List Int32 := [99, 97, 110, 99, 101, 108]
theorem sm_X9_276 : strC "SnowPassModel" 276 bs_X9_276 (-1367724422) 0 = (nrw.drop 1724).take 12 := rfl
theorem str_X9_276 {E : fE} (hE : fOK E) : ∃ q v : Nat, vk_R "SnowPassModel" 276 "cancel" q E.s ∧ sat E q v 6 (fun j => bs_X9_276.getD j 0) (-1367724422) 0 E.s.heap := str_of (bs := bs_X9_276) hE q3519 (by decide) (fun c hc => List.mem_of_mem_drop (List.mem_of_mem_take (by rw [← sm_X9_276]; exact hc)))
