/-! TWIN 3: contracts, operations -/
set_option maxRecDepth 100000
set_option maxHeartbeats 400000
theorem nl_8 : (8 : Int32) = nI 8 := rfl
theorem nl_13 : (13 : Int32) = nI 13 := rfl
theorem nl_14 : (14 : Int32) = nI 14 := rfl
theorem nl_16 : (16 : Int32) = nI 16 := rfl
theorem nl_99 : (99 : Int32) = nI 99 := rfl
theorem nl_126 : (126 : Int32) = nI 126 := rfl
theorem nl_167 : (167 : Int32) = nI 167 := rfl
theorem nl_1169 : (1169 : Int32) = nI 1169 := rfl
theorem fl_X9_19_X9 : FL "SnowPassModel" 19 8 3 := ⟨RX9, TX9, 22, "SnowPassModel", rfl, in_X9, by decide, Or.inl rfl, Or.inl q3408⟩
theorem cs_X9_58 : CSS "SnowPassModel" 58 yX9_copies prog_17_method_7_code 5 none 4 := ⟨⟨by decide +kernel, by decide +kernel, by decide +kernel⟩, q3293, q3294, q161, q3295, by decide⟩
theorem cs_X9_149 : CSV "SnowPassModel" 149 yX9_crossed prog_17_method_37_code 1 (some .int) 0 := ⟨⟨by decide +kernel, by decide +kernel, by decide +kernel⟩, q3540, q3542, qs80, q161, q3543, by decide⟩
theorem cs_X9_152 : CSV "SnowPassModel" 152 yX9_goBy prog_17_method_36_code 3 none 1 := ⟨⟨by decide +kernel, by decide +kernel, by decide +kernel⟩, q3544, q3546, qs81, q161, q3547, by decide⟩
theorem fp_X9_155_X9 {nm : String} : FLp "SnowPassModel" 155 8 8 .int nm := ⟨RX9, TX9, 22, "SnowPassModel", tyX9, rfl, in_X9, by decide, Or.inl rfl, tyX9_ok, nmX9, by decide +kernel, Or.inl ⟨q3413, Or.inl rfl⟩⟩
theorem cs_X9_158 : CSV "SnowPassModel" 158 yX9_placeOf prog_17_method_44_code 4 (some .int) 2 := ⟨⟨by decide +kernel, by decide +kernel, by decide +kernel⟩, q3648, q3650, qs106, q161, q3651, by decide⟩
theorem cs_X9_161 : CSV "SnowPassModel" 161 yX9_sideOf prog_17_method_45_code 2 (some .int) 1 := ⟨⟨by decide +kernel, by decide +kernel, by decide +kernel⟩, q3644, q3646, qs105, q161, q3647, by decide⟩
theorem fl_X9_269_X9 : FL "SnowPassModel" 269 8 5 := ⟨RX9, TX9, 22, "SnowPassModel", rfl, in_X9, by decide, Or.inl rfl, Or.inl q3410⟩
theorem fl_X9_22_X9 : FL "SnowPassModel" 22 8 4 := ⟨RX9, TX9, 22, "SnowPassModel", rfl, in_X9, by decide, Or.inl rfl, Or.inl q3409⟩
theorem fp_X9_269_X9 {nm : String} : FLp "SnowPassModel" 269 8 5 .int nm := ⟨RX9, TX9, 22, "SnowPassModel", tyX9, rfl, in_X9, by decide, Or.inl rfl, tyX9_ok, nmX9, by decide +kernel, Or.inl ⟨q3410, Or.inl rfl⟩⟩
theorem fl_X9_16_X9 : FL "SnowPassModel" 16 8 2 := ⟨RX9, TX9, 22, "SnowPassModel", rfl, in_X9, by decide, Or.inl rfl, Or.inl q3407⟩
theorem cs_X9_322 : CSV "SnowPassModel" 322 yX9_keeps prog_17_method_77_code 3 none 1 := ⟨⟨by decide +kernel, by decide +kernel, by decide +kernel⟩, q3528, q3530, qs77, q161, q3531, by decide⟩
theorem fl_X9_155_X9 : FL "SnowPassModel" 155 8 8 := ⟨RX9, TX9, 22, "SnowPassModel", rfl, in_X9, by decide, Or.inl rfl, Or.inl q3413⟩
theorem cs_X9_329 : CSV "SnowPassModel" 329 yX9_tells prog_17_method_79_code 2 (some .int) 1 := ⟨⟨by decide +kernel, by decide +kernel, by decide +kernel⟩, q3656, q3658, qs107, q161, q3659, by decide⟩
theorem fl_X9_220_X9 : FL "SnowPassModel" 220 8 16 := ⟨RX9, TX9, 22, "SnowPassModel", rfl, in_X9, by decide, Or.inl rfl, Or.inl q3421⟩
theorem fl_X9_28_X9 : FL "SnowPassModel" 28 8 17 := ⟨RX9, TX9, 22, "SnowPassModel", rfl, in_X9, by decide, Or.inl rfl, Or.inl q3422⟩
theorem cs_X9_266 : CSV "SnowPassModel" 266 yX9_depths prog_17_method_22_code 3 (some .int) 0 := ⟨⟨by decide +kernel, by decide +kernel, by decide +kernel⟩, q3397, q3399, qs69, q161, q3400, by decide⟩
theorem tm_copies {E : fE} {H : Heap} {p q n1 n2 a b : Nat} {f g : Row} (x_a x_b : Int32) (h_a : x_a = nI a) (h_b : x_b = nI b) (hf : aat E p 0 n1 f H) (hg : aat E q 0 n2 g H) (hpq : p ≠ q) (hlo : E.lo ≤ q) (h1 : a + 167 ≤ n1) (h2 : b + 167 ≤ n2) (h3 : n1 ≤ 5000) (h4 : n2 ≤ 5000) : fM E yX9_copies prog_17_method_7_code 5 none 1 0 0 [.ref p, .int x_a, .ref q, .int x_b] H (fun r_ H' => r_ = none ∧ Up H H' q ∧ aat E q 0 n2 (va_cpy f g a b 167) H') noX := by
  refine f_start (own := "SnowPassModel") (nm := "copies") (lv := [(0, .ref p), (1, .int x_a), (2, .ref q), (3, .int x_b)]) pn_X9 rfl rfl (Nat.le_of_ble_eq_true rfl) rfl (fun Z K X => ?_)
  refine f_iconst (v := 0) K dX9_copies_0 rfl ?_
  refine f_istore (lv' := [(4, .int 0), (0, .ref p), (1, .int x_a), (2, .ref q), (3, .int x_b)]) K dX9_copies_1 (by decide) rfl ?_
  have loop : ∀ (d i : Nat) (x_i : Int32) (G : Heap), x_i = nI i → i + d = 167 → Up H G q → aat E p 0 n1 f G → aat E q 0 n2 (va_cpy f g a b i) G → Go E Z 5 G (0) (0) 3 [(4, .int x_i), (0, .ref p), (1, .int x_a), (2, .ref q), (3, .int x_b)] [] := by
    intro d
    induction d with
    | zero =>
      intro i x_i G h_i hd hU hf hg
      obtain rfl : i = 167 := by omega
      refine f_iload K dX9_copies_3 rfl ?_
      refine f_sipush (v := 167) K dX9_copies_5 rfl ?_
      refine f_icmp_ge (tgt := 29) K dX9_copies_8 (by decide) (fun c_8 => ?_) (fun c_8 => ?_)
      · exact f_retV K X rfl dX9_copies_29 (Nat.le_of_ble_eq_true rfl) (Nat.le_of_ble_eq_true rfl) (⟨rfl, hU, hg⟩)
      · exact absurd (by rw [h_i]; exact nI_le (a := 167) (b := 167) (by omega) (by omega)) c_8
    | succ d ih =>
      intro i x_i G h_i hd hU hf hg
      refine f_iload K dX9_copies_3 rfl ?_
      refine f_sipush (v := 167) K dX9_copies_5 rfl ?_
      refine f_icmp_ge (tgt := 29) K dX9_copies_8 (by decide) (fun c_8 => ?_) (fun c_8 => ?_)
      · exact absurd c_8 (by rw [h_i]; exact nI_ge (a := i) (b := 167) (by omega) (by decide))
      · refine f_aload_n K dX9_copies_11 rfl ?_
        refine f_iload_n K dX9_copies_12 rfl ?_
        refine f_iload K dX9_copies_13 rfl ?_
        refine f_iadd K dX9_copies_15 ?_
        refine f_aload_n K dX9_copies_16 rfl ?_
        refine f_iload_n K dX9_copies_17 rfl ?_
        refine f_iload K dX9_copies_18 rfl ?_
        refine f_iadd K dX9_copies_20 ?_
        refine f_iald (j := (a + i)) K dX9_copies_21 hf (nia h_a h_i) (by omega) (by omega) ?_
        refine f_iast (j := (b + i)) K dX9_copies_22 hg (nia h_b h_i) (by omega) (by omega) hlo (fun H3 hU2 hg => ?_)
        have hf := hU2.k hpq hf
        have hU : Up H H3 q := ⟨hU2.1.trans hU.1, fun r hr => (hU2.2 r hr).trans (hU.2 r hr)⟩
        refine f_iinc (v := x_i + 1) (lv' := [(4, .int (x_i + 1)), (0, .ref p), (1, .int x_a), (2, .ref q), (3, .int x_b)]) K dX9_copies_23 rfl rfl (by decide) rfl ?_
        refine f_goto (tgt := 3) K dX9_copies_26 (by decide) ?_
        rw [cpy_s] at hg
        exact ih ((i + 1)) _ _ (nia h_i nl_1) (by omega) hU hf hg
  exact loop 167 0 _ _ nl_0 (by omega) ⟨rfl, fun _ _ => rfl⟩ hf (by rw [cpy_0]; exact hg)
/-- tries()V -/
theorem tm_tries {E : fE} {H : Heap} {m : Nat} {ad : Nat → Nat} {sc f0 f1 f2 f3 f4 fb ft fo : Row} (ht : twAt E H m ad sc f0 f1 f2 f3 f4 fb ft fo)   : fM E yX9_tries prog_17_method_8_code 1 none 2 0 0 [.ref m] H (fun r_ H' => r_ = none ∧ twAt E H' m ad sc f0 f1 f2 f0 f4 fb ft fo ∧ twK m ad H H') noX := by
  refine f_start (own := "SnowPassModel") (nm := "tries") (lv := [(0, .ref m)]) pn_X9 rfl rfl (Nat.le_of_ble_eq_true rfl) rfl (fun Z K X => ?_)
  have hk := twK.rf (m := m) (ad := ad) (H := H)
  refine f_aload_n K dX9_tries_0 rfl ?_
  refine f_get (v := .ref (ad 0)) K fl_X9_7_X9 dX9_tries_1 (tw_o ht) rfl ?_
  refine f_iconst (v := 0) K dX9_tries_4 rfl ?_
  refine f_aload_n K dX9_tries_5 rfl ?_
  refine f_get (v := .ref (ad 3)) K fl_X9_19_X9 dX9_tries_6 (tw_o ht) rfl ?_
  refine f_iconst (v := 0) K dX9_tries_9 rfl ?_
  refine f_invS (As := [.ref (ad 0), .int 0, .ref (ad 3), .int 0]) (rest := []) K (tm_copies (E := E) (a := 0) (b := 0) 0 0 nl_0 nl_0 (tw_a0 ht) (tw_a3 ht) (fun e9 => absurd ((tw_D ht).1 0 (by decide) 3 (by decide) e9) (by decide)) (tw_lo3 ht) (by omega) (by omega) (by omega) (by omega)) cs_X9_58 dX9_tries_10 rfl rfl (Nat.le_of_ble_eq_true rfl) (Nat.le_of_ble_eq_true rfl) (Nat.le_of_ble_eq_true rfl) (Nat.le_of_ble_eq_true rfl) (fun v H1 hq hz => ?_) (fun _ _ _ h9 _ _ => h9.elim)
  obtain ⟨rfl, hU, ho⟩ := hq
  have hk := hk.st (j := 3) (by decide) hU
  have ho := aat_c (g := f0) ho (fun j hj => by simp only [va_cpy]; rw [if_pos (by omega)] <;> simp)
  have ht := tw_st3 ht hU ho
  change Go E Z 1 H1 (0) (0) 13 [(0, .ref m)] []
  exact f_retV K X rfl dX9_tries_13 (Nat.le_of_ble_eq_true rfl) (Nat.le_of_ble_eq_true rfl) (⟨rfl, ht, hk⟩)
/-- laidBack(I)I -/
theorem tm_laidBack {E : fE} {H : Heap} {m : Nat} {ad : Nat → Nat} {sc f0 f1 f2 f3 f4 fb ft fo : Row} (ht : twAt E H m ad sc f0 f1 f2 f3 f4 fb ft fo) (x : Int32)  : fM E yX9_laidBack prog_17_method_9_code 2 (some .int) 2 0 0 [.ref m, .int x] H (fun r_ H' => r_ = some (.int x) ∧ twAt E H' m ad sc f3 f1 f2 f3 f4 fb ft fo ∧ twK m ad H H') noX := by
  refine f_start (own := "SnowPassModel") (nm := "laidBack") (lv := [(0, .ref m), (1, .int x)]) pn_X9 rfl rfl (Nat.le_of_ble_eq_true rfl) rfl (fun Z K X => ?_)
  have hk := twK.rf (m := m) (ad := ad) (H := H)
  refine f_aload_n K dX9_laidBack_0 rfl ?_
  refine f_get (v := .ref (ad 3)) K fl_X9_19_X9 dX9_laidBack_1 (tw_o ht) rfl ?_
  refine f_iconst (v := 0) K dX9_laidBack_4 rfl ?_
  refine f_aload_n K dX9_laidBack_5 rfl ?_
  refine f_get (v := .ref (ad 0)) K fl_X9_7_X9 dX9_laidBack_6 (tw_o ht) rfl ?_
  refine f_iconst (v := 0) K dX9_laidBack_9 rfl ?_
  refine f_invS (As := [.ref (ad 3), .int 0, .ref (ad 0), .int 0]) (rest := []) K (tm_copies (E := E) (a := 0) (b := 0) 0 0 nl_0 nl_0 (tw_a3 ht) (tw_a0 ht) (fun e9 => absurd ((tw_D ht).1 3 (by decide) 0 (by decide) e9) (by decide)) (tw_lo0 ht) (by omega) (by omega) (by omega) (by omega)) cs_X9_58 dX9_laidBack_10 rfl rfl (Nat.le_of_ble_eq_true rfl) (Nat.le_of_ble_eq_true rfl) (Nat.le_of_ble_eq_true rfl) (Nat.le_of_ble_eq_true rfl) (fun v H1 hq hz => ?_) (fun _ _ _ h9 _ _ => h9.elim)
  obtain ⟨rfl, hU, ho⟩ := hq
  have hk := hk.st (j := 0) (by decide) hU
  have ho := aat_c (g := f3) ho (fun j hj => by simp only [va_cpy]; rw [if_pos (by omega)] <;> simp)
  have ht := tw_st0 ht hU ho
  change Go E Z 2 H1 (0) (0) 13 [(0, .ref m), (1, .int x)] []
  refine f_iload_n K dX9_laidBack_13 rfl ?_
  exact f_retI K X (Or.inl rfl) dX9_laidBack_14 (Nat.le_of_ble_eq_true rfl) (Nat.le_of_ble_eq_true rfl) (⟨rfl, ht, hk⟩)
/-- crossed()I -/
theorem tm_crossed {E : fE} {H : Heap} {m : Nat} {ad : Nat → Nat} {sc f0 f1 f2 f3 f4 fb ft fo : Row} (ht : twAt E H m ad sc f0 f1 f2 f3 f4 fb ft fo)   : fM E yX9_crossed prog_17_method_37_code 1 (some .int) 1 0 0 [.ref m] H (fun r_ H' => r_ = some (.int (sp_crossed f0)) ∧ H' = H) noX := by
  refine f_start (own := "SnowPassModel") (nm := "crossed") (lv := [(0, .ref m)]) pn_X9 rfl rfl (Nat.le_of_ble_eq_true rfl) rfl (fun Z K X => ?_)
  refine f_aload_n K dX9_crossed_0 rfl ?_
  refine f_get (v := .ref (ad 0)) K fl_X9_7_X9 dX9_crossed_1 (tw_o ht) rfl ?_
  refine f_bipush (v := 15) K dX9_crossed_4 rfl ?_
  refine f_iald (j := 15) K dX9_crossed_6 (tw_a0 ht) nl_15 (by decide) (by decide) ?_
  refine f_aload_n K dX9_crossed_7 rfl ?_
  refine f_get (v := .ref (ad 0)) K fl_X9_7_X9 dX9_crossed_8 (tw_o ht) rfl ?_
  refine f_bipush (v := 16) K dX9_crossed_11 rfl ?_
  refine f_iald (j := 16) K dX9_crossed_13 (tw_a0 ht) nl_16 (by decide) (by decide) ?_
  refine f_iadd K dX9_crossed_14 ?_
  exact f_retI K X (Or.inl rfl) dX9_crossed_15 (Nat.le_of_ble_eq_true rfl) (Nat.le_of_ble_eq_true rfl) (⟨rfl, rfl⟩)
/-- passNow(I)Z -/
theorem tm_passNow {E : fE} {H : Heap} {m : Nat} {ad : Nat → Nat} {sc f0 f1 f2 f3 f4 fb ft fo : Row} (ht : twAt E H m ad sc f0 f1 f2 f3 f4 fb ft fo) (x_h : Int32) {h : Nat} (h_h : x_h = nI h) {n t : Nat} (ok : okr n t f0) (hh : h ≤ 100000) : fM E yX9_passNow prog_17_method_38_code 3 (some .boolean) 8 0 0 [.ref m, .int x_h] H (fun r_ H' => r_ = some (.int (bI True)) ∧ twAt E H' m ad (upd sc 8 (sp_crossed (sp_go f0 h) - sp_crossed f0)) (sp_go f0 h) f1 f2 f3 f4 fb ft fo ∧ twK m ad H H') noX := by
  refine f_start (own := "SnowPassModel") (nm := "passNow") (lv := [(0, .ref m), (1, .int x_h)]) pn_X9 rfl rfl (Nat.le_of_ble_eq_true rfl) rfl (fun Z K X => ?_)
  have hk := twK.rf (m := m) (ad := ad) (H := H)
  refine f_aload_n K dX9_passNow_0 rfl ?_
  refine f_invV (As := []) (rest := []) K (tm_crossed (E := E)  ht ) cs_X9_149 dX9_passNow_1 (tw_o ht) rfl rfl rfl (Nat.le_of_ble_eq_true rfl) (Nat.le_of_ble_eq_true rfl) (Nat.le_of_ble_eq_true rfl) (Nat.le_of_ble_eq_true rfl) (fun v H1 hq hz => ?_) (fun _ _ _ h9 _ _ => h9.elim)
  obtain ⟨rfl, hq⟩ := hq
  rw [hq]
  change Go E Z 3 H (0) (0) 4 [(0, .ref m), (1, .int x_h)] [.int (sp_crossed f0)]
  refine f_istore_n (lv' := [(2, .int (sp_crossed f0)), (0, .ref m), (1, .int x_h)]) K dX9_passNow_4 (by decide) rfl ?_
  refine f_aload_n K dX9_passNow_5 rfl ?_
  refine f_iload_n K dX9_passNow_6 rfl ?_
  refine f_invV (As := [.int x_h]) (rest := []) K (tm_goBy (E := E) (h := h) ht x_h h_h ok hh) cs_X9_152 dX9_passNow_7 (tw_o ht) rfl rfl rfl (Nat.le_of_ble_eq_true rfl) (Nat.le_of_ble_eq_true rfl) (Nat.le_of_ble_eq_true rfl) (Nat.le_of_ble_eq_true rfl) (fun v H2 hq hz => ?_) (fun _ _ _ h9 _ _ => h9.elim)
  obtain ⟨rfl, ht, hk1⟩ := hq
  have hk := hk.tr hk1
  have ht : twAt E H2 m ad sc (sp_go f0 h) f1 f2 f3 f4 fb ft fo := ht
  change Go E Z 3 H2 (0) (0) 10 [(2, .int (sp_crossed f0)), (0, .ref m), (1, .int x_h)] []
  refine f_aload_n K dX9_passNow_10 rfl ?_
  refine f_aload_n K dX9_passNow_11 rfl ?_
  refine f_invV (As := []) (rest := [.ref m]) K (tm_crossed (E := E)  ht ) cs_X9_149 dX9_passNow_12 (tw_o ht) rfl rfl rfl (Nat.le_of_ble_eq_true rfl) (Nat.le_of_ble_eq_true rfl) (Nat.le_of_ble_eq_true rfl) (Nat.le_of_ble_eq_true rfl) (fun v H4 hq hz => ?_) (fun _ _ _ h9 _ _ => h9.elim)
  obtain ⟨rfl, hq⟩ := hq
  rw [hq]
  change Go E Z 3 H2 (0) (0) 15 [(2, .int (sp_crossed f0)), (0, .ref m), (1, .int x_h)] [.int (sp_crossed (sp_go f0 h)), .ref m]
  refine f_iload_n K dX9_passNow_15 rfl ?_
  refine f_isub K dX9_passNow_16 ?_
  refine f_put K fp_X9_155_X9 dX9_passNow_17 (tw_o ht) (tw_lo ht) (Nat.le_of_ble_eq_true rfl) rfl rfl (fun H5 hU ho => ?_)
  have ht := tw_put (sc' := (upd sc 8 ((sp_crossed (sp_go f0 h)) - (sp_crossed f0)))) ht hU ho rfl
  have hk := hk.put hU
  refine f_iconst (v := 1) K dX9_passNow_20 rfl ?_
  exact f_retI K X (Or.inr ⟨rfl, Or.inr rfl⟩) dX9_passNow_21 (Nat.le_of_ble_eq_true rfl) (Nat.le_of_ble_eq_true rfl) (⟨rI1 trivial, ht, hk⟩)
/-- saltNow(I)Z -/
theorem tm_saltNow {E : fE} {H : Heap} {m : Nat} {ad : Nat → Nat} {sc f0 f1 f2 f3 f4 fb ft fo : Row} (ht : twAt E H m ad sc f0 f1 f2 f3 f4 fb ft fo) (x_p : Int32) {p : Nat} (h_p : x_p = nI p) {n t : Nat} (hp : p < 2) (ok : okr n t f0) : fM E yX9_saltNow prog_17_method_39_code 3 (some .boolean) 2 0 0 [.ref m, .int x_p] H (fun r_ H' => r_ = some (.int (bI (¬ f0 (17 + 4 * p + 2) = 0))) ∧ twAt E H' m ad (if f0 (17 + 4 * p + 2) = 0 then sc else upd sc 8 (f0 (17 + 4 * p + 2) - 1)) (if f0 (17 + 4 * p + 2) = 0 then f0 else sp_salt f0 p) f1 f2 f3 f4 fb ft fo ∧ twK m ad H H') noX := by
  refine f_start (own := "SnowPassModel") (nm := "saltNow") (lv := [(0, .ref m), (1, .int x_p)]) pn_X9 rfl rfl (Nat.le_of_ble_eq_true rfl) rfl (fun Z K X => ?_)
  obtain ⟨kp, hkp, ekp⟩ := okr_pos ok hp
  have hb9 := ok.1
  have hk := twK.rf (m := m) (ad := ad) (H := H)
  refine f_aload_n K dX9_saltNow_0 rfl ?_
  refine f_iload_n K dX9_saltNow_1 rfl ?_
  refine f_iconst (v := 2) K dX9_saltNow_2 rfl ?_
  refine f_invV (As := [.int x_p, .int 2]) (rest := []) K (tm_ofPlough (E := E) (p := p) (w := 2) ht x_p h_p 2 nl_2 (by omega)) cs_X9_70 dX9_saltNow_3 (tw_o ht) rfl rfl rfl (Nat.le_of_ble_eq_true rfl) (Nat.le_of_ble_eq_true rfl) (Nat.le_of_ble_eq_true rfl) (Nat.le_of_ble_eq_true rfl) (fun v H1 hq hz => ?_) (fun _ _ _ h9 _ _ => h9.elim)
  obtain ⟨rfl, hq⟩ := hq
  rw [hq]
  change Go E Z 3 H (0) (0) 6 [(0, .ref m), (1, .int x_p)] [.int (f0 (17 + 4 * p + 2))]
  refine f_istore_n (lv' := [(2, .int (f0 (17 + 4 * p + 2))), (0, .ref m), (1, .int x_p)]) K dX9_saltNow_6 (by decide) rfl ?_
  refine f_iload_n K dX9_saltNow_7 rfl ?_
  refine f_if_ne (tgt := 13) K dX9_saltNow_8 (by decide) (fun c_8 => ?_) (fun c_8 => ?_)
  · refine f_aload_n K dX9_saltNow_13 rfl ?_
    refine f_iload_n K dX9_saltNow_14 rfl ?_
    refine f_iconst (v := 2) K dX9_saltNow_15 rfl ?_
    refine f_iload_n K dX9_saltNow_16 rfl ?_
    refine f_iconst (v := 1) K dX9_saltNow_17 rfl ?_
    refine f_isub K dX9_saltNow_18 ?_
    refine f_invV (As := [.int x_p, .int 2, .int ((f0 (17 + 4 * p + 2)) - 1)]) (rest := []) K (tm_putsPlough (E := E) (p := p) (w := 2) ht x_p h_p 2 nl_2 ((f0 (17 + 4 * p + 2)) - 1) (by omega)) cs_X9_87 dX9_saltNow_19 (tw_o ht) rfl rfl rfl (Nat.le_of_ble_eq_true rfl) (Nat.le_of_ble_eq_true rfl) (Nat.le_of_ble_eq_true rfl) (Nat.le_of_ble_eq_true rfl) (fun v H3 hq hz => ?_) (fun _ _ _ h9 _ _ => h9.elim)
    obtain ⟨rfl, ht, hk1⟩ := hq
    have hk := hk.tr hk1
    have ht : twAt E H3 m ad sc (upd f0 (17 + 4 * p + 2) ((f0 (17 + 4 * p + 2)) - 1)) f1 f2 f3 f4 fb ft fo := ht
    change Go E Z 3 H3 (0) (0) 22 [(2, .int (f0 (17 + 4 * p + 2))), (0, .ref m), (1, .int x_p)] []
    refine f_aload_n K dX9_saltNow_22 rfl ?_
    refine f_aload_n K dX9_saltNow_23 rfl ?_
    refine f_iload_n K dX9_saltNow_24 rfl ?_
    refine f_iconst (v := 0) K dX9_saltNow_25 rfl ?_
    refine f_invV (As := [.int x_p, .int 0]) (rest := [.ref m]) K (tm_ofPlough (E := E) (p := p) (w := 0) ht x_p h_p 0 nl_0 (by omega)) cs_X9_70 dX9_saltNow_26 (tw_o ht) rfl rfl rfl (Nat.le_of_ble_eq_true rfl) (Nat.le_of_ble_eq_true rfl) (Nat.le_of_ble_eq_true rfl) (Nat.le_of_ble_eq_true rfl) (fun v H5 hq hz => ?_) (fun _ _ _ h9 _ _ => h9.elim)
    obtain ⟨rfl, hq⟩ := hq
    rw [hq]
    change Go E Z 3 H3 (0) (0) 29 [(2, .int (f0 (17 + 4 * p + 2))), (0, .ref m), (1, .int x_p)] [.int ((upd f0 (17 + 4 * p + 2) ((f0 (17 + 4 * p + 2)) - 1)) (17 + 4 * p)), .ref m]
    refine f_iconst (v := 2) K dX9_saltNow_29 rfl ?_
    refine f_bipush (v := 6) K dX9_saltNow_30 rfl ?_
    refine f_invV (As := [.int ((upd f0 (17 + 4 * p + 2) ((f0 (17 + 4 * p + 2)) - 1)) (17 + 4 * p)), .int 2, .int 6]) (rest := []) K (tm_puts (E := E) (k := kp) (w := 2) ht ((upd f0 (17 + 4 * p + 2) ((f0 (17 + 4 * p + 2)) - 1)) (17 + 4 * p)) (by rw [upd_ne (by omega)]; exact ekp) 2 nl_2 6 (by omega)) cs_X9_104 dX9_saltNow_32 (tw_o ht) rfl rfl rfl (Nat.le_of_ble_eq_true rfl) (Nat.le_of_ble_eq_true rfl) (Nat.le_of_ble_eq_true rfl) (Nat.le_of_ble_eq_true rfl) (fun v H6 hq hz => ?_) (fun _ _ _ h9 _ _ => h9.elim)
    obtain ⟨rfl, ht, hk1⟩ := hq
    have hk := hk.tr hk1
    have ht : twAt E H6 m ad sc (upd (upd f0 (17 + 4 * p + 2) ((f0 (17 + 4 * p + 2)) - 1)) (25 + 3 * kp + 2) 6) f1 f2 f3 f4 fb ft fo := ht
    change Go E Z 3 H6 (0) (0) 35 [(2, .int (f0 (17 + 4 * p + 2))), (0, .ref m), (1, .int x_p)] []
    refine f_aload_n K dX9_saltNow_35 rfl ?_
    refine f_get (v := .ref (ad 0)) K fl_X9_7_X9 dX9_saltNow_36 (tw_o ht) rfl ?_
    refine f_bipush (v := 14) K dX9_saltNow_39 rfl ?_
    refine f_dup2 K dX9_saltNow_41 rfl rfl ?_
    refine f_iald (j := 14) K dX9_saltNow_42 (tw_a0 ht) nl_14 (by decide) (by decide) ?_
    refine Go.fst (congrArg Value.int ((upd_ne (by omega)).trans (upd_ne (by omega)) : (upd (upd f0 (17 + 4 * p + 2) ((f0 (17 + 4 * p + 2)) - 1)) (25 + 3 * kp + 2) 6) 14 = f0 14)) ?_
    refine f_iconst (v := 1) K dX9_saltNow_43 rfl ?_
    refine f_iadd K dX9_saltNow_44 ?_
    refine f_iast (j := 14) K dX9_saltNow_45 (tw_a0 ht) nl_14 (by decide) (by decide) (tw_lo0 ht) (fun H8 hU ho => ?_)
    have hk := hk.st (j := 0) (by decide) hU
    have ht := tw_st0 ht hU ho
    refine f_aload_n K dX9_saltNow_46 rfl ?_
    refine f_iload_n K dX9_saltNow_47 rfl ?_
    refine f_iconst (v := 1) K dX9_saltNow_48 rfl ?_
    refine f_isub K dX9_saltNow_49 ?_
    refine f_put K fp_X9_155_X9 dX9_saltNow_50 (tw_o ht) (tw_lo ht) (Nat.le_of_ble_eq_true rfl) rfl rfl (fun H9 hU ho => ?_)
    have ht := tw_put (sc' := (upd sc 8 ((f0 (17 + 4 * p + 2)) - 1))) ht hU ho rfl
    have hk := hk.put hU
    refine f_iconst (v := 1) K dX9_saltNow_53 rfl ?_
    exact f_retI K X (Or.inr ⟨rfl, Or.inr rfl⟩) dX9_saltNow_54 (Nat.le_of_ble_eq_true rfl) (Nat.le_of_ble_eq_true rfl) (⟨rI1 c_8, by rw [if_neg c_8, if_neg c_8, sp_salt, ekp, nI_clamp (by omega)]; exact ht, hk⟩)
  · refine f_iconst (v := 0) K dX9_saltNow_11 rfl ?_
    exact f_retI K X (Or.inr ⟨rfl, Or.inl rfl⟩) dX9_saltNow_12 (Nat.le_of_ble_eq_true rfl) (Nat.le_of_ble_eq_true rfl) (⟨rI0 (fun z => z c_8), by rw [if_pos c_8, if_pos c_8]; exact ht, hk⟩)
/-- recallNow(I)Z -/
theorem tm_recallNow {E : fE} {H : Heap} {m : Nat} {ad : Nat → Nat} {sc f0 f1 f2 f3 f4 fb ft fo : Row} (ht : twAt E H m ad sc f0 f1 f2 f3 f4 fb ft fo) (x_p : Int32) {p : Nat} (h_p : x_p = nI p) {n t : Nat} (hp : p < 2) (ok : okr n t f0) : fM E yX9_recallNow prog_17_method_40_code 2 (some .boolean) 4 0 0 [.ref m, .int x_p] H (fun r_ H' => r_ = some (.int (bI True)) ∧ twAt E H' m ad (upd sc 8 (sp_recall f0 p (17 + 4 * p))) (sp_recall f0 p) f1 f2 f3 f4 fb ft fo ∧ twK m ad H H') noX := by
  refine f_start (own := "SnowPassModel") (nm := "recallNow") (lv := [(0, .ref m), (1, .int x_p)]) pn_X9 rfl rfl (Nat.le_of_ble_eq_true rfl) rfl (fun Z K X => ?_)
  have hk := twK.rf (m := m) (ad := ad) (H := H)
  refine f_aload_n K dX9_recallNow_0 rfl ?_
  refine f_iload_n K dX9_recallNow_1 rfl ?_
  refine f_iconst (v := 3) K dX9_recallNow_2 rfl ?_
  refine f_invV (As := [.int x_p, .int 3]) (rest := []) K (tm_ofPlough (E := E) (p := p) (w := 3) ht x_p h_p 3 nl_3 (by omega)) cs_X9_70 dX9_recallNow_3 (tw_o ht) rfl rfl rfl (Nat.le_of_ble_eq_true rfl) (Nat.le_of_ble_eq_true rfl) (Nat.le_of_ble_eq_true rfl) (Nat.le_of_ble_eq_true rfl) (fun v H1 hq hz => ?_) (fun _ _ _ h9 _ _ => h9.elim)
  obtain ⟨rfl, hq⟩ := hq
  rw [hq]
  change Go E Z 2 H (0) (0) 6 [(0, .ref m), (1, .int x_p)] [.int (f0 (17 + 4 * p + 3))]
  refine f_iconst (v := 1) K dX9_recallNow_6 rfl ?_
  refine f_icmp_ne (tgt := 22) K dX9_recallNow_7 (by decide) (fun c_7 => ?_) (fun c_7 => ?_)
  · have hr : (if f0 (17 + 4 * p + 3) = 1 then sp_ent (upd f0 (17 + 4 * p + 3) 0) 3 else f0) = f0 := if_neg c_7
    have okq : okr n t f0 := ok
    refine f_aload_n K dX9_recallNow_22 rfl ?_
    refine f_iload_n K dX9_recallNow_23 rfl ?_
    refine f_invV (As := [.int x_p]) (rest := []) K (tm_sendsBack (E := E) (p := p) ht x_p h_p hp okq) cs_X9_113 dX9_recallNow_24 (tw_o ht) rfl rfl rfl (Nat.le_of_ble_eq_true rfl) (Nat.le_of_ble_eq_true rfl) (Nat.le_of_ble_eq_true rfl) (Nat.le_of_ble_eq_true rfl) (fun v H3 hq hz => ?_) (fun _ _ _ h9 _ _ => h9.elim)
    obtain ⟨rfl, ht, hk1⟩ := hq
    have hk := hk.tr hk1
    have ht : twAt E H3 m ad sc (sp_sb f0 p) f1 f2 f3 f4 fb ft fo := ht
    change Go E Z 2 H3 (0) (0) 27 [(0, .ref m), (1, .int x_p)] []
    have hs9 : (sp_sb f0 p) = sp_recall f0 p := by rw [sp_recall, hr]
    rw [hs9] at ht
    refine f_aload_n K dX9_recallNow_27 rfl ?_
    refine f_aload_n K dX9_recallNow_28 rfl ?_
    refine f_iload_n K dX9_recallNow_29 rfl ?_
    refine f_iconst (v := 0) K dX9_recallNow_30 rfl ?_
    refine f_invV (As := [.int x_p, .int 0]) (rest := [.ref m]) K (tm_ofPlough (E := E) (p := p) (w := 0) ht x_p h_p 0 nl_0 (by omega)) cs_X9_70 dX9_recallNow_31 (tw_o ht) rfl rfl rfl (Nat.le_of_ble_eq_true rfl) (Nat.le_of_ble_eq_true rfl) (Nat.le_of_ble_eq_true rfl) (Nat.le_of_ble_eq_true rfl) (fun v H5 hq hz => ?_) (fun _ _ _ h9 _ _ => h9.elim)
    obtain ⟨rfl, hq⟩ := hq
    rw [hq]
    change Go E Z 2 H3 (0) (0) 34 [(0, .ref m), (1, .int x_p)] [.int ((sp_recall f0 p) (17 + 4 * p)), .ref m]
    refine f_put K fp_X9_155_X9 dX9_recallNow_34 (tw_o ht) (tw_lo ht) (Nat.le_of_ble_eq_true rfl) rfl rfl (fun H6 hU ho => ?_)
    have ht := tw_put (sc' := (upd sc 8 ((sp_recall f0 p) (17 + 4 * p)))) ht hU ho rfl
    have hk := hk.put hU
    refine f_iconst (v := 1) K dX9_recallNow_37 rfl ?_
    exact f_retI K X (Or.inr ⟨rfl, Or.inr rfl⟩) dX9_recallNow_38 (Nat.le_of_ble_eq_true rfl) (Nat.le_of_ble_eq_true rfl) (⟨rI1 trivial, ht, hk⟩)
  · refine f_aload_n K dX9_recallNow_10 rfl ?_
    refine f_iload_n K dX9_recallNow_11 rfl ?_
    refine f_iconst (v := 3) K dX9_recallNow_12 rfl ?_
    refine f_iconst (v := 0) K dX9_recallNow_13 rfl ?_
    refine f_invV (As := [.int x_p, .int 3, .int 0]) (rest := []) K (tm_putsPlough (E := E) (p := p) (w := 3) ht x_p h_p 3 nl_3 0 (by omega)) cs_X9_87 dX9_recallNow_14 (tw_o ht) rfl rfl rfl (Nat.le_of_ble_eq_true rfl) (Nat.le_of_ble_eq_true rfl) (Nat.le_of_ble_eq_true rfl) (Nat.le_of_ble_eq_true rfl) (fun v H7 hq hz => ?_) (fun _ _ _ h9 _ _ => h9.elim)
    obtain ⟨rfl, ht, hk1⟩ := hq
    have hk := hk.tr hk1
    have ht : twAt E H7 m ad sc (upd f0 (17 + 4 * p + 3) 0) f1 f2 f3 f4 fb ft fo := ht
    change Go E Z 2 H7 (0) (0) 17 [(0, .ref m), (1, .int x_p)] []
    refine f_aload_n K dX9_recallNow_17 rfl ?_
    refine f_iconst (v := 3) K dX9_recallNow_18 rfl ?_
    obtain ⟨b_, hb2_, hb_⟩ := (okr_sg (p := p) ok hp (Or.inl rfl)).b
    refine f_invV (As := [.int 3]) (rest := []) K (tm_enters (E := E)  ht 3 hb_ hb2_) cs_X9_91 dX9_recallNow_19 (tw_o ht) rfl rfl rfl (Nat.le_of_ble_eq_true rfl) (Nat.le_of_ble_eq_true rfl) (Nat.le_of_ble_eq_true rfl) (Nat.le_of_ble_eq_true rfl) (fun v H9 hq hz => ?_) (fun _ _ _ h9 _ _ => h9.elim)
    obtain ⟨rfl, ht, hk1⟩ := hq
    have hk := hk.tr hk1
    have ht : twAt E H9 m ad sc (sp_ent (upd f0 (17 + 4 * p + 3) 0) 3) f1 f2 f3 f4 fb ft fo := ht
    change Go E Z 2 H9 (0) (0) 22 [(0, .ref m), (1, .int x_p)] []
    have hr : (if f0 (17 + 4 * p + 3) = 1 then sp_ent (upd f0 (17 + 4 * p + 3) 0) 3 else f0) = (sp_ent (upd f0 (17 + 4 * p + 3) 0) 3) := if_pos c_7
    have okq : okr n t (sp_ent (upd f0 (17 + 4 * p + 3) 0) 3) := (okr_ent (okr_sg ok hp (Or.inl rfl)) 3)
    refine f_aload_n K dX9_recallNow_22 rfl ?_
    refine f_iload_n K dX9_recallNow_23 rfl ?_
    refine f_invV (As := [.int x_p]) (rest := []) K (tm_sendsBack (E := E) (p := p) ht x_p h_p hp okq) cs_X9_113 dX9_recallNow_24 (tw_o ht) rfl rfl rfl (Nat.le_of_ble_eq_true rfl) (Nat.le_of_ble_eq_true rfl) (Nat.le_of_ble_eq_true rfl) (Nat.le_of_ble_eq_true rfl) (fun v H11 hq hz => ?_) (fun _ _ _ h9 _ _ => h9.elim)
    obtain ⟨rfl, ht, hk1⟩ := hq
    have hk := hk.tr hk1
    have ht : twAt E H11 m ad sc (sp_sb (sp_ent (upd f0 (17 + 4 * p + 3) 0) 3) p) f1 f2 f3 f4 fb ft fo := ht
    change Go E Z 2 H11 (0) (0) 27 [(0, .ref m), (1, .int x_p)] []
    have hs9 : (sp_sb (sp_ent (upd f0 (17 + 4 * p + 3) 0) 3) p) = sp_recall f0 p := by rw [sp_recall, hr]
    rw [hs9] at ht
    refine f_aload_n K dX9_recallNow_27 rfl ?_
    refine f_aload_n K dX9_recallNow_28 rfl ?_
    refine f_iload_n K dX9_recallNow_29 rfl ?_
    refine f_iconst (v := 0) K dX9_recallNow_30 rfl ?_
    refine f_invV (As := [.int x_p, .int 0]) (rest := [.ref m]) K (tm_ofPlough (E := E) (p := p) (w := 0) ht x_p h_p 0 nl_0 (by omega)) cs_X9_70 dX9_recallNow_31 (tw_o ht) rfl rfl rfl (Nat.le_of_ble_eq_true rfl) (Nat.le_of_ble_eq_true rfl) (Nat.le_of_ble_eq_true rfl) (Nat.le_of_ble_eq_true rfl) (fun v H13 hq hz => ?_) (fun _ _ _ h9 _ _ => h9.elim)
    obtain ⟨rfl, hq⟩ := hq
    rw [hq]
    change Go E Z 2 H11 (0) (0) 34 [(0, .ref m), (1, .int x_p)] [.int ((sp_recall f0 p) (17 + 4 * p)), .ref m]
    refine f_put K fp_X9_155_X9 dX9_recallNow_34 (tw_o ht) (tw_lo ht) (Nat.le_of_ble_eq_true rfl) rfl rfl (fun H14 hU ho => ?_)
    have ht := tw_put (sc' := (upd sc 8 ((sp_recall f0 p) (17 + 4 * p)))) ht hU ho rfl
    have hk := hk.put hU
    refine f_iconst (v := 1) K dX9_recallNow_37 rfl ?_
    exact f_retI K X (Or.inr ⟨rfl, Or.inr rfl⟩) dX9_recallNow_38 (Nat.le_of_ble_eq_true rfl) (Nat.le_of_ble_eq_true rfl) (⟨rI1 trivial, ht, hk⟩)
/-- sacksNow(II)Z -/
theorem tm_sacksNow {E : fE} {H : Heap} {m : Nat} {ad : Nat → Nat} {sc f0 f1 f2 f3 f4 fb ft fo : Row} (ht : twAt E H m ad sc f0 f1 f2 f3 f4 fb ft fo) (x_p : Int32) {p : Nat} (h_p : x_p = nI p) (x : Int32)  (hp : p < 2) : fM E yX9_sacksNow prog_17_method_41_code 3 (some .boolean) 2 0 0 [.ref m, .int x_p, .int x] H (fun r_ H' => r_ = some (.int (bI True)) ∧ twAt E H' m ad (upd sc 8 (sp_sacks f0 p x (17 + 4 * p + 2))) (sp_sacks f0 p x) f1 f2 f3 f4 fb ft fo ∧ twK m ad H H') noX := by
  refine f_start (own := "SnowPassModel") (nm := "sacksNow") (lv := [(0, .ref m), (1, .int x_p), (2, .int x)]) pn_X9 rfl rfl (Nat.le_of_ble_eq_true rfl) rfl (fun Z K X => ?_)
  have hk := twK.rf (m := m) (ad := ad) (H := H)
  refine f_aload_n K dX9_sacksNow_0 rfl ?_
  refine f_iload_n K dX9_sacksNow_1 rfl ?_
  refine f_iconst (v := 2) K dX9_sacksNow_2 rfl ?_
  refine f_bipush (v := 99) K dX9_sacksNow_3 rfl ?_
  refine f_aload_n K dX9_sacksNow_5 rfl ?_
  refine f_iload_n K dX9_sacksNow_6 rfl ?_
  refine f_iconst (v := 2) K dX9_sacksNow_7 rfl ?_
  refine f_invV (As := [.int x_p, .int 2]) (rest := [.int 99, .int 2, .int x_p, .ref m]) K (tm_ofPlough (E := E) (p := p) (w := 2) ht x_p h_p 2 nl_2 (by omega)) cs_X9_70 dX9_sacksNow_8 (tw_o ht) rfl rfl rfl (Nat.le_of_ble_eq_true rfl) (Nat.le_of_ble_eq_true rfl) (Nat.le_of_ble_eq_true rfl) (Nat.le_of_ble_eq_true rfl) (fun v H1 hq hz => ?_) (fun _ _ _ h9 _ _ => h9.elim)
  obtain ⟨rfl, hq⟩ := hq
  rw [hq]
  change Go E Z 3 H (0) (0) 11 [(0, .ref m), (1, .int x_p), (2, .int x)] [.int (f0 (17 + 4 * p + 2)), .int 99, .int 2, .int x_p, .ref m]
  refine f_iload_n K dX9_sacksNow_11 rfl ?_
  refine f_iadd K dX9_sacksNow_12 ?_
  refine f_mmin K q3556 q490 q140 q491 dX9_sacksNow_13 (Nat.le_of_ble_eq_true rfl) (Nat.le_of_ble_eq_true rfl) (Nat.le_of_ble_eq_true rfl) (Nat.le_of_ble_eq_true rfl) ?_
  refine f_invV (As := [.int x_p, .int 2, .int (imin 99 ((f0 (17 + 4 * p + 2)) + x))]) (rest := []) K (tm_putsPlough (E := E) (p := p) (w := 2) ht x_p h_p 2 nl_2 (imin 99 ((f0 (17 + 4 * p + 2)) + x)) (by omega)) cs_X9_87 dX9_sacksNow_16 (tw_o ht) rfl rfl rfl (Nat.le_of_ble_eq_true rfl) (Nat.le_of_ble_eq_true rfl) (Nat.le_of_ble_eq_true rfl) (Nat.le_of_ble_eq_true rfl) (fun v H2 hq hz => ?_) (fun _ _ _ h9 _ _ => h9.elim)
  obtain ⟨rfl, ht, hk1⟩ := hq
  have hk := hk.tr hk1
  have ht : twAt E H2 m ad sc (upd f0 (17 + 4 * p + 2) (imin 99 ((f0 (17 + 4 * p + 2)) + x))) f1 f2 f3 f4 fb ft fo := ht
  change Go E Z 3 H2 (0) (0) 19 [(0, .ref m), (1, .int x_p), (2, .int x)] []
  refine f_aload_n K dX9_sacksNow_19 rfl ?_
  refine f_aload_n K dX9_sacksNow_20 rfl ?_
  refine f_iload_n K dX9_sacksNow_21 rfl ?_
  refine f_iconst (v := 2) K dX9_sacksNow_22 rfl ?_
  refine f_invV (As := [.int x_p, .int 2]) (rest := [.ref m]) K (tm_ofPlough (E := E) (p := p) (w := 2) ht x_p h_p 2 nl_2 (by omega)) cs_X9_70 dX9_sacksNow_23 (tw_o ht) rfl rfl rfl (Nat.le_of_ble_eq_true rfl) (Nat.le_of_ble_eq_true rfl) (Nat.le_of_ble_eq_true rfl) (Nat.le_of_ble_eq_true rfl) (fun v H4 hq hz => ?_) (fun _ _ _ h9 _ _ => h9.elim)
  obtain ⟨rfl, hq⟩ := hq
  rw [hq]
  change Go E Z 3 H2 (0) (0) 26 [(0, .ref m), (1, .int x_p), (2, .int x)] [.int ((upd f0 (17 + 4 * p + 2) (imin 99 ((f0 (17 + 4 * p + 2)) + x))) (17 + 4 * p + 2)), .ref m]
  refine f_put K fp_X9_155_X9 dX9_sacksNow_26 (tw_o ht) (tw_lo ht) (Nat.le_of_ble_eq_true rfl) rfl rfl (fun H5 hU ho => ?_)
  have ht := tw_put (sc' := (upd sc 8 ((upd f0 (17 + 4 * p + 2) (imin 99 ((f0 (17 + 4 * p + 2)) + x))) (17 + 4 * p + 2)))) ht hU ho rfl
  have hk := hk.put hU
  refine f_iconst (v := 1) K dX9_sacksNow_29 rfl ?_
  exact f_retI K X (Or.inr ⟨rfl, Or.inr rfl⟩) dX9_sacksNow_30 (Nat.le_of_ble_eq_true rfl) (Nat.le_of_ble_eq_true rfl) (⟨rI1 trivial, ht, hk⟩)
/-- setNow(II)Z -/
theorem tm_setNow {E : fE} {H : Heap} {m : Nat} {ad : Nat → Nat} {sc f0 f1 f2 f3 f4 fb ft fo : Row} (ht : twAt E H m ad sc f0 f1 f2 f3 f4 fb ft fo) (x_c : Int32) {c : Nat} (h_c : x_c = nI c) (x : Int32)  (hc : c < 167) : fM E yX9_setNow prog_17_method_42_code 3 (some .boolean) 1 0 0 [.ref m, .int x_c, .int x] H (fun r_ H' => r_ = some (.int (bI True)) ∧ twAt E H' m ad (upd sc 8 (f0 c)) (upd f0 c x) f1 f2 f3 f4 fb ft fo ∧ twK m ad H H') noX := by
  refine f_start (own := "SnowPassModel") (nm := "setNow") (lv := [(0, .ref m), (1, .int x_c), (2, .int x)]) pn_X9 rfl rfl (Nat.le_of_ble_eq_true rfl) rfl (fun Z K X => ?_)
  have hk := twK.rf (m := m) (ad := ad) (H := H)
  refine f_aload_n K dX9_setNow_0 rfl ?_
  refine f_aload_n K dX9_setNow_1 rfl ?_
  refine f_get (v := .ref (ad 0)) K fl_X9_7_X9 dX9_setNow_2 (tw_o ht) rfl ?_
  refine f_iload_n K dX9_setNow_5 rfl ?_
  refine f_iald (j := c) K dX9_setNow_6 (tw_a0 ht) h_c (by omega) (by decide) ?_
  refine f_put K fp_X9_155_X9 dX9_setNow_7 (tw_o ht) (tw_lo ht) (Nat.le_of_ble_eq_true rfl) rfl rfl (fun H1 hU ho => ?_)
  have ht := tw_put (sc' := (upd sc 8 (f0 c))) ht hU ho rfl
  have hk := hk.put hU
  refine f_aload_n K dX9_setNow_10 rfl ?_
  refine f_get (v := .ref (ad 0)) K fl_X9_7_X9 dX9_setNow_11 (tw_o ht) rfl ?_
  refine f_iload_n K dX9_setNow_14 rfl ?_
  refine f_iload_n K dX9_setNow_15 rfl ?_
  refine f_iast (j := c) K dX9_setNow_16 (tw_a0 ht) h_c (by omega) (by decide) (tw_lo0 ht) (fun H2 hU ho => ?_)
  have hk := hk.st (j := 0) (by decide) hU
  have ht := tw_st0 ht hU ho
  refine f_iconst (v := 1) K dX9_setNow_17 rfl ?_
  exact f_retI K X (Or.inr ⟨rfl, Or.inr rfl⟩) dX9_setNow_18 (Nat.le_of_ble_eq_true rfl) (Nat.le_of_ble_eq_true rfl) (⟨rI1 trivial, ht, hk⟩)
/-- cartNow(II)Z -/
theorem tm_cartNow {E : fE} {H : Heap} {m : Nat} {ad : Nat → Nat} {sc f0 f1 f2 f3 f4 fb ft fo : Row} (ht : twAt E H m ad sc f0 f1 f2 f3 f4 fb ft fo) (x_s : Int32) {s : Nat} (h_s : x_s = nI s) (x : Int32) {n t : Nat} (hs : s < 2) (ok : okr n t f0) : fM E yX9_cartNow prog_17_method_43_code 4 (some .boolean) 1 0 0 [.ref m, .int x_s, .int x] H (fun r_ H' => r_ = some (.int (bI (¬ f0 (125 + s) = 10))) ∧ twAt E H' m ad (if f0 (125 + s) = 10 then sc else upd sc 8 (f0 8)) (if f0 (125 + s) = 10 then f0 else sp_cart f0 s x) f1 f2 f3 f4 fb ft fo ∧ twK m ad H H') noX := by
  refine f_start (own := "SnowPassModel") (nm := "cartNow") (lv := [(0, .ref m), (1, .int x_s), (2, .int x)]) pn_X9 rfl rfl (Nat.le_of_ble_eq_true rfl) rfl (fun Z K X => ?_)
  obtain ⟨w, hw2, hw⟩ := ok.w hs
  have hk := twK.rf (m := m) (ad := ad) (H := H)
  refine f_aload_n K dX9_cartNow_0 rfl ?_
  refine f_get (v := .ref (ad 0)) K fl_X9_7_X9 dX9_cartNow_1 (tw_o ht) rfl ?_
  refine f_bipush (v := 125) K dX9_cartNow_4 rfl ?_
  refine f_iload_n K dX9_cartNow_6 rfl ?_
  refine f_iadd K dX9_cartNow_7 ?_
  refine f_iald (j := (125 + s)) K dX9_cartNow_8 (tw_a0 ht) (nia nl_125 h_s) (by omega) (by decide) ?_
  refine f_bipush (v := 10) K dX9_cartNow_9 rfl ?_
  refine f_icmp_ne (tgt := 16) K dX9_cartNow_11 (by decide) (fun c_11 => ?_) (fun c_11 => ?_)
  · have hw9 : w ≤ 9 := by
      by_cases e : w = 10
      · exact absurd (by rw [hw, e]; rfl) c_11
      · omega
    refine f_bipush (v := 127) K dX9_cartNow_16 rfl ?_
    refine f_iconst (v := 2) K dX9_cartNow_18 rfl ?_
    refine f_bipush (v := 10) K dX9_cartNow_19 rfl ?_
    refine f_iload_n K dX9_cartNow_21 rfl ?_
    refine f_imul K dX9_cartNow_22 ?_
    refine f_aload_n K dX9_cartNow_23 rfl ?_
    refine f_get (v := .ref (ad 0)) K fl_X9_7_X9 dX9_cartNow_24 (tw_o ht) rfl ?_
    refine f_bipush (v := 125) K dX9_cartNow_27 rfl ?_
    refine f_iload_n K dX9_cartNow_29 rfl ?_
    refine f_iadd K dX9_cartNow_30 ?_
    refine f_iald (j := (125 + s)) K dX9_cartNow_31 (tw_a0 ht) (nia nl_125 h_s) (by omega) (by decide) ?_
    refine f_iadd K dX9_cartNow_32 ?_
    refine f_imul K dX9_cartNow_33 ?_
    refine f_iadd K dX9_cartNow_34 ?_
    refine f_istore_n (lv' := [(3, .int (127 + (2 * ((10 * x_s) + (f0 (125 + s)))))), (0, .ref m), (1, .int x_s), (2, .int x)]) K dX9_cartNow_35 (by decide) rfl ?_
    refine f_aload_n K dX9_cartNow_36 rfl ?_
    refine f_get (v := .ref (ad 0)) K fl_X9_7_X9 dX9_cartNow_37 (tw_o ht) rfl ?_
    refine f_iload_n K dX9_cartNow_40 rfl ?_
    refine f_iconst (v := 0) K dX9_cartNow_41 rfl ?_
    refine f_iadd K dX9_cartNow_42 ?_
    refine f_aload_n K dX9_cartNow_43 rfl ?_
    refine f_get (v := .ref (ad 0)) K fl_X9_7_X9 dX9_cartNow_44 (tw_o ht) rfl ?_
    refine f_bipush (v := 8) K dX9_cartNow_47 rfl ?_
    refine f_iald (j := 8) K dX9_cartNow_49 (tw_a0 ht) nl_8 (by decide) (by decide) ?_
    refine f_iast (j := (127 + 2 * (10 * s + w))) K dX9_cartNow_50 (tw_a0 ht) (nie (nia (nia nl_127 (nim nl_2 (nia (nim nl_10 h_s) hw))) nl_0) (by omega)) (by omega) (by decide) (tw_lo0 ht) (fun H2 hU ho => ?_)
    have hk := hk.st (j := 0) (by decide) hU
    have ht := tw_st0 ht hU ho
    refine f_aload_n K dX9_cartNow_51 rfl ?_
    refine f_get (v := .ref (ad 0)) K fl_X9_7_X9 dX9_cartNow_52 (tw_o ht) rfl ?_
    refine f_iload_n K dX9_cartNow_55 rfl ?_
    refine f_iconst (v := 1) K dX9_cartNow_56 rfl ?_
    refine f_iadd K dX9_cartNow_57 ?_
    refine f_iload_n K dX9_cartNow_58 rfl ?_
    refine f_iast (j := (127 + 2 * (10 * s + w) + 1)) K dX9_cartNow_59 (tw_a0 ht) (nie (nia (nia nl_127 (nim nl_2 (nia (nim nl_10 h_s) hw))) nl_1) (by omega)) (by omega) (by decide) (tw_lo0 ht) (fun H3 hU ho => ?_)
    have hk := hk.st (j := 0) (by decide) hU
    have ht := tw_st0 ht hU ho
    refine f_aload_n K dX9_cartNow_60 rfl ?_
    refine f_get (v := .ref (ad 0)) K fl_X9_7_X9 dX9_cartNow_61 (tw_o ht) rfl ?_
    refine f_bipush (v := 125) K dX9_cartNow_64 rfl ?_
    refine f_iload_n K dX9_cartNow_66 rfl ?_
    refine f_iadd K dX9_cartNow_67 ?_
    refine f_dup2 K dX9_cartNow_68 rfl rfl ?_
    refine f_iald (j := (125 + s)) K dX9_cartNow_69 (tw_a0 ht) (nia nl_125 h_s) (by omega) (by decide) ?_
    refine Go.fst (congrArg Value.int ((upd_ne (by omega)).trans (upd_ne (by omega)) : (upd (upd f0 (127 + 2 * (10 * s + w)) (f0 8)) (127 + 2 * (10 * s + w) + 1) x) (125 + s) = f0 (125 + s))) ?_
    refine f_iconst (v := 1) K dX9_cartNow_70 rfl ?_
    refine f_iadd K dX9_cartNow_71 ?_
    refine f_iast (j := (125 + s)) K dX9_cartNow_72 (tw_a0 ht) (nia nl_125 h_s) (by omega) (by decide) (tw_lo0 ht) (fun H4 hU ho => ?_)
    have hk := hk.st (j := 0) (by decide) hU
    have ht := tw_st0 ht hU ho
    refine f_aload_n K dX9_cartNow_73 rfl ?_
    refine f_aload_n K dX9_cartNow_74 rfl ?_
    refine f_get (v := .ref (ad 0)) K fl_X9_7_X9 dX9_cartNow_75 (tw_o ht) rfl ?_
    refine f_bipush (v := 8) K dX9_cartNow_78 rfl ?_
    refine f_iald (j := 8) K dX9_cartNow_80 (tw_a0 ht) nl_8 (by decide) (by decide) ?_
    refine Go.fst (congrArg Value.int ((upd_ne (by omega)).trans ((upd_ne (by omega)).trans (upd_ne (by omega))) : (upd (upd (upd f0 (127 + 2 * (10 * s + w)) (f0 8)) (127 + 2 * (10 * s + w) + 1) x) (125 + s) ((f0 (125 + s)) + 1)) 8 = f0 8)) ?_
    refine f_put K fp_X9_155_X9 dX9_cartNow_81 (tw_o ht) (tw_lo ht) (Nat.le_of_ble_eq_true rfl) rfl rfl (fun H5 hU ho => ?_)
    have ht := tw_put (sc' := (upd sc 8 (f0 8))) ht hU ho rfl
    have hk := hk.put hU
    refine f_aload_n K dX9_cartNow_84 rfl ?_
    refine f_get (v := .ref (ad 0)) K fl_X9_7_X9 dX9_cartNow_85 (tw_o ht) rfl ?_
    refine f_bipush (v := 8) K dX9_cartNow_88 rfl ?_
    refine f_dup2 K dX9_cartNow_90 rfl rfl ?_
    refine f_iald (j := 8) K dX9_cartNow_91 (tw_a0 ht) nl_8 (by decide) (by decide) ?_
    refine Go.fst (congrArg Value.int ((upd_ne (by omega)).trans ((upd_ne (by omega)).trans (upd_ne (by omega))) : (upd (upd (upd f0 (127 + 2 * (10 * s + w)) (f0 8)) (127 + 2 * (10 * s + w) + 1) x) (125 + s) ((f0 (125 + s)) + 1)) 8 = f0 8)) ?_
    refine f_iconst (v := 1) K dX9_cartNow_92 rfl ?_
    refine f_iadd K dX9_cartNow_93 ?_
    refine f_iast (j := 8) K dX9_cartNow_94 (tw_a0 ht) nl_8 (by decide) (by decide) (tw_lo0 ht) (fun H6 hU ho => ?_)
    have hk := hk.st (j := 0) (by decide) hU
    have ht := tw_st0 ht hU ho
    refine f_iconst (v := 1) K dX9_cartNow_95 rfl ?_
    exact f_retI K X (Or.inr ⟨rfl, Or.inr rfl⟩) dX9_cartNow_96 (Nat.le_of_ble_eq_true rfl) (Nat.le_of_ble_eq_true rfl) (⟨rI1 c_11, by rw [if_neg c_11, if_neg c_11, sp_cart, hw, nI_clamp (by omega), sp_cart1]; exact ht, hk⟩)
  · refine f_iconst (v := 0) K dX9_cartNow_14 rfl ?_
    exact f_retI K X (Or.inr ⟨rfl, Or.inl rfl⟩) dX9_cartNow_15 (Nat.le_of_ble_eq_true rfl) (Nat.le_of_ble_eq_true rfl) (⟨rI0 (fun z => z c_11), by rw [if_pos c_11, if_pos c_11]; exact ht, hk⟩)
/-- placeOf(II)I -/
theorem tm_placeOf {E : fE} {H : Heap} {m : Nat} {ad : Nat → Nat} {sc f0 f1 f2 f3 f4 fb ft fo : Row} (ht : twAt E H m ad sc f0 f1 f2 f3 f4 fb ft fo) (x_s : Int32) {s : Nat} (h_s : x_s = nI s) (x : Int32) {w : Nat} (hs : s < 2) (hw : f0 (125 + s) = nI w) (hw2 : w ≤ 10) : fM E yX9_placeOf prog_17_method_44_code 4 (some .int) 2 0 0 [.ref m, .int x_s, .int x] H (fun r_ H' => r_ = some (.int (sp_place f0 s x)) ∧ H' = H) noX := by
  refine f_start (own := "SnowPassModel") (nm := "placeOf") (lv := [(0, .ref m), (1, .int x_s), (2, .int x)]) pn_X9 rfl rfl (Nat.le_of_ble_eq_true rfl) rfl (fun Z K X => ?_)
  have hp : sp_place f0 s x = sp_pl f0 s x w 0 := by rw [sp_place, hw, nI_clamp (by omega)]
  refine f_iconst (v := 0) K dX9_placeOf_0 rfl ?_
  refine f_istore_n (lv' := [(3, .int 0), (0, .ref m), (1, .int x_s), (2, .int x)]) K dX9_placeOf_1 (by decide) rfl ?_
  have loop : ∀ (d i : Nat) (x_i : Int32) (G : Heap), x_i = nI i → i + d = w → sp_pl f0 s x w 0 = sp_pl f0 s x d i → Go E Z 4 H (0) (0) 2 [(3, .int x_i), (0, .ref m), (1, .int x_s), (2, .int x)] [] := by
    intro d
    induction d with
    | zero =>
      intro i x_i G h_i hd hu
      refine f_iload_n K dX9_placeOf_2 rfl ?_
      refine f_aload_n K dX9_placeOf_3 rfl ?_
      refine f_get (v := .ref (ad 0)) K fl_X9_7_X9 dX9_placeOf_4 (tw_o ht) rfl ?_
      refine f_bipush (v := 125) K dX9_placeOf_7 rfl ?_
      refine f_iload_n K dX9_placeOf_9 rfl ?_
      refine f_iadd K dX9_placeOf_10 ?_
      refine f_iald (j := (125 + s)) K dX9_placeOf_11 (tw_a0 ht) (nia nl_125 h_s) (by omega) (by decide) ?_
      refine f_icmp_ge (tgt := 34) K dX9_placeOf_12 (by decide) (fun c_12 => ?_) (fun c_12 => ?_)
      · refine f_iconst (v := (-1)) K dX9_placeOf_34 rfl ?_
        exact f_retI K X (Or.inl rfl) dX9_placeOf_35 (Nat.le_of_ble_eq_true rfl) (Nat.le_of_ble_eq_true rfl) (⟨rI (by rw [hp, hu]; rfl), rfl⟩)
      · exact absurd (by rw [h_i, hw]; exact nI_le (by omega) (by omega)) c_12
    | succ d ih =>
      intro i x_i G h_i hd hu
      refine f_iload_n K dX9_placeOf_2 rfl ?_
      refine f_aload_n K dX9_placeOf_3 rfl ?_
      refine f_get (v := .ref (ad 0)) K fl_X9_7_X9 dX9_placeOf_4 (tw_o ht) rfl ?_
      refine f_bipush (v := 125) K dX9_placeOf_7 rfl ?_
      refine f_iload_n K dX9_placeOf_9 rfl ?_
      refine f_iadd K dX9_placeOf_10 ?_
      refine f_iald (j := (125 + s)) K dX9_placeOf_11 (tw_a0 ht) (nia nl_125 h_s) (by omega) (by decide) ?_
      refine f_icmp_ge (tgt := 34) K dX9_placeOf_12 (by decide) (fun c_12 => ?_) (fun c_12 => ?_)
      · exact absurd c_12 (by rw [h_i, hw]; exact nI_ge (by omega) (by omega))
      · refine f_aload_n K dX9_placeOf_15 rfl ?_
        refine f_iload_n K dX9_placeOf_16 rfl ?_
        refine f_iload_n K dX9_placeOf_17 rfl ?_
        refine f_iconst (v := 0) K dX9_placeOf_18 rfl ?_
        refine f_invV (As := [.int x_s, .int x_i, .int 0]) (rest := []) K (tm_cartAt (E := E) (s := s) (i := i) (w := 0) ht x_s h_s x_i h_i 0 nl_0 (by omega)) cs_X9_116 dX9_placeOf_19 (tw_o ht) rfl rfl rfl (Nat.le_of_ble_eq_true rfl) (Nat.le_of_ble_eq_true rfl) (Nat.le_of_ble_eq_true rfl) (Nat.le_of_ble_eq_true rfl) (fun v H3 hq hz => ?_) (fun _ _ _ h9 _ _ => h9.elim)
        obtain ⟨rfl, hq⟩ := hq
        rw [hq]
        change Go E Z 4 H (0) (0) 22 [(3, .int x_i), (0, .ref m), (1, .int x_s), (2, .int x)] [.int (f0 (127 + 2 * (10 * s + i)))]
        refine f_iload_n K dX9_placeOf_22 rfl ?_
        refine f_icmp_ne (tgt := 28) K dX9_placeOf_23 (by decide) (fun c_23 => ?_) (fun c_23 => ?_)
        · refine f_iinc (v := x_i + 1) (lv' := [(3, .int (x_i + 1)), (0, .ref m), (1, .int x_s), (2, .int x)]) K dX9_placeOf_28 rfl rfl (by decide) rfl ?_
          refine f_goto (tgt := 2) K dX9_placeOf_31 (by decide) ?_
          exact ih ((i + 1)) _ H (nia h_i nl_1) (by omega) (hu.trans (if_neg c_23))
        · refine f_iload_n K dX9_placeOf_26 rfl ?_
          exact f_retI K X (Or.inl rfl) dX9_placeOf_27 (Nat.le_of_ble_eq_true rfl) (Nat.le_of_ble_eq_true rfl) (⟨rI (by rw [hp, hu, show sp_pl f0 s x (d + 1) i = nI i from if_pos c_23]; exact h_i), rfl⟩)
  exact loop (w) 0 _ H nl_0 (by omega) rfl
/-- sideOf(I)I -/
theorem tm_sideOf {E : fE} {H : Heap} {m : Nat} {ad : Nat → Nat} {sc f0 f1 f2 f3 f4 fb ft fo : Row} (ht : twAt E H m ad sc f0 f1 f2 f3 f4 fb ft fo) (x : Int32) {n t : Nat} (ok : okr n t f0) : fM E yX9_sideOf prog_17_method_45_code 2 (some .int) 3 0 0 [.ref m, .int x] H (fun r_ H' => r_ = some (.int (sp_side f0 x)) ∧ H' = H) noX := by
  refine f_start (own := "SnowPassModel") (nm := "sideOf") (lv := [(0, .ref m), (1, .int x)]) pn_X9 rfl rfl (Nat.le_of_ble_eq_true rfl) rfl (fun Z K X => ?_)
  obtain ⟨w0, h0, e0⟩ := ok.w (s := 0) (by decide)
  obtain ⟨w1, h1, e1⟩ := ok.w (s := 1) (by decide)
  refine f_aload_n K dX9_sideOf_0 rfl ?_
  refine f_iconst (v := 0) K dX9_sideOf_1 rfl ?_
  refine f_iload_n K dX9_sideOf_2 rfl ?_
  refine f_invV (As := [.int 0, .int x]) (rest := []) K (tm_placeOf (E := E) (s := 0) ht 0 nl_0 x (by decide) e0 h0) cs_X9_158 dX9_sideOf_3 (tw_o ht) rfl rfl rfl (Nat.le_of_ble_eq_true rfl) (Nat.le_of_ble_eq_true rfl) (Nat.le_of_ble_eq_true rfl) (Nat.le_of_ble_eq_true rfl) (fun v H1 hq hz => ?_) (fun _ _ _ h9 _ _ => h9.elim)
  obtain ⟨rfl, hq⟩ := hq
  rw [hq]
  change Go E Z 2 H (0) (0) 6 [(0, .ref m), (1, .int x)] [.int (sp_place f0 0 x)]
  refine f_iconst (v := (-1)) K dX9_sideOf_6 rfl ?_
  refine f_icmp_eq (tgt := 14) K dX9_sideOf_7 (by decide) (fun c_7 => ?_) (fun c_7 => ?_)
  · refine f_aload_n K dX9_sideOf_14 rfl ?_
    refine f_iconst (v := 1) K dX9_sideOf_15 rfl ?_
    refine f_iload_n K dX9_sideOf_16 rfl ?_
    refine f_invV (As := [.int 1, .int x]) (rest := []) K (tm_placeOf (E := E) (s := 1) ht 1 nl_1 x (by decide) e1 h1) cs_X9_158 dX9_sideOf_17 (tw_o ht) rfl rfl rfl (Nat.le_of_ble_eq_true rfl) (Nat.le_of_ble_eq_true rfl) (Nat.le_of_ble_eq_true rfl) (Nat.le_of_ble_eq_true rfl) (fun v H3 hq hz => ?_) (fun _ _ _ h9 _ _ => h9.elim)
    obtain ⟨rfl, hq⟩ := hq
    rw [hq]
    change Go E Z 2 H (0) (0) 20 [(0, .ref m), (1, .int x)] [.int (sp_place f0 1 x)]
    refine f_iconst (v := (-1)) K dX9_sideOf_20 rfl ?_
    refine f_icmp_eq (tgt := 28) K dX9_sideOf_21 (by decide) (fun c_21 => ?_) (fun c_21 => ?_)
    · refine f_iconst (v := (-1)) K dX9_sideOf_28 rfl ?_
      exact f_retI K X (Or.inl rfl) dX9_sideOf_29 (Nat.le_of_ble_eq_true rfl) (Nat.le_of_ble_eq_true rfl) (⟨rI ((if_pos c_7).trans (if_pos c_21)).symm, rfl⟩)
    · refine f_iconst (v := 1) K dX9_sideOf_24 rfl ?_
      refine f_goto (tgt := 29) K dX9_sideOf_25 (by decide) ?_
      exact f_retI K X (Or.inl rfl) dX9_sideOf_29 (Nat.le_of_ble_eq_true rfl) (Nat.le_of_ble_eq_true rfl) (⟨rI ((if_pos c_7).trans (if_neg c_21)).symm, rfl⟩)
  · refine f_iconst (v := 0) K dX9_sideOf_10 rfl ?_
    refine f_goto (tgt := 29) K dX9_sideOf_11 (by decide) ?_
    exact f_retI K X (Or.inl rfl) dX9_sideOf_29 (Nat.le_of_ble_eq_true rfl) (Nat.le_of_ble_eq_true rfl) (⟨rI (if_neg c_7).symm, rfl⟩)
/-- waits(I)Z -/
theorem tm_waits {E : fE} {H : Heap} {m : Nat} {ad : Nat → Nat} {sc f0 f1 f2 f3 f4 fb ft fo : Row} (ht : twAt E H m ad sc f0 f1 f2 f3 f4 fb ft fo) (x : Int32) {n t : Nat} (ok : okr n t f0) : fM E yX9_waits prog_17_method_46_code 2 (some .boolean) 4 0 0 [.ref m, .int x] H (fun r_ H' => r_ = some (.int (bI (sp_waits f0 x))) ∧ H' = H) noX := by
  refine f_start (own := "SnowPassModel") (nm := "waits") (lv := [(0, .ref m), (1, .int x)]) pn_X9 rfl rfl (Nat.le_of_ble_eq_true rfl) rfl (fun Z K X => ?_)
  refine f_aload_n K dX9_waits_0 rfl ?_
  refine f_iload_n K dX9_waits_1 rfl ?_
  refine f_invV (As := [.int x]) (rest := []) K (tm_sideOf (E := E)  ht x ok) cs_X9_161 dX9_waits_2 (tw_o ht) rfl rfl rfl (Nat.le_of_ble_eq_true rfl) (Nat.le_of_ble_eq_true rfl) (Nat.le_of_ble_eq_true rfl) (Nat.le_of_ble_eq_true rfl) (fun v H1 hq hz => ?_) (fun _ _ _ h9 _ _ => h9.elim)
  obtain ⟨rfl, hq⟩ := hq
  rw [hq]
  change Go E Z 2 H (0) (0) 5 [(0, .ref m), (1, .int x)] [.int (sp_side f0 x)]
  refine f_iconst (v := (-1)) K dX9_waits_5 rfl ?_
  refine f_icmp_eq (tgt := 13) K dX9_waits_6 (by decide) (fun c_6 => ?_) (fun c_6 => ?_)
  · refine f_iconst (v := 0) K dX9_waits_13 rfl ?_
    exact f_retI K X (Or.inr ⟨rfl, Or.inl rfl⟩) dX9_waits_14 (Nat.le_of_ble_eq_true rfl) (Nat.le_of_ble_eq_true rfl) (⟨rI0 (fun z => z c_6), rfl⟩)
  · refine f_iconst (v := 1) K dX9_waits_9 rfl ?_
    refine f_goto (tgt := 14) K dX9_waits_10 (by decide) ?_
    exact f_retI K X (Or.inr ⟨rfl, Or.inr rfl⟩) dX9_waits_14 (Nat.le_of_ble_eq_true rfl) (Nat.le_of_ble_eq_true rfl) (⟨rI1 c_6, rfl⟩)
/-- cancelNow(I)Z -/
theorem tm_cancelNow {E : fE} {H : Heap} {m : Nat} {ad : Nat → Nat} {sc f0 f1 f2 f3 f4 fb ft fo : Row} (ht : twAt E H m ad sc f0 f1 f2 f3 f4 fb ft fo) (x : Int32) {n t : Nat} (ok : okr n t f0) : fM E yX9_cancelNow prog_17_method_47_code 3 (some .boolean) 4 0 0 [.ref m, .int x] H (fun r_ H' => r_ = some (.int (bI (sp_waits f0 x))) ∧ twAt E H' m ad (if sp_waits f0 x then upd sc 8 (sp_cancel f0 x (125 + (sp_side f0 x).toNatClampNeg)) else sc) (if sp_waits f0 x then sp_cancel f0 x else f0) f1 f2 f3 f4 fb ft fo ∧ twK m ad H H') noX := by
  refine f_start (own := "SnowPassModel") (nm := "cancelNow") (lv := [(0, .ref m), (1, .int x)]) pn_X9 rfl rfl (Nat.le_of_ble_eq_true rfl) rfl (fun Z K X => ?_)
  have hk := twK.rf (m := m) (ad := ad) (H := H)
  refine f_aload_n K dX9_cancelNow_0 rfl ?_
  refine f_iload_n K dX9_cancelNow_1 rfl ?_
  refine f_invV (As := [.int x]) (rest := []) K (tm_sideOf (E := E)  ht x ok) cs_X9_161 dX9_cancelNow_2 (tw_o ht) rfl rfl rfl (Nat.le_of_ble_eq_true rfl) (Nat.le_of_ble_eq_true rfl) (Nat.le_of_ble_eq_true rfl) (Nat.le_of_ble_eq_true rfl) (fun v H1 hq hz => ?_) (fun _ _ _ h9 _ _ => h9.elim)
  obtain ⟨rfl, hq⟩ := hq
  rw [hq]
  change Go E Z 3 H (0) (0) 5 [(0, .ref m), (1, .int x)] [.int (sp_side f0 x)]
  refine f_istore_n (lv' := [(2, .int (sp_side f0 x)), (0, .ref m), (1, .int x)]) K dX9_cancelNow_5 (by decide) rfl ?_
  refine f_iload_n K dX9_cancelNow_6 rfl ?_
  refine f_iconst (v := (-1)) K dX9_cancelNow_7 rfl ?_
  refine f_icmp_ne (tgt := 13) K dX9_cancelNow_8 (by decide) (fun c_8 => ?_) (fun c_8 => ?_)
  · obtain ⟨s, w, j, hs, es, hw, hw2, hj, ep, -⟩ := sp_waits_in ok c_8
    refine f_aload_n K dX9_cancelNow_13 rfl ?_
    refine f_iload_n K dX9_cancelNow_14 rfl ?_
    refine f_aload_n K dX9_cancelNow_15 rfl ?_
    refine f_iload_n K dX9_cancelNow_16 rfl ?_
    refine f_iload_n K dX9_cancelNow_17 rfl ?_
    refine f_invV (As := [.int (sp_side f0 x), .int x]) (rest := [.int (sp_side f0 x), .ref m]) K (tm_placeOf (E := E) (s := s) ht (sp_side f0 x) es x hs hw hw2) cs_X9_158 dX9_cancelNow_18 (tw_o ht) rfl rfl rfl (Nat.le_of_ble_eq_true rfl) (Nat.le_of_ble_eq_true rfl) (Nat.le_of_ble_eq_true rfl) (Nat.le_of_ble_eq_true rfl) (fun v H3 hq hz => ?_) (fun _ _ _ h9 _ _ => h9.elim)
    obtain ⟨rfl, hq⟩ := hq
    rw [hq]
    change Go E Z 3 H (0) (0) 21 [(2, .int (sp_side f0 x)), (0, .ref m), (1, .int x)] [.int (sp_place f0 s x), .int (sp_side f0 x), .ref m]
    refine f_invV (As := [.int (sp_side f0 x), .int (sp_place f0 s x)]) (rest := []) K (tm_cartGoes (E := E) (s := s) (i := j) ht (sp_side f0 x) es (sp_place f0 s x) ep hs hw hw2 hj) cs_X9_127 dX9_cancelNow_21 (tw_o ht) rfl rfl rfl (Nat.le_of_ble_eq_true rfl) (Nat.le_of_ble_eq_true rfl) (Nat.le_of_ble_eq_true rfl) (Nat.le_of_ble_eq_true rfl) (fun v H4 hq hz => ?_) (fun _ _ _ h9 _ _ => h9.elim)
    obtain ⟨rfl, ht, hk1⟩ := hq
    have hk := hk.tr hk1
    have ht : twAt E H4 m ad sc (sp_goes f0 s j) f1 f2 f3 f4 fb ft fo := ht
    change Go E Z 3 H4 (0) (0) 24 [(2, .int (sp_side f0 x)), (0, .ref m), (1, .int x)] []
    refine f_aload_n K dX9_cancelNow_24 rfl ?_
    refine f_get (v := .ref (ad 0)) K fl_X9_7_X9 dX9_cancelNow_25 (tw_o ht) rfl ?_
    refine f_bipush (v := 13) K dX9_cancelNow_28 rfl ?_
    refine f_dup2 K dX9_cancelNow_30 rfl rfl ?_
    refine f_iald (j := 13) K dX9_cancelNow_31 (tw_a0 ht) nl_13 (by decide) (by decide) ?_
    refine f_iconst (v := 1) K dX9_cancelNow_32 rfl ?_
    refine f_iadd K dX9_cancelNow_33 ?_
    refine f_iast (j := 13) K dX9_cancelNow_34 (tw_a0 ht) nl_13 (by decide) (by decide) (tw_lo0 ht) (fun H6 hU ho => ?_)
    have hk := hk.st (j := 0) (by decide) hU
    have ht := tw_st0 ht hU ho
    refine f_aload_n K dX9_cancelNow_35 rfl ?_
    refine f_aload_n K dX9_cancelNow_36 rfl ?_
    refine f_get (v := .ref (ad 0)) K fl_X9_7_X9 dX9_cancelNow_37 (tw_o ht) rfl ?_
    refine f_bipush (v := 125) K dX9_cancelNow_40 rfl ?_
    refine f_iload_n K dX9_cancelNow_42 rfl ?_
    refine f_iadd K dX9_cancelNow_43 ?_
    refine f_iald (j := (125 + s)) K dX9_cancelNow_44 (tw_a0 ht) (nia nl_125 es) (by omega) (by decide) ?_
    refine f_put K fp_X9_155_X9 dX9_cancelNow_45 (tw_o ht) (tw_lo ht) (Nat.le_of_ble_eq_true rfl) rfl rfl (fun H7 hU ho => ?_)
    have ht := tw_put (sc' := (upd sc 8 ((upd (sp_goes f0 s j) 13 (((sp_goes f0 s j) 13) + 1)) (125 + s)))) ht hU ho rfl
    have hk := hk.put hU
    refine f_iconst (v := 1) K dX9_cancelNow_48 rfl ?_
    exact f_retI K X (Or.inr ⟨rfl, Or.inr rfl⟩) dX9_cancelNow_49 (Nat.le_of_ble_eq_true rfl) (Nat.le_of_ble_eq_true rfl) (⟨rI1 c_8, by rw [if_pos c_8, if_pos c_8, es, nI_clamp (by omega), sp_cancel, sp_cancel1, es, nI_clamp (by omega), ep, nI_clamp (by omega)]; exact ht, hk⟩)
  · refine f_iconst (v := 0) K dX9_cancelNow_11 rfl ?_
    exact f_retI K X (Or.inr ⟨rfl, Or.inl rfl⟩) dX9_cancelNow_12 (Nat.le_of_ble_eq_true rfl) (Nat.le_of_ble_eq_true rfl) (⟨rI0 (fun z => z c_8), by rw [if_neg (fun z => z c_8), if_neg (fun z => z c_8)]; exact ht, hk⟩)
theorem upd_upd {f : Row} {a : Nat} {x y : Int32} : upd (upd f a x) a y = upd f a y := by
  funext j
  simp only [upd]
  split <;> rfl
/-- the rows of the past, one more kept -/
def kp_n (b : Nat) : Nat := if b = 8 then 8 else b + 1
def kp_f (g f4 : Row) (b : Nat) : Row := if b = 8 then va_cpy g (shf f4 0 1169 167) 0 (167 * 7) 167 else va_cpy g f4 0 (167 * b) 167
/-- keeps([I)V -/
theorem tm_keeps_0 {E : fE} {H : Heap} {m : Nat} {ad : Nat → Nat} {sc f0 f1 f2 f3 f4 fb ft fo : Row} (ht : twAt E H m ad sc f0 f1 f2 f3 f4 fb ft fo)  {b : Nat} (hm : sc 5 = nI b) (hm2 : b ≤ 8) : fM E yX9_keeps prog_17_method_77_code 3 none 2 0 0 [.ref m, .ref (ad 0)] H (fun r_ H' => r_ = none ∧ twAt E H' m ad (upd sc 5 (nI (kp_n b))) f0 f1 f2 f3 (kp_f f0 f4 b) fb ft fo ∧ twK m ad H H') noX := by
  refine f_start (own := "SnowPassModel") (nm := "keeps") (lv := [(0, .ref m), (1, .ref (ad 0))]) pn_X9 rfl rfl (Nat.le_of_ble_eq_true rfl) rfl (fun Z K X => ?_)
  have hk := twK.rf (m := m) (ad := ad) (H := H)
  refine f_aload_n K dX9_keeps_0 rfl ?_
  refine f_get (v := .int (sc 5)) K fl_X9_269_X9 dX9_keeps_1 (tw_o ht) rfl ?_
  refine f_bipush (v := 8) K dX9_keeps_4 rfl ?_
  refine f_icmp_ne (tgt := 50) K dX9_keeps_6 (by decide) (fun c_6 => ?_) (fun c_6 => ?_)
  · have hb7 : b ≤ 7 := by
      by_cases e : b = 8
      · exact absurd (by rw [hm, e]; rfl) c_6
      · omega
    refine f_aload_n K dX9_keeps_50 rfl ?_
    refine f_iconst (v := 0) K dX9_keeps_51 rfl ?_
    refine f_aload_n K dX9_keeps_52 rfl ?_
    refine f_get (v := .ref (ad 4)) K fl_X9_22_X9 dX9_keeps_53 (tw_o ht) rfl ?_
    refine f_sipush (v := 167) K dX9_keeps_56 rfl ?_
    refine f_aload_n K dX9_keeps_59 rfl ?_
    refine f_get (v := .int (sc 5)) K fl_X9_269_X9 dX9_keeps_60 (tw_o ht) rfl ?_
    refine f_imul K dX9_keeps_63 ?_
    refine f_invS (As := [.ref (ad 0), .int 0, .ref (ad 4), .int (167 * (sc 5))]) (rest := []) K (tm_copies (E := E) (a := 0) (b := (167 * b)) 0 (167 * (sc 5)) nl_0 (nim nl_167 hm) (tw_a0 ht) (tw_a4 ht) (fun e9 => absurd ((tw_D ht).1 0 (by decide) 4 (by decide) e9) (by decide)) (tw_lo4 ht) (by omega) (by omega) (by omega) (by omega)) cs_X9_58 dX9_keeps_64 rfl rfl (Nat.le_of_ble_eq_true rfl) (Nat.le_of_ble_eq_true rfl) (Nat.le_of_ble_eq_true rfl) (Nat.le_of_ble_eq_true rfl) (fun v H2 hq hz => ?_) (fun _ _ _ h9 _ _ => h9.elim)
    obtain ⟨rfl, hU, ho⟩ := hq
    have hk := hk.st (j := 4) (by decide) hU
    have ht := tw_st4 ht hU ho
    change Go E Z 3 H2 (0) (0) 67 [(0, .ref m), (1, .ref (ad 0))] []
    refine f_aload_n K dX9_keeps_67 rfl ?_
    refine f_dup K dX9_keeps_68 rfl ?_
    refine f_get (v := .int (sc 5)) K fl_X9_269_X9 dX9_keeps_69 (tw_o ht) rfl ?_
    refine f_iconst (v := 1) K dX9_keeps_72 rfl ?_
    refine f_iadd K dX9_keeps_73 ?_
    refine f_put K fp_X9_269_X9 dX9_keeps_74 (tw_o ht) (tw_lo ht) (Nat.le_of_ble_eq_true rfl) rfl rfl (fun H3 hU ho => ?_)
    have ht := tw_put (sc' := (upd sc 5 ((sc 5) + 1))) ht hU ho rfl
    have hk := hk.put hU
    exact f_retV K X rfl dX9_keeps_77 (Nat.le_of_ble_eq_true rfl) (Nat.le_of_ble_eq_true rfl) (⟨rfl, by rw [show kp_n b = b + 1 from if_neg (by omega), kp_f, if_neg (by omega), ← nI_1, ← hm]; exact ht, hk⟩)
  · refine f_iconst (v := 0) K dX9_keeps_9 rfl ?_
    refine f_istore_n (lv' := [(2, .int 0), (0, .ref m), (1, .ref (ad 0))]) K dX9_keeps_10 (by decide) rfl ?_
    have loop : ∀ (d i : Nat) (x_i : Int32) (G : Heap), x_i = nI i → i + d = 1169 → twAt E G m ad sc f0 f1 f2 f3 (shf f4 0 i 167) fb ft fo → twK m ad H G → Go E Z 3 G (0) (0) 11 [(2, .int x_i), (0, .ref m), (1, .ref (ad 0))] [] := by
      intro d
      induction d with
      | zero =>
        intro i x_i G h_i hd ht hk
        have hiu : i = 1169 := by omega
        rw [hiu] at ht
        refine f_iload_n K dX9_keeps_11 rfl ?_
        refine f_sipush (v := 1169) K dX9_keeps_12 rfl ?_
        refine f_icmp_ge (tgt := 40) K dX9_keeps_15 (by decide) (fun c_15 => ?_) (fun c_15 => ?_)
        · refine f_aload_n K dX9_keeps_40 rfl ?_
          refine f_dup K dX9_keeps_41 rfl ?_
          refine f_get (v := .int (sc 5)) K fl_X9_269_X9 dX9_keeps_42 (tw_o ht) rfl ?_
          refine f_iconst (v := 1) K dX9_keeps_45 rfl ?_
          refine f_isub K dX9_keeps_46 ?_
          refine f_put K fp_X9_269_X9 dX9_keeps_47 (tw_o ht) (tw_lo ht) (Nat.le_of_ble_eq_true rfl) rfl rfl (fun H5 hU ho => ?_)
          have ht := tw_put (sc' := (upd sc 5 ((sc 5) - 1))) ht hU ho rfl
          have hk := hk.put hU
          refine f_aload_n K dX9_keeps_50 rfl ?_
          refine f_iconst (v := 0) K dX9_keeps_51 rfl ?_
          refine f_aload_n K dX9_keeps_52 rfl ?_
          refine f_get (v := .ref (ad 4)) K fl_X9_22_X9 dX9_keeps_53 (tw_o ht) rfl ?_
          refine f_sipush (v := 167) K dX9_keeps_56 rfl ?_
          refine f_aload_n K dX9_keeps_59 rfl ?_
          refine f_get (v := .int ((sc 5) - 1)) K fl_X9_269_X9 dX9_keeps_60 (tw_o ht) rfl ?_
          refine f_imul K dX9_keeps_63 ?_
          refine f_invS (As := [.ref (ad 0), .int 0, .ref (ad 4), .int (167 * ((sc 5) - 1))]) (rest := []) K (tm_copies (E := E) (a := 0) (b := (167 * 7)) 0 (167 * ((sc 5) - 1)) nl_0 (nim nl_167 (show sc 5 - 1 = nI 7 by rw [c_6]; rfl)) (tw_a0 ht) (tw_a4 ht) (fun e9 => absurd ((tw_D ht).1 0 (by decide) 4 (by decide) e9) (by decide)) (tw_lo4 ht) (by omega) (by omega) (by omega) (by omega)) cs_X9_58 dX9_keeps_64 rfl rfl (Nat.le_of_ble_eq_true rfl) (Nat.le_of_ble_eq_true rfl) (Nat.le_of_ble_eq_true rfl) (Nat.le_of_ble_eq_true rfl) (fun v H6 hq hz => ?_) (fun _ _ _ h9 _ _ => h9.elim)
          obtain ⟨rfl, hU, ho⟩ := hq
          have hk := hk.st (j := 4) (by decide) hU
          have ht := tw_st4 ht hU ho
          change Go E Z 3 H6 (0) (0) 67 [(2, .int x_i), (0, .ref m), (1, .ref (ad 0))] []
          refine f_aload_n K dX9_keeps_67 rfl ?_
          refine f_dup K dX9_keeps_68 rfl ?_
          refine f_get (v := .int ((sc 5) - 1)) K fl_X9_269_X9 dX9_keeps_69 (tw_o ht) rfl ?_
          refine f_iconst (v := 1) K dX9_keeps_72 rfl ?_
          refine f_iadd K dX9_keeps_73 ?_
          refine f_put K fp_X9_269_X9 dX9_keeps_74 (tw_o ht) (tw_lo ht) (Nat.le_of_ble_eq_true rfl) rfl rfl (fun H7 hU ho => ?_)
          have ht := tw_put (sc' := (upd (upd sc 5 ((sc 5) - 1)) 5 (((sc 5) - 1) + 1))) ht hU ho rfl
          have hk := hk.put hU
          exact f_retV K X rfl dX9_keeps_77 (Nat.le_of_ble_eq_true rfl) (Nat.le_of_ble_eq_true rfl) (⟨rfl, by obtain rfl : b = 8 := (nI_eq (by omega) (by decide)).mp (hm.symm.trans c_6); rw [show nI (kp_n 8) = sc 5 - 1 + 1 by rw [c_6]; rfl, kp_f, if_pos rfl, ← upd_upd (f := sc) (x := sc 5 - 1)]; exact ht, hk⟩)
        · exact absurd (by rw [h_i]; exact nI_le (a := 1169) (b := i) (by omega) (by omega)) c_15
      | succ d ih =>
        intro i x_i G h_i hd ht hk
        refine f_iload_n K dX9_keeps_11 rfl ?_
        refine f_sipush (v := 1169) K dX9_keeps_12 rfl ?_
        refine f_icmp_ge (tgt := 40) K dX9_keeps_15 (by decide) (fun c_15 => ?_) (fun c_15 => ?_)
        · exact absurd c_15 (by rw [h_i]; exact nI_ge (a := i) (b := 1169) (by omega) (by decide))
        · refine f_aload_n K dX9_keeps_18 rfl ?_
          refine f_get (v := .ref (ad 4)) K fl_X9_22_X9 dX9_keeps_19 (tw_o ht) rfl ?_
          refine f_iload_n K dX9_keeps_22 rfl ?_
          refine f_aload_n K dX9_keeps_23 rfl ?_
          refine f_get (v := .ref (ad 4)) K fl_X9_22_X9 dX9_keeps_24 (tw_o ht) rfl ?_
          refine f_iload_n K dX9_keeps_27 rfl ?_
          refine f_sipush (v := 167) K dX9_keeps_28 rfl ?_
          refine f_iadd K dX9_keeps_31 ?_
          refine f_iald (j := (i + 167)) K dX9_keeps_32 (tw_a4 ht) (nia h_i nl_167) (by omega) (by decide) ?_
          refine f_iast (j := i) K dX9_keeps_33 (tw_a4 ht) h_i (by omega) (by decide) (tw_lo4 ht) (fun H9 hU ho => ?_)
          have hk := hk.st (j := 4) (by decide) hU
          have ht := tw_st4 ht hU ho
          refine f_iinc (v := x_i + 1) (lv' := [(2, .int (x_i + 1)), (0, .ref m), (1, .ref (ad 0))]) K dX9_keeps_34 rfl rfl (by decide) rfl ?_
          refine f_goto (tgt := 11) K dX9_keeps_37 (by decide) ?_
          rw [shf_s (by omega)] at ht
          exact ih ((i + 1)) _ _ (nia h_i nl_1) (by omega) ht hk
    exact loop (1169 - 0) 0 _ _ nl_0 (by omega) (by rw [shf_0]; exact ht) hk
/-- keeps([I)V -/
theorem tm_keeps_2 {E : fE} {H : Heap} {m : Nat} {ad : Nat → Nat} {sc f0 f1 f2 f3 f4 fb ft fo : Row} (ht : twAt E H m ad sc f0 f1 f2 f3 f4 fb ft fo)  {b : Nat} (hm : sc 5 = nI b) (hm2 : b ≤ 8) : fM E yX9_keeps prog_17_method_77_code 3 none 2 0 0 [.ref m, .ref (ad 2)] H (fun r_ H' => r_ = none ∧ twAt E H' m ad (upd sc 5 (nI (kp_n b))) f0 f1 f2 f3 (kp_f f2 f4 b) fb ft fo ∧ twK m ad H H') noX := by
  refine f_start (own := "SnowPassModel") (nm := "keeps") (lv := [(0, .ref m), (1, .ref (ad 2))]) pn_X9 rfl rfl (Nat.le_of_ble_eq_true rfl) rfl (fun Z K X => ?_)
  have hk := twK.rf (m := m) (ad := ad) (H := H)
  refine f_aload_n K dX9_keeps_0 rfl ?_
  refine f_get (v := .int (sc 5)) K fl_X9_269_X9 dX9_keeps_1 (tw_o ht) rfl ?_
  refine f_bipush (v := 8) K dX9_keeps_4 rfl ?_
  refine f_icmp_ne (tgt := 50) K dX9_keeps_6 (by decide) (fun c_6 => ?_) (fun c_6 => ?_)
  · have hb7 : b ≤ 7 := by
      by_cases e : b = 8
      · exact absurd (by rw [hm, e]; rfl) c_6
      · omega
    refine f_aload_n K dX9_keeps_50 rfl ?_
    refine f_iconst (v := 0) K dX9_keeps_51 rfl ?_
    refine f_aload_n K dX9_keeps_52 rfl ?_
    refine f_get (v := .ref (ad 4)) K fl_X9_22_X9 dX9_keeps_53 (tw_o ht) rfl ?_
    refine f_sipush (v := 167) K dX9_keeps_56 rfl ?_
    refine f_aload_n K dX9_keeps_59 rfl ?_
    refine f_get (v := .int (sc 5)) K fl_X9_269_X9 dX9_keeps_60 (tw_o ht) rfl ?_
    refine f_imul K dX9_keeps_63 ?_
    refine f_invS (As := [.ref (ad 2), .int 0, .ref (ad 4), .int (167 * (sc 5))]) (rest := []) K (tm_copies (E := E) (a := 0) (b := (167 * b)) 0 (167 * (sc 5)) nl_0 (nim nl_167 hm) (tw_a2 ht) (tw_a4 ht) (fun e9 => absurd ((tw_D ht).1 2 (by decide) 4 (by decide) e9) (by decide)) (tw_lo4 ht) (by omega) (by omega) (by omega) (by omega)) cs_X9_58 dX9_keeps_64 rfl rfl (Nat.le_of_ble_eq_true rfl) (Nat.le_of_ble_eq_true rfl) (Nat.le_of_ble_eq_true rfl) (Nat.le_of_ble_eq_true rfl) (fun v H2 hq hz => ?_) (fun _ _ _ h9 _ _ => h9.elim)
    obtain ⟨rfl, hU, ho⟩ := hq
    have hk := hk.st (j := 4) (by decide) hU
    have ht := tw_st4 ht hU ho
    change Go E Z 3 H2 (0) (0) 67 [(0, .ref m), (1, .ref (ad 2))] []
    refine f_aload_n K dX9_keeps_67 rfl ?_
    refine f_dup K dX9_keeps_68 rfl ?_
    refine f_get (v := .int (sc 5)) K fl_X9_269_X9 dX9_keeps_69 (tw_o ht) rfl ?_
    refine f_iconst (v := 1) K dX9_keeps_72 rfl ?_
    refine f_iadd K dX9_keeps_73 ?_
    refine f_put K fp_X9_269_X9 dX9_keeps_74 (tw_o ht) (tw_lo ht) (Nat.le_of_ble_eq_true rfl) rfl rfl (fun H3 hU ho => ?_)
    have ht := tw_put (sc' := (upd sc 5 ((sc 5) + 1))) ht hU ho rfl
    have hk := hk.put hU
    exact f_retV K X rfl dX9_keeps_77 (Nat.le_of_ble_eq_true rfl) (Nat.le_of_ble_eq_true rfl) (⟨rfl, by rw [show kp_n b = b + 1 from if_neg (by omega), kp_f, if_neg (by omega), ← nI_1, ← hm]; exact ht, hk⟩)
  · refine f_iconst (v := 0) K dX9_keeps_9 rfl ?_
    refine f_istore_n (lv' := [(2, .int 0), (0, .ref m), (1, .ref (ad 2))]) K dX9_keeps_10 (by decide) rfl ?_
    have loop : ∀ (d i : Nat) (x_i : Int32) (G : Heap), x_i = nI i → i + d = 1169 → twAt E G m ad sc f0 f1 f2 f3 (shf f4 0 i 167) fb ft fo → twK m ad H G → Go E Z 3 G (0) (0) 11 [(2, .int x_i), (0, .ref m), (1, .ref (ad 2))] [] := by
      intro d
      induction d with
      | zero =>
        intro i x_i G h_i hd ht hk
        have hiu : i = 1169 := by omega
        rw [hiu] at ht
        refine f_iload_n K dX9_keeps_11 rfl ?_
        refine f_sipush (v := 1169) K dX9_keeps_12 rfl ?_
        refine f_icmp_ge (tgt := 40) K dX9_keeps_15 (by decide) (fun c_15 => ?_) (fun c_15 => ?_)
        · refine f_aload_n K dX9_keeps_40 rfl ?_
          refine f_dup K dX9_keeps_41 rfl ?_
          refine f_get (v := .int (sc 5)) K fl_X9_269_X9 dX9_keeps_42 (tw_o ht) rfl ?_
          refine f_iconst (v := 1) K dX9_keeps_45 rfl ?_
          refine f_isub K dX9_keeps_46 ?_
          refine f_put K fp_X9_269_X9 dX9_keeps_47 (tw_o ht) (tw_lo ht) (Nat.le_of_ble_eq_true rfl) rfl rfl (fun H5 hU ho => ?_)
          have ht := tw_put (sc' := (upd sc 5 ((sc 5) - 1))) ht hU ho rfl
          have hk := hk.put hU
          refine f_aload_n K dX9_keeps_50 rfl ?_
          refine f_iconst (v := 0) K dX9_keeps_51 rfl ?_
          refine f_aload_n K dX9_keeps_52 rfl ?_
          refine f_get (v := .ref (ad 4)) K fl_X9_22_X9 dX9_keeps_53 (tw_o ht) rfl ?_
          refine f_sipush (v := 167) K dX9_keeps_56 rfl ?_
          refine f_aload_n K dX9_keeps_59 rfl ?_
          refine f_get (v := .int ((sc 5) - 1)) K fl_X9_269_X9 dX9_keeps_60 (tw_o ht) rfl ?_
          refine f_imul K dX9_keeps_63 ?_
          refine f_invS (As := [.ref (ad 2), .int 0, .ref (ad 4), .int (167 * ((sc 5) - 1))]) (rest := []) K (tm_copies (E := E) (a := 0) (b := (167 * 7)) 0 (167 * ((sc 5) - 1)) nl_0 (nim nl_167 (show sc 5 - 1 = nI 7 by rw [c_6]; rfl)) (tw_a2 ht) (tw_a4 ht) (fun e9 => absurd ((tw_D ht).1 2 (by decide) 4 (by decide) e9) (by decide)) (tw_lo4 ht) (by omega) (by omega) (by omega) (by omega)) cs_X9_58 dX9_keeps_64 rfl rfl (Nat.le_of_ble_eq_true rfl) (Nat.le_of_ble_eq_true rfl) (Nat.le_of_ble_eq_true rfl) (Nat.le_of_ble_eq_true rfl) (fun v H6 hq hz => ?_) (fun _ _ _ h9 _ _ => h9.elim)
          obtain ⟨rfl, hU, ho⟩ := hq
          have hk := hk.st (j := 4) (by decide) hU
          have ht := tw_st4 ht hU ho
          change Go E Z 3 H6 (0) (0) 67 [(2, .int x_i), (0, .ref m), (1, .ref (ad 2))] []
          refine f_aload_n K dX9_keeps_67 rfl ?_
          refine f_dup K dX9_keeps_68 rfl ?_
          refine f_get (v := .int ((sc 5) - 1)) K fl_X9_269_X9 dX9_keeps_69 (tw_o ht) rfl ?_
          refine f_iconst (v := 1) K dX9_keeps_72 rfl ?_
          refine f_iadd K dX9_keeps_73 ?_
          refine f_put K fp_X9_269_X9 dX9_keeps_74 (tw_o ht) (tw_lo ht) (Nat.le_of_ble_eq_true rfl) rfl rfl (fun H7 hU ho => ?_)
          have ht := tw_put (sc' := (upd (upd sc 5 ((sc 5) - 1)) 5 (((sc 5) - 1) + 1))) ht hU ho rfl
          have hk := hk.put hU
          exact f_retV K X rfl dX9_keeps_77 (Nat.le_of_ble_eq_true rfl) (Nat.le_of_ble_eq_true rfl) (⟨rfl, by obtain rfl : b = 8 := (nI_eq (by omega) (by decide)).mp (hm.symm.trans c_6); rw [show nI (kp_n 8) = sc 5 - 1 + 1 by rw [c_6]; rfl, kp_f, if_pos rfl, ← upd_upd (f := sc) (x := sc 5 - 1)]; exact ht, hk⟩)
        · exact absurd (by rw [h_i]; exact nI_le (a := 1169) (b := i) (by omega) (by omega)) c_15
      | succ d ih =>
        intro i x_i G h_i hd ht hk
        refine f_iload_n K dX9_keeps_11 rfl ?_
        refine f_sipush (v := 1169) K dX9_keeps_12 rfl ?_
        refine f_icmp_ge (tgt := 40) K dX9_keeps_15 (by decide) (fun c_15 => ?_) (fun c_15 => ?_)
        · exact absurd c_15 (by rw [h_i]; exact nI_ge (a := i) (b := 1169) (by omega) (by decide))
        · refine f_aload_n K dX9_keeps_18 rfl ?_
          refine f_get (v := .ref (ad 4)) K fl_X9_22_X9 dX9_keeps_19 (tw_o ht) rfl ?_
          refine f_iload_n K dX9_keeps_22 rfl ?_
          refine f_aload_n K dX9_keeps_23 rfl ?_
          refine f_get (v := .ref (ad 4)) K fl_X9_22_X9 dX9_keeps_24 (tw_o ht) rfl ?_
          refine f_iload_n K dX9_keeps_27 rfl ?_
          refine f_sipush (v := 167) K dX9_keeps_28 rfl ?_
          refine f_iadd K dX9_keeps_31 ?_
          refine f_iald (j := (i + 167)) K dX9_keeps_32 (tw_a4 ht) (nia h_i nl_167) (by omega) (by decide) ?_
          refine f_iast (j := i) K dX9_keeps_33 (tw_a4 ht) h_i (by omega) (by decide) (tw_lo4 ht) (fun H9 hU ho => ?_)
          have hk := hk.st (j := 4) (by decide) hU
          have ht := tw_st4 ht hU ho
          refine f_iinc (v := x_i + 1) (lv' := [(2, .int (x_i + 1)), (0, .ref m), (1, .ref (ad 2))]) K dX9_keeps_34 rfl rfl (by decide) rfl ?_
          refine f_goto (tgt := 11) K dX9_keeps_37 (by decide) ?_
          rw [shf_s (by omega)] at ht
          exact ih ((i + 1)) _ _ (nia h_i nl_1) (by omega) ht hk
    exact loop (1169 - 0) 0 _ _ nl_0 (by omega) (by rw [shf_0]; exact ht) hk
/-- tried(Z)Z -/
theorem tm_tried {E : fE} {H : Heap} {m : Nat} {ad : Nat → Nat} {sc f0 f1 f2 f3 f4 fb ft fo : Row} (ht : twAt E H m ad sc f0 f1 f2 f3 f4 fb ft fo) (P : Prop) [Decidable P]  : fM E yX9_tried prog_17_method_130_code 2 (some .boolean) 2 0 0 [.ref m, .int (bI P)] H (fun r_ H' => r_ = some (.int (bI P)) ∧ twAt E H' m ad sc f0 f1 (if P then f0 else f2) f3 f4 fb ft fo ∧ twK m ad H H') noX := by
  refine f_start (own := "SnowPassModel") (nm := "tried") (lv := [(0, .ref m), (1, .int (bI P))]) pn_X9 rfl rfl (Nat.le_of_ble_eq_true rfl) rfl (fun Z K X => ?_)
  have hk := twK.rf (m := m) (ad := ad) (H := H)
  refine f_iload_n K dX9_tried_0 rfl ?_
  refine f_if_eqB (tgt := 17) K dX9_tried_1 (by decide) (fun c_1 => ?_) (fun c_1 => ?_)
  · refine f_iload_n K dX9_tried_17 rfl ?_
    exact f_retI K X (Or.inr ⟨rfl, bI_01⟩) dX9_tried_18 (Nat.le_of_ble_eq_true rfl) (Nat.le_of_ble_eq_true rfl) (⟨rfl, by rw [if_neg c_1]; exact ht, hk⟩)
  · refine f_aload_n K dX9_tried_4 rfl ?_
    refine f_get (v := .ref (ad 0)) K fl_X9_7_X9 dX9_tried_5 (tw_o ht) rfl ?_
    refine f_iconst (v := 0) K dX9_tried_8 rfl ?_
    refine f_aload_n K dX9_tried_9 rfl ?_
    refine f_get (v := .ref (ad 2)) K fl_X9_16_X9 dX9_tried_10 (tw_o ht) rfl ?_
    refine f_iconst (v := 0) K dX9_tried_13 rfl ?_
    refine f_invS (As := [.ref (ad 0), .int 0, .ref (ad 2), .int 0]) (rest := []) K (tm_copies (E := E) (a := 0) (b := 0) 0 0 nl_0 nl_0 (tw_a0 ht) (tw_a2 ht) (fun e9 => absurd ((tw_D ht).1 0 (by decide) 2 (by decide) e9) (by decide)) (tw_lo2 ht) (by omega) (by omega) (by omega) (by omega)) cs_X9_58 dX9_tried_14 rfl rfl (Nat.le_of_ble_eq_true rfl) (Nat.le_of_ble_eq_true rfl) (Nat.le_of_ble_eq_true rfl) (Nat.le_of_ble_eq_true rfl) (fun v H2 hq hz => ?_) (fun _ _ _ h9 _ _ => h9.elim)
    obtain ⟨rfl, hU, ho⟩ := hq
    have hk := hk.st (j := 2) (by decide) hU
    have ho := aat_c (g := f0) ho (fun j hj => by simp only [va_cpy]; rw [if_pos (by omega)] <;> simp)
    have ht := tw_st2 ht hU ho
    change Go E Z 2 H2 (0) (0) 17 [(0, .ref m), (1, .int (bI P))] []
    refine f_iload_n K dX9_tried_17 rfl ?_
    exact f_retI K X (Or.inr ⟨rfl, bI_01⟩) dX9_tried_18 (Nat.le_of_ble_eq_true rfl) (Nat.le_of_ble_eq_true rfl) (⟨rfl, by rw [if_pos c_1]; exact ht, hk⟩)
/-- done(Z)I -/
theorem tm_done {E : fE} {H : Heap} {m : Nat} {ad : Nat → Nat} {sc f0 f1 f2 f3 f4 fb ft fo : Row} (ht : twAt E H m ad sc f0 f1 f2 f3 f4 fb ft fo) (P : Prop) [Decidable P] {b : Nat} (hm : sc 5 = nI b) (hm2 : b ≤ 8) : fM E yX9_done prog_17_method_131_code 2 (some .int) 3 0 0 [.ref m, .int (bI P)] H (fun r_ H' => r_ = some (.int (sc 8)) ∧ twAt E H' m ad (upd sc 5 (nI (kp_n b))) f0 f1 f2 f3 (kp_f f2 f4 b) fb ft fo ∧ twK m ad H H') noX := by
  refine f_start (own := "SnowPassModel") (nm := "done") (lv := [(0, .ref m), (1, .int (bI P))]) pn_X9 rfl rfl (Nat.le_of_ble_eq_true rfl) rfl (fun Z K X => ?_)
  have hk := twK.rf (m := m) (ad := ad) (H := H)
  refine f_aload_n K dX9_done_0 rfl ?_
  refine f_aload_n K dX9_done_1 rfl ?_
  refine f_get (v := .ref (ad 2)) K fl_X9_16_X9 dX9_done_2 (tw_o ht) rfl ?_
  refine f_invV (As := [.ref (ad 2)]) (rest := []) K (tm_keeps_2 (E := E)  ht hm hm2) cs_X9_322 dX9_done_5 (tw_o ht) rfl rfl rfl (Nat.le_of_ble_eq_true rfl) (Nat.le_of_ble_eq_true rfl) (Nat.le_of_ble_eq_true rfl) (Nat.le_of_ble_eq_true rfl) (fun v H1 hq hz => ?_) (fun _ _ _ h9 _ _ => h9.elim)
  obtain ⟨rfl, ht, hk1⟩ := hq
  have hk := hk.tr hk1
  have ht : twAt E H1 m ad (upd sc 5 (nI (kp_n b))) f0 f1 f2 f3 (kp_f f2 f4 b) fb ft fo := ht
  change Go E Z 2 H1 (0) (0) 8 [(0, .ref m), (1, .int (bI P))] []
  refine f_aload_n K dX9_done_8 rfl ?_
  refine f_get (v := .int (sc 8)) K fl_X9_155_X9 dX9_done_9 (tw_o ht) rfl ?_
  exact f_retI K X (Or.inl rfl) dX9_done_12 (Nat.le_of_ble_eq_true rfl) (Nat.le_of_ble_eq_true rfl) (⟨rI rfl, ht, hk⟩)
/-- tells(I)I -/
theorem tm_tells {E : fE} {H : Heap} {m : Nat} {ad : Nat → Nat} {sc f0 f1 f2 f3 f4 fb ft fo : Row} (ht : twAt E H m ad sc f0 f1 f2 f3 f4 fb ft fo) (x_c : Int32) {c : Nat} (h_c : x_c = nI c)  (hc : c < 167) : fM E yX9_tells prog_17_method_79_code 2 (some .int) 1 0 0 [.ref m, .int x_c] H (fun r_ H' => r_ = some (.int (f0 c)) ∧ twAt E H' m ad (upd sc 6 0) f0 f1 f2 f3 f4 fb ft fo ∧ twK m ad H H') noX := by
  refine f_start (own := "SnowPassModel") (nm := "tells") (lv := [(0, .ref m), (1, .int x_c)]) pn_X9 rfl rfl (Nat.le_of_ble_eq_true rfl) rfl (fun Z K X => ?_)
  have hk := twK.rf (m := m) (ad := ad) (H := H)
  refine f_aload_n K dX9_tells_0 rfl ?_
  refine f_iconst (v := 0) K dX9_tells_1 rfl ?_
  refine f_put K fp_X9_55_X9 dX9_tells_2 (tw_o ht) (tw_lo ht) (Nat.le_of_ble_eq_true rfl) rfl rfl (fun H1 hU ho => ?_)
  have ht := tw_put (sc' := (upd sc 6 0)) ht hU ho rfl
  have hk := hk.put hU
  refine f_aload_n K dX9_tells_5 rfl ?_
  refine f_get (v := .ref (ad 0)) K fl_X9_7_X9 dX9_tells_6 (tw_o ht) rfl ?_
  refine f_iload_n K dX9_tells_9 rfl ?_
  refine f_iald (j := c) K dX9_tells_10 (tw_a0 ht) h_c (by omega) (by decide) ?_
  exact f_retI K X (Or.inl rfl) dX9_tells_11 (Nat.le_of_ble_eq_true rfl) (Nat.le_of_ble_eq_true rfl) (⟨rfl, ht, hk⟩)
/-- segmentCount()I -/
theorem tm_segmentCount {E : fE} {H : Heap} {m : Nat} {ad : Nat → Nat} {sc f0 f1 f2 f3 f4 fb ft fo : Row} (ht : twAt E H m ad sc f0 f1 f2 f3 f4 fb ft fo)   : fM E yX9_segmentCount prog_17_method_80_code 1 (some .int) 2 0 0 [.ref m] H (fun r_ H' => r_ = some (.int (f0 0)) ∧ twAt E H' m ad (upd sc 6 0) f0 f1 f2 f3 f4 fb ft fo ∧ twK m ad H H') noX := by
  refine f_start (own := "SnowPassModel") (nm := "segmentCount") (lv := [(0, .ref m)]) pn_X9 rfl rfl (Nat.le_of_ble_eq_true rfl) rfl (fun Z K X => ?_)
  have hk := twK.rf (m := m) (ad := ad) (H := H)
  refine f_aload_n K dX9_segmentCount_0 rfl ?_
  refine f_iconst (v := 0) K dX9_segmentCount_1 rfl ?_
  refine f_invV (As := [.int 0]) (rest := []) K (tm_tells (E := E) (c := 0) ht 0 nl_0 (by omega)) cs_X9_329 dX9_segmentCount_2 (tw_o ht) rfl rfl rfl (Nat.le_of_ble_eq_true rfl) (Nat.le_of_ble_eq_true rfl) (Nat.le_of_ble_eq_true rfl) (Nat.le_of_ble_eq_true rfl) (fun v H1 hq hz => ?_) (fun _ _ _ h9 _ _ => h9.elim)
  obtain ⟨rfl, ht, hk1⟩ := hq
  have hk := hk.tr hk1
  have ht : twAt E H1 m ad (upd sc 6 0) f0 f1 f2 f3 f4 fb ft fo := ht
  change Go E Z 1 H1 (0) (0) 5 [(0, .ref m)] [.int (f0 0)]
  exact f_retI K X (Or.inl rfl) dX9_segmentCount_5 (Nat.le_of_ble_eq_true rfl) (Nat.le_of_ble_eq_true rfl) (⟨rfl, ht, hk⟩)
/-- summit()I -/
theorem tm_summit {E : fE} {H : Heap} {m : Nat} {ad : Nat → Nat} {sc f0 f1 f2 f3 f4 fb ft fo : Row} (ht : twAt E H m ad sc f0 f1 f2 f3 f4 fb ft fo)   : fM E yX9_summit prog_17_method_81_code 1 (some .int) 2 0 0 [.ref m] H (fun r_ H' => r_ = some (.int (f0 1)) ∧ twAt E H' m ad (upd sc 6 0) f0 f1 f2 f3 f4 fb ft fo ∧ twK m ad H H') noX := by
  refine f_start (own := "SnowPassModel") (nm := "summit") (lv := [(0, .ref m)]) pn_X9 rfl rfl (Nat.le_of_ble_eq_true rfl) rfl (fun Z K X => ?_)
  have hk := twK.rf (m := m) (ad := ad) (H := H)
  refine f_aload_n K dX9_summit_0 rfl ?_
  refine f_iconst (v := 1) K dX9_summit_1 rfl ?_
  refine f_invV (As := [.int 1]) (rest := []) K (tm_tells (E := E) (c := 1) ht 1 nl_1 (by omega)) cs_X9_329 dX9_summit_2 (tw_o ht) rfl rfl rfl (Nat.le_of_ble_eq_true rfl) (Nat.le_of_ble_eq_true rfl) (Nat.le_of_ble_eq_true rfl) (Nat.le_of_ble_eq_true rfl) (fun v H1 hq hz => ?_) (fun _ _ _ h9 _ _ => h9.elim)
  obtain ⟨rfl, ht, hk1⟩ := hq
  have hk := hk.tr hk1
  have ht : twAt E H1 m ad (upd sc 6 0) f0 f1 f2 f3 f4 fb ft fo := ht
  change Go E Z 1 H1 (0) (0) 5 [(0, .ref m)] [.int (f0 1)]
  exact f_retI K X (Or.inl rfl) dX9_summit_5 (Nat.le_of_ble_eq_true rfl) (Nat.le_of_ble_eq_true rfl) (⟨rfl, ht, hk⟩)
/-- clock()I -/
theorem tm_clock {E : fE} {H : Heap} {m : Nat} {ad : Nat → Nat} {sc f0 f1 f2 f3 f4 fb ft fo : Row} (ht : twAt E H m ad sc f0 f1 f2 f3 f4 fb ft fo)   : fM E yX9_clock prog_17_method_82_code 1 (some .int) 2 0 0 [.ref m] H (fun r_ H' => r_ = some (.int (f0 7)) ∧ twAt E H' m ad (upd sc 6 0) f0 f1 f2 f3 f4 fb ft fo ∧ twK m ad H H') noX := by
  refine f_start (own := "SnowPassModel") (nm := "clock") (lv := [(0, .ref m)]) pn_X9 rfl rfl (Nat.le_of_ble_eq_true rfl) rfl (fun Z K X => ?_)
  have hk := twK.rf (m := m) (ad := ad) (H := H)
  refine f_aload_n K dX9_clock_0 rfl ?_
  refine f_bipush (v := 7) K dX9_clock_1 rfl ?_
  refine f_invV (As := [.int 7]) (rest := []) K (tm_tells (E := E) (c := 7) ht 7 nl_7 (by omega)) cs_X9_329 dX9_clock_3 (tw_o ht) rfl rfl rfl (Nat.le_of_ble_eq_true rfl) (Nat.le_of_ble_eq_true rfl) (Nat.le_of_ble_eq_true rfl) (Nat.le_of_ble_eq_true rfl) (fun v H1 hq hz => ?_) (fun _ _ _ h9 _ _ => h9.elim)
  obtain ⟨rfl, ht, hk1⟩ := hq
  have hk := hk.tr hk1
  have ht : twAt E H1 m ad (upd sc 6 0) f0 f1 f2 f3 f4 fb ft fo := ht
  change Go E Z 1 H1 (0) (0) 6 [(0, .ref m)] [.int (f0 7)]
  exact f_retI K X (Or.inl rfl) dX9_clock_6 (Nat.le_of_ble_eq_true rfl) (Nat.le_of_ble_eq_true rfl) (⟨rfl, ht, hk⟩)
/-- snowfall()I -/
theorem tm_snowfall {E : fE} {H : Heap} {m : Nat} {ad : Nat → Nat} {sc f0 f1 f2 f3 f4 fb ft fo : Row} (ht : twAt E H m ad sc f0 f1 f2 f3 f4 fb ft fo)   : fM E yX9_snowfall prog_17_method_88_code 1 (some .int) 2 0 0 [.ref m] H (fun r_ H' => r_ = some (.int (f0 5)) ∧ twAt E H' m ad (upd sc 6 0) f0 f1 f2 f3 f4 fb ft fo ∧ twK m ad H H') noX := by
  refine f_start (own := "SnowPassModel") (nm := "snowfall") (lv := [(0, .ref m)]) pn_X9 rfl rfl (Nat.le_of_ble_eq_true rfl) rfl (fun Z K X => ?_)
  have hk := twK.rf (m := m) (ad := ad) (H := H)
  refine f_aload_n K dX9_snowfall_0 rfl ?_
  refine f_iconst (v := 5) K dX9_snowfall_1 rfl ?_
  refine f_invV (As := [.int 5]) (rest := []) K (tm_tells (E := E) (c := 5) ht 5 nl_5 (by omega)) cs_X9_329 dX9_snowfall_2 (tw_o ht) rfl rfl rfl (Nat.le_of_ble_eq_true rfl) (Nat.le_of_ble_eq_true rfl) (Nat.le_of_ble_eq_true rfl) (Nat.le_of_ble_eq_true rfl) (fun v H1 hq hz => ?_) (fun _ _ _ h9 _ _ => h9.elim)
  obtain ⟨rfl, ht, hk1⟩ := hq
  have hk := hk.tr hk1
  have ht : twAt E H1 m ad (upd sc 6 0) f0 f1 f2 f3 f4 fb ft fo := ht
  change Go E Z 1 H1 (0) (0) 5 [(0, .ref m)] [.int (f0 5)]
  exact f_retI K X (Or.inl rfl) dX9_snowfall_5 (Nat.le_of_ble_eq_true rfl) (Nat.le_of_ble_eq_true rfl) (⟨rfl, ht, hk⟩)
/-- wind()I -/
theorem tm_wind {E : fE} {H : Heap} {m : Nat} {ad : Nat → Nat} {sc f0 f1 f2 f3 f4 fb ft fo : Row} (ht : twAt E H m ad sc f0 f1 f2 f3 f4 fb ft fo)   : fM E yX9_wind prog_17_method_89_code 1 (some .int) 2 0 0 [.ref m] H (fun r_ H' => r_ = some (.int (f0 6)) ∧ twAt E H' m ad (upd sc 6 0) f0 f1 f2 f3 f4 fb ft fo ∧ twK m ad H H') noX := by
  refine f_start (own := "SnowPassModel") (nm := "wind") (lv := [(0, .ref m)]) pn_X9 rfl rfl (Nat.le_of_ble_eq_true rfl) rfl (fun Z K X => ?_)
  have hk := twK.rf (m := m) (ad := ad) (H := H)
  refine f_aload_n K dX9_wind_0 rfl ?_
  refine f_bipush (v := 6) K dX9_wind_1 rfl ?_
  refine f_invV (As := [.int 6]) (rest := []) K (tm_tells (E := E) (c := 6) ht 6 nl_6 (by omega)) cs_X9_329 dX9_wind_3 (tw_o ht) rfl rfl rfl (Nat.le_of_ble_eq_true rfl) (Nat.le_of_ble_eq_true rfl) (Nat.le_of_ble_eq_true rfl) (Nat.le_of_ble_eq_true rfl) (fun v H1 hq hz => ?_) (fun _ _ _ h9 _ _ => h9.elim)
  obtain ⟨rfl, ht, hk1⟩ := hq
  have hk := hk.tr hk1
  have ht : twAt E H1 m ad (upd sc 6 0) f0 f1 f2 f3 f4 fb ft fo := ht
  change Go E Z 1 H1 (0) (0) 6 [(0, .ref m)] [.int (f0 6)]
  exact f_retI K X (Or.inl rfl) dX9_wind_6 (Nat.le_of_ble_eq_true rfl) (Nat.le_of_ble_eq_true rfl) (⟨rfl, ht, hk⟩)
/-- bookSize()I -/
theorem tm_bookSize {E : fE} {H : Heap} {m : Nat} {ad : Nat → Nat} {sc f0 f1 f2 f3 f4 fb ft fo : Row} (ht : twAt E H m ad sc f0 f1 f2 f3 f4 fb ft fo)   : fM E yX9_bookSize prog_17_method_100_code 1 (some .int) 2 0 0 [.ref m] H (fun r_ H' => r_ = some (.int (f0 9)) ∧ twAt E H' m ad (upd sc 6 0) f0 f1 f2 f3 f4 fb ft fo ∧ twK m ad H H') noX := by
  refine f_start (own := "SnowPassModel") (nm := "bookSize") (lv := [(0, .ref m)]) pn_X9 rfl rfl (Nat.le_of_ble_eq_true rfl) rfl (fun Z K X => ?_)
  have hk := twK.rf (m := m) (ad := ad) (H := H)
  refine f_aload_n K dX9_bookSize_0 rfl ?_
  refine f_bipush (v := 9) K dX9_bookSize_1 rfl ?_
  refine f_invV (As := [.int 9]) (rest := []) K (tm_tells (E := E) (c := 9) ht 9 nl_9 (by omega)) cs_X9_329 dX9_bookSize_3 (tw_o ht) rfl rfl rfl (Nat.le_of_ble_eq_true rfl) (Nat.le_of_ble_eq_true rfl) (Nat.le_of_ble_eq_true rfl) (Nat.le_of_ble_eq_true rfl) (fun v H1 hq hz => ?_) (fun _ _ _ h9 _ _ => h9.elim)
  obtain ⟨rfl, ht, hk1⟩ := hq
  have hk := hk.tr hk1
  have ht : twAt E H1 m ad (upd sc 6 0) f0 f1 f2 f3 f4 fb ft fo := ht
  change Go E Z 1 H1 (0) (0) 6 [(0, .ref m)] [.int (f0 9)]
  exact f_retI K X (Or.inl rfl) dX9_bookSize_6 (Nat.le_of_ble_eq_true rfl) (Nat.le_of_ble_eq_true rfl) (⟨rfl, ht, hk⟩)
/-- snowFallen()I -/
theorem tm_snowFallen {E : fE} {H : Heap} {m : Nat} {ad : Nat → Nat} {sc f0 f1 f2 f3 f4 fb ft fo : Row} (ht : twAt E H m ad sc f0 f1 f2 f3 f4 fb ft fo)   : fM E yX9_snowFallen prog_17_method_119_code 1 (some .int) 2 0 0 [.ref m] H (fun r_ H' => r_ = some (.int (f0 10)) ∧ twAt E H' m ad (upd sc 6 0) f0 f1 f2 f3 f4 fb ft fo ∧ twK m ad H H') noX := by
  refine f_start (own := "SnowPassModel") (nm := "snowFallen") (lv := [(0, .ref m)]) pn_X9 rfl rfl (Nat.le_of_ble_eq_true rfl) rfl (fun Z K X => ?_)
  have hk := twK.rf (m := m) (ad := ad) (H := H)
  refine f_aload_n K dX9_snowFallen_0 rfl ?_
  refine f_bipush (v := 10) K dX9_snowFallen_1 rfl ?_
  refine f_invV (As := [.int 10]) (rest := []) K (tm_tells (E := E) (c := 10) ht 10 nl_10 (by omega)) cs_X9_329 dX9_snowFallen_3 (tw_o ht) rfl rfl rfl (Nat.le_of_ble_eq_true rfl) (Nat.le_of_ble_eq_true rfl) (Nat.le_of_ble_eq_true rfl) (Nat.le_of_ble_eq_true rfl) (fun v H1 hq hz => ?_) (fun _ _ _ h9 _ _ => h9.elim)
  obtain ⟨rfl, ht, hk1⟩ := hq
  have hk := hk.tr hk1
  have ht : twAt E H1 m ad (upd sc 6 0) f0 f1 f2 f3 f4 fb ft fo := ht
  change Go E Z 1 H1 (0) (0) 6 [(0, .ref m)] [.int (f0 10)]
  exact f_retI K X (Or.inl rfl) dX9_snowFallen_6 (Nat.le_of_ble_eq_true rfl) (Nat.le_of_ble_eq_true rfl) (⟨rfl, ht, hk⟩)
/-- snowCleared()I -/
theorem tm_snowCleared {E : fE} {H : Heap} {m : Nat} {ad : Nat → Nat} {sc f0 f1 f2 f3 f4 fb ft fo : Row} (ht : twAt E H m ad sc f0 f1 f2 f3 f4 fb ft fo)   : fM E yX9_snowCleared prog_17_method_120_code 1 (some .int) 2 0 0 [.ref m] H (fun r_ H' => r_ = some (.int (f0 11)) ∧ twAt E H' m ad (upd sc 6 0) f0 f1 f2 f3 f4 fb ft fo ∧ twK m ad H H') noX := by
  refine f_start (own := "SnowPassModel") (nm := "snowCleared") (lv := [(0, .ref m)]) pn_X9 rfl rfl (Nat.le_of_ble_eq_true rfl) rfl (fun Z K X => ?_)
  have hk := twK.rf (m := m) (ad := ad) (H := H)
  refine f_aload_n K dX9_snowCleared_0 rfl ?_
  refine f_bipush (v := 11) K dX9_snowCleared_1 rfl ?_
  refine f_invV (As := [.int 11]) (rest := []) K (tm_tells (E := E) (c := 11) ht 11 nl_11 (by omega)) cs_X9_329 dX9_snowCleared_3 (tw_o ht) rfl rfl rfl (Nat.le_of_ble_eq_true rfl) (Nat.le_of_ble_eq_true rfl) (Nat.le_of_ble_eq_true rfl) (Nat.le_of_ble_eq_true rfl) (fun v H1 hq hz => ?_) (fun _ _ _ h9 _ _ => h9.elim)
  obtain ⟨rfl, ht, hk1⟩ := hq
  have hk := hk.tr hk1
  have ht : twAt E H1 m ad (upd sc 6 0) f0 f1 f2 f3 f4 fb ft fo := ht
  change Go E Z 1 H1 (0) (0) 6 [(0, .ref m)] [.int (f0 11)]
  exact f_retI K X (Or.inl rfl) dX9_snowCleared_6 (Nat.le_of_ble_eq_true rfl) (Nat.le_of_ble_eq_true rfl) (⟨rfl, ht, hk⟩)
/-- snowMelted()I -/
theorem tm_snowMelted {E : fE} {H : Heap} {m : Nat} {ad : Nat → Nat} {sc f0 f1 f2 f3 f4 fb ft fo : Row} (ht : twAt E H m ad sc f0 f1 f2 f3 f4 fb ft fo)   : fM E yX9_snowMelted prog_17_method_121_code 1 (some .int) 2 0 0 [.ref m] H (fun r_ H' => r_ = some (.int (f0 12)) ∧ twAt E H' m ad (upd sc 6 0) f0 f1 f2 f3 f4 fb ft fo ∧ twK m ad H H') noX := by
  refine f_start (own := "SnowPassModel") (nm := "snowMelted") (lv := [(0, .ref m)]) pn_X9 rfl rfl (Nat.le_of_ble_eq_true rfl) rfl (fun Z K X => ?_)
  have hk := twK.rf (m := m) (ad := ad) (H := H)
  refine f_aload_n K dX9_snowMelted_0 rfl ?_
  refine f_bipush (v := 12) K dX9_snowMelted_1 rfl ?_
  refine f_invV (As := [.int 12]) (rest := []) K (tm_tells (E := E) (c := 12) ht 12 nl_12 (by omega)) cs_X9_329 dX9_snowMelted_3 (tw_o ht) rfl rfl rfl (Nat.le_of_ble_eq_true rfl) (Nat.le_of_ble_eq_true rfl) (Nat.le_of_ble_eq_true rfl) (Nat.le_of_ble_eq_true rfl) (fun v H1 hq hz => ?_) (fun _ _ _ h9 _ _ => h9.elim)
  obtain ⟨rfl, ht, hk1⟩ := hq
  have hk := hk.tr hk1
  have ht : twAt E H1 m ad (upd sc 6 0) f0 f1 f2 f3 f4 fb ft fo := ht
  change Go E Z 1 H1 (0) (0) 6 [(0, .ref m)] [.int (f0 12)]
  exact f_retI K X (Or.inl rfl) dX9_snowMelted_6 (Nat.le_of_ble_eq_true rfl) (Nat.le_of_ble_eq_true rfl) (⟨rfl, ht, hk⟩)
/-- cartsCancelled()I -/
theorem tm_cartsCancelled {E : fE} {H : Heap} {m : Nat} {ad : Nat → Nat} {sc f0 f1 f2 f3 f4 fb ft fo : Row} (ht : twAt E H m ad sc f0 f1 f2 f3 f4 fb ft fo)   : fM E yX9_cartsCancelled prog_17_method_123_code 1 (some .int) 2 0 0 [.ref m] H (fun r_ H' => r_ = some (.int (f0 13)) ∧ twAt E H' m ad (upd sc 6 0) f0 f1 f2 f3 f4 fb ft fo ∧ twK m ad H H') noX := by
  refine f_start (own := "SnowPassModel") (nm := "cartsCancelled") (lv := [(0, .ref m)]) pn_X9 rfl rfl (Nat.le_of_ble_eq_true rfl) rfl (fun Z K X => ?_)
  have hk := twK.rf (m := m) (ad := ad) (H := H)
  refine f_aload_n K dX9_cartsCancelled_0 rfl ?_
  refine f_bipush (v := 13) K dX9_cartsCancelled_1 rfl ?_
  refine f_invV (As := [.int 13]) (rest := []) K (tm_tells (E := E) (c := 13) ht 13 nl_13 (by omega)) cs_X9_329 dX9_cartsCancelled_3 (tw_o ht) rfl rfl rfl (Nat.le_of_ble_eq_true rfl) (Nat.le_of_ble_eq_true rfl) (Nat.le_of_ble_eq_true rfl) (Nat.le_of_ble_eq_true rfl) (fun v H1 hq hz => ?_) (fun _ _ _ h9 _ _ => h9.elim)
  obtain ⟨rfl, ht, hk1⟩ := hq
  have hk := hk.tr hk1
  have ht : twAt E H1 m ad (upd sc 6 0) f0 f1 f2 f3 f4 fb ft fo := ht
  change Go E Z 1 H1 (0) (0) 6 [(0, .ref m)] [.int (f0 13)]
  exact f_retI K X (Or.inl rfl) dX9_cartsCancelled_6 (Nat.le_of_ble_eq_true rfl) (Nat.le_of_ble_eq_true rfl) (⟨rfl, ht, hk⟩)
/-- ticketCount()I -/
theorem tm_ticketCount {E : fE} {H : Heap} {m : Nat} {ad : Nat → Nat} {sc f0 f1 f2 f3 f4 fb ft fo : Row} (ht : twAt E H m ad sc f0 f1 f2 f3 f4 fb ft fo)   : fM E yX9_ticketCount prog_17_method_124_code 1 (some .int) 2 0 0 [.ref m] H (fun r_ H' => r_ = some (.int (f0 8)) ∧ twAt E H' m ad (upd sc 6 0) f0 f1 f2 f3 f4 fb ft fo ∧ twK m ad H H') noX := by
  refine f_start (own := "SnowPassModel") (nm := "ticketCount") (lv := [(0, .ref m)]) pn_X9 rfl rfl (Nat.le_of_ble_eq_true rfl) rfl (fun Z K X => ?_)
  have hk := twK.rf (m := m) (ad := ad) (H := H)
  refine f_aload_n K dX9_ticketCount_0 rfl ?_
  refine f_bipush (v := 8) K dX9_ticketCount_1 rfl ?_
  refine f_invV (As := [.int 8]) (rest := []) K (tm_tells (E := E) (c := 8) ht 8 nl_8 (by omega)) cs_X9_329 dX9_ticketCount_3 (tw_o ht) rfl rfl rfl (Nat.le_of_ble_eq_true rfl) (Nat.le_of_ble_eq_true rfl) (Nat.le_of_ble_eq_true rfl) (Nat.le_of_ble_eq_true rfl) (fun v H1 hq hz => ?_) (fun _ _ _ h9 _ _ => h9.elim)
  obtain ⟨rfl, ht, hk1⟩ := hq
  have hk := hk.tr hk1
  have ht : twAt E H1 m ad (upd sc 6 0) f0 f1 f2 f3 f4 fb ft fo := ht
  change Go E Z 1 H1 (0) (0) 6 [(0, .ref m)] [.int (f0 8)]
  exact f_retI K X (Or.inl rfl) dX9_ticketCount_6 (Nat.le_of_ble_eq_true rfl) (Nat.le_of_ble_eq_true rfl) (⟨rfl, ht, hk⟩)
/-- sacksUsed()I -/
theorem tm_sacksUsed {E : fE} {H : Heap} {m : Nat} {ad : Nat → Nat} {sc f0 f1 f2 f3 f4 fb ft fo : Row} (ht : twAt E H m ad sc f0 f1 f2 f3 f4 fb ft fo)   : fM E yX9_sacksUsed prog_17_method_125_code 1 (some .int) 2 0 0 [.ref m] H (fun r_ H' => r_ = some (.int (f0 14)) ∧ twAt E H' m ad (upd sc 6 0) f0 f1 f2 f3 f4 fb ft fo ∧ twK m ad H H') noX := by
  refine f_start (own := "SnowPassModel") (nm := "sacksUsed") (lv := [(0, .ref m)]) pn_X9 rfl rfl (Nat.le_of_ble_eq_true rfl) rfl (fun Z K X => ?_)
  have hk := twK.rf (m := m) (ad := ad) (H := H)
  refine f_aload_n K dX9_sacksUsed_0 rfl ?_
  refine f_bipush (v := 14) K dX9_sacksUsed_1 rfl ?_
  refine f_invV (As := [.int 14]) (rest := []) K (tm_tells (E := E) (c := 14) ht 14 nl_14 (by omega)) cs_X9_329 dX9_sacksUsed_3 (tw_o ht) rfl rfl rfl (Nat.le_of_ble_eq_true rfl) (Nat.le_of_ble_eq_true rfl) (Nat.le_of_ble_eq_true rfl) (Nat.le_of_ble_eq_true rfl) (fun v H1 hq hz => ?_) (fun _ _ _ h9 _ _ => h9.elim)
  obtain ⟨rfl, ht, hk1⟩ := hq
  have hk := hk.tr hk1
  have ht : twAt E H1 m ad (upd sc 6 0) f0 f1 f2 f3 f4 fb ft fo := ht
  change Go E Z 1 H1 (0) (0) 6 [(0, .ref m)] [.int (f0 14)]
  exact f_retI K X (Or.inl rfl) dX9_sacksUsed_6 (Nat.le_of_ble_eq_true rfl) (Nat.le_of_ble_eq_true rfl) (⟨rfl, ht, hk⟩)
/-- thrown()I -/
theorem tm_thrown {E : fE} {H : Heap} {m : Nat} {ad : Nat → Nat} {sc f0 f1 f2 f3 f4 fb ft fo : Row} (ht : twAt E H m ad sc f0 f1 f2 f3 f4 fb ft fo)   : fM E yX9_thrown prog_17_method_2_code 1 (some .int) 1 0 0 [.ref m] H (fun r_ H' => r_ = some (.int (sc 6)) ∧ H' = H) noX := by
  refine f_start (own := "SnowPassModel") (nm := "thrown") (lv := [(0, .ref m)]) pn_X9 rfl rfl (Nat.le_of_ble_eq_true rfl) rfl (fun Z K X => ?_)
  refine f_aload_n K dX9_thrown_0 rfl ?_
  refine f_get (v := .int (sc 6)) K fl_X9_55_X9 dX9_thrown_1 (tw_o ht) rfl ?_
  exact f_retI K X (Or.inl rfl) dX9_thrown_4 (Nat.le_of_ble_eq_true rfl) (Nat.le_of_ble_eq_true rfl) (⟨rfl, rfl⟩)
/-- errorCode()I -/
theorem tm_errorCode {E : fE} {H : Heap} {m : Nat} {ad : Nat → Nat} {sc f0 f1 f2 f3 f4 fb ft fo : Row} (ht : twAt E H m ad sc f0 f1 f2 f3 f4 fb ft fo)   : fM E yX9_errorCode prog_17_method_64_code 1 (some .int) 1 0 0 [.ref m] H (fun r_ H' => r_ = some (.int (sc 16)) ∧ twAt E H' m ad (upd sc 6 0) f0 f1 f2 f3 f4 fb ft fo ∧ twK m ad H H') noX := by
  refine f_start (own := "SnowPassModel") (nm := "errorCode") (lv := [(0, .ref m)]) pn_X9 rfl rfl (Nat.le_of_ble_eq_true rfl) rfl (fun Z K X => ?_)
  have hk := twK.rf (m := m) (ad := ad) (H := H)
  refine f_aload_n K dX9_errorCode_0 rfl ?_
  refine f_iconst (v := 0) K dX9_errorCode_1 rfl ?_
  refine f_put K fp_X9_55_X9 dX9_errorCode_2 (tw_o ht) (tw_lo ht) (Nat.le_of_ble_eq_true rfl) rfl rfl (fun H1 hU ho => ?_)
  have ht := tw_put (sc' := (upd sc 6 0)) ht hU ho rfl
  have hk := hk.put hU
  refine f_aload_n K dX9_errorCode_5 rfl ?_
  refine f_get (v := .int (sc 16)) K fl_X9_220_X9 dX9_errorCode_6 (tw_o ht) rfl ?_
  exact f_retI K X (Or.inl rfl) dX9_errorCode_9 (Nat.le_of_ble_eq_true rfl) (Nat.le_of_ble_eq_true rfl) (⟨rfl, ht, hk⟩)
/-- errorPosition()I -/
theorem tm_errorPosition {E : fE} {H : Heap} {m : Nat} {ad : Nat → Nat} {sc f0 f1 f2 f3 f4 fb ft fo : Row} (ht : twAt E H m ad sc f0 f1 f2 f3 f4 fb ft fo)   : fM E yX9_errorPosition prog_17_method_65_code 1 (some .int) 1 0 0 [.ref m] H (fun r_ H' => r_ = some (.int (sc 17)) ∧ twAt E H' m ad (upd sc 6 0) f0 f1 f2 f3 f4 fb ft fo ∧ twK m ad H H') noX := by
  refine f_start (own := "SnowPassModel") (nm := "errorPosition") (lv := [(0, .ref m)]) pn_X9 rfl rfl (Nat.le_of_ble_eq_true rfl) rfl (fun Z K X => ?_)
  have hk := twK.rf (m := m) (ad := ad) (H := H)
  refine f_aload_n K dX9_errorPosition_0 rfl ?_
  refine f_iconst (v := 0) K dX9_errorPosition_1 rfl ?_
  refine f_put K fp_X9_55_X9 dX9_errorPosition_2 (tw_o ht) (tw_lo ht) (Nat.le_of_ble_eq_true rfl) rfl rfl (fun H1 hU ho => ?_)
  have ht := tw_put (sc' := (upd sc 6 0)) ht hU ho rfl
  have hk := hk.put hU
  refine f_aload_n K dX9_errorPosition_5 rfl ?_
  refine f_get (v := .int (sc 17)) K fl_X9_28_X9 dX9_errorPosition_6 (tw_o ht) rfl ?_
  exact f_retI K X (Or.inl rfl) dX9_errorPosition_9 (Nat.le_of_ble_eq_true rfl) (Nat.le_of_ble_eq_true rfl) (⟨rfl, ht, hk⟩)
/-- isNight()Z -/
theorem tm_isNight {E : fE} {H : Heap} {m : Nat} {ad : Nat → Nat} {sc f0 f1 f2 f3 f4 fb ft fo : Row} (ht : twAt E H m ad sc f0 f1 f2 f3 f4 fb ft fo)   : fM E yX9_isNight prog_17_method_83_code 1 (some .boolean) 2 0 0 [.ref m] H (fun r_ H' => r_ = some (.int (bI (sp_night f0))) ∧ twAt E H' m ad (upd sc 6 0) f0 f1 f2 f3 f4 fb ft fo ∧ twK m ad H H') noX := by
  refine f_start (own := "SnowPassModel") (nm := "isNight") (lv := [(0, .ref m)]) pn_X9 rfl rfl (Nat.le_of_ble_eq_true rfl) rfl (fun Z K X => ?_)
  have hk := twK.rf (m := m) (ad := ad) (H := H)
  refine f_aload_n K dX9_isNight_0 rfl ?_
  refine f_iconst (v := 0) K dX9_isNight_1 rfl ?_
  refine f_put K fp_X9_55_X9 dX9_isNight_2 (tw_o ht) (tw_lo ht) (Nat.le_of_ble_eq_true rfl) rfl rfl (fun H1 hU ho => ?_)
  have ht := tw_put (sc' := (upd sc 6 0)) ht hU ho rfl
  have hk := hk.put hU
  refine f_aload_n K dX9_isNight_5 rfl ?_
  refine f_invV (As := []) (rest := []) K (tm_isNightNow (E := E)  ht ) cs_X9_110 dX9_isNight_6 (tw_o ht) rfl rfl rfl (Nat.le_of_ble_eq_true rfl) (Nat.le_of_ble_eq_true rfl) (Nat.le_of_ble_eq_true rfl) (Nat.le_of_ble_eq_true rfl) (fun v H2 hq hz => ?_) (fun _ _ _ h9 _ _ => h9.elim)
  obtain ⟨rfl, hq⟩ := hq
  rw [hq]
  change Go E Z 1 H1 (0) (0) 9 [(0, .ref m)] [.int (bI (sp_night f0))]
  exact f_retI K X (Or.inr ⟨rfl, bI_01⟩) dX9_isNight_9 (Nat.le_of_ble_eq_true rfl) (Nat.le_of_ble_eq_true rfl) (⟨rfl, ht, hk⟩)
/-- isOpen()Z -/
theorem tm_isOpen {E : fE} {H : Heap} {m : Nat} {ad : Nat → Nat} {sc f0 f1 f2 f3 f4 fb ft fo : Row} (ht : twAt E H m ad sc f0 f1 f2 f3 f4 fb ft fo)   : fM E yX9_isOpen prog_17_method_98_code 1 (some .boolean) 3 0 0 [.ref m] H (fun r_ H' => r_ = some (.int (bI (sp_open f0))) ∧ twAt E H' m ad (upd sc 6 0) f0 f1 f2 f3 f4 fb ft fo ∧ twK m ad H H') noX := by
  refine f_start (own := "SnowPassModel") (nm := "isOpen") (lv := [(0, .ref m)]) pn_X9 rfl rfl (Nat.le_of_ble_eq_true rfl) rfl (fun Z K X => ?_)
  have hk := twK.rf (m := m) (ad := ad) (H := H)
  refine f_aload_n K dX9_isOpen_0 rfl ?_
  refine f_iconst (v := 0) K dX9_isOpen_1 rfl ?_
  refine f_put K fp_X9_55_X9 dX9_isOpen_2 (tw_o ht) (tw_lo ht) (Nat.le_of_ble_eq_true rfl) rfl rfl (fun H1 hU ho => ?_)
  have ht := tw_put (sc' := (upd sc 6 0)) ht hU ho rfl
  have hk := hk.put hU
  refine f_aload_n K dX9_isOpen_5 rfl ?_
  refine f_invV (As := []) (rest := []) K (tm_isOpenNow (E := E)  ht ) cs_X9_95 dX9_isOpen_6 (tw_o ht) rfl rfl rfl (Nat.le_of_ble_eq_true rfl) (Nat.le_of_ble_eq_true rfl) (Nat.le_of_ble_eq_true rfl) (Nat.le_of_ble_eq_true rfl) (fun v H2 hq hz => ?_) (fun _ _ _ h9 _ _ => h9.elim)
  obtain ⟨rfl, hq⟩ := hq
  rw [hq]
  change Go E Z 1 H1 (0) (0) 9 [(0, .ref m)] [.int (bI (sp_open f0))]
  exact f_retI K X (Or.inr ⟨rfl, bI_01⟩) dX9_isOpen_9 (Nat.le_of_ble_eq_true rfl) (Nat.le_of_ble_eq_true rfl) (⟨rfl, ht, hk⟩)
/-- deepestSegment()I -/
theorem tm_deepestSegment {E : fE} {H : Heap} {m : Nat} {ad : Nat → Nat} {sc f0 f1 f2 f3 f4 fb ft fo : Row} (ht : twAt E H m ad sc f0 f1 f2 f3 f4 fb ft fo)  {n t : Nat} (ok : okr n t f0) : fM E yX9_deepestSegment prog_17_method_92_code 1 (some .int) 3 0 0 [.ref m] H (fun r_ H' => r_ = some (.int (nI (sp_deep f0 (n - 1)))) ∧ twAt E H' m ad (upd sc 6 0) f0 f1 f2 f3 f4 fb ft fo ∧ twK m ad H H') noX := by
  refine f_start (own := "SnowPassModel") (nm := "deepestSegment") (lv := [(0, .ref m)]) pn_X9 rfl rfl (Nat.le_of_ble_eq_true rfl) rfl (fun Z K X => ?_)
  have hk := twK.rf (m := m) (ad := ad) (H := H)
  refine f_aload_n K dX9_deepestSegment_0 rfl ?_
  refine f_iconst (v := 0) K dX9_deepestSegment_1 rfl ?_
  refine f_put K fp_X9_55_X9 dX9_deepestSegment_2 (tw_o ht) (tw_lo ht) (Nat.le_of_ble_eq_true rfl) rfl rfl (fun H1 hU ho => ?_)
  have ht := tw_put (sc' := (upd sc 6 0)) ht hU ho rfl
  have hk := hk.put hU
  refine f_aload_n K dX9_deepestSegment_5 rfl ?_
  refine f_invV (As := []) (rest := []) K (tm_deepest (E := E)  ht ok.n (by have := ok.1; omega) (by have := ok.1; omega)) cs_X9_73 dX9_deepestSegment_6 (tw_o ht) rfl rfl rfl (Nat.le_of_ble_eq_true rfl) (Nat.le_of_ble_eq_true rfl) (Nat.le_of_ble_eq_true rfl) (Nat.le_of_ble_eq_true rfl) (fun v H2 hq hz => ?_) (fun _ _ _ h9 _ _ => h9.elim)
  obtain ⟨rfl, hq⟩ := hq
  rw [hq]
  change Go E Z 1 H1 (0) (0) 9 [(0, .ref m)] [.int (nI (sp_deep f0 (n - 1)))]
  exact f_retI K X (Or.inl rfl) dX9_deepestSegment_9 (Nat.le_of_ble_eq_true rfl) (Nat.le_of_ble_eq_true rfl) (⟨rfl, ht, hk⟩)
/-- totalDepth()I -/
theorem tm_totalDepth {E : fE} {H : Heap} {m : Nat} {ad : Nat → Nat} {sc f0 f1 f2 f3 f4 fb ft fo : Row} (ht : twAt E H m ad sc f0 f1 f2 f3 f4 fb ft fo)  {n t : Nat} (ok : okr n t f0) : fM E yX9_totalDepth prog_17_method_93_code 1 (some .int) 3 0 0 [.ref m] H (fun r_ H' => r_ = some (.int (sp_sum f0 n)) ∧ twAt E H' m ad (upd sc 6 0) f0 f1 f2 f3 f4 fb ft fo ∧ twK m ad H H') noX := by
  refine f_start (own := "SnowPassModel") (nm := "totalDepth") (lv := [(0, .ref m)]) pn_X9 rfl rfl (Nat.le_of_ble_eq_true rfl) rfl (fun Z K X => ?_)
  have hk := twK.rf (m := m) (ad := ad) (H := H)
  refine f_aload_n K dX9_totalDepth_0 rfl ?_
  refine f_iconst (v := 0) K dX9_totalDepth_1 rfl ?_
  refine f_put K fp_X9_55_X9 dX9_totalDepth_2 (tw_o ht) (tw_lo ht) (Nat.le_of_ble_eq_true rfl) rfl rfl (fun H1 hU ho => ?_)
  have ht := tw_put (sc' := (upd sc 6 0)) ht hU ho rfl
  have hk := hk.put hU
  refine f_aload_n K dX9_totalDepth_5 rfl ?_
  refine f_invV (As := []) (rest := []) K (tm_depths (E := E)  ht ok.n (by have := ok.1; omega)) cs_X9_266 dX9_totalDepth_6 (tw_o ht) rfl rfl rfl (Nat.le_of_ble_eq_true rfl) (Nat.le_of_ble_eq_true rfl) (Nat.le_of_ble_eq_true rfl) (Nat.le_of_ble_eq_true rfl) (fun v H2 hq hz => ?_) (fun _ _ _ h9 _ _ => h9.elim)
  obtain ⟨rfl, hq⟩ := hq
  rw [hq]
  change Go E Z 1 H1 (0) (0) 9 [(0, .ref m)] [.int (sp_sum f0 n)]
  exact f_retI K X (Or.inl rfl) dX9_totalDepth_9 (Nat.le_of_ble_eq_true rfl) (Nat.le_of_ble_eq_true rfl) (⟨rfl, ht, hk⟩)
/-- snowImbalance()I -/
theorem tm_snowImbalance {E : fE} {H : Heap} {m : Nat} {ad : Nat → Nat} {sc f0 f1 f2 f3 f4 fb ft fo : Row} (ht : twAt E H m ad sc f0 f1 f2 f3 f4 fb ft fo)  {n t : Nat} (ok : okr n t f0) : fM E yX9_snowImbalance prog_17_method_126_code 1 (some .int) 3 0 0 [.ref m] H (fun r_ H' => r_ = some (.int (f0 10 - f0 11 - f0 12 - sp_sum f0 n)) ∧ twAt E H' m ad (upd sc 6 0) f0 f1 f2 f3 f4 fb ft fo ∧ twK m ad H H') noX := by
  refine f_start (own := "SnowPassModel") (nm := "snowImbalance") (lv := [(0, .ref m)]) pn_X9 rfl rfl (Nat.le_of_ble_eq_true rfl) rfl (fun Z K X => ?_)
  have hk := twK.rf (m := m) (ad := ad) (H := H)
  refine f_aload_n K dX9_snowImbalance_0 rfl ?_
  refine f_iconst (v := 0) K dX9_snowImbalance_1 rfl ?_
  refine f_put K fp_X9_55_X9 dX9_snowImbalance_2 (tw_o ht) (tw_lo ht) (Nat.le_of_ble_eq_true rfl) rfl rfl (fun H1 hU ho => ?_)
  have ht := tw_put (sc' := (upd sc 6 0)) ht hU ho rfl
  have hk := hk.put hU
  refine f_aload_n K dX9_snowImbalance_5 rfl ?_
  refine f_get (v := .ref (ad 0)) K fl_X9_7_X9 dX9_snowImbalance_6 (tw_o ht) rfl ?_
  refine f_bipush (v := 10) K dX9_snowImbalance_9 rfl ?_
  refine f_iald (j := 10) K dX9_snowImbalance_11 (tw_a0 ht) nl_10 (by decide) (by decide) ?_
  refine f_aload_n K dX9_snowImbalance_12 rfl ?_
  refine f_get (v := .ref (ad 0)) K fl_X9_7_X9 dX9_snowImbalance_13 (tw_o ht) rfl ?_
  refine f_bipush (v := 11) K dX9_snowImbalance_16 rfl ?_
  refine f_iald (j := 11) K dX9_snowImbalance_18 (tw_a0 ht) nl_11 (by decide) (by decide) ?_
  refine f_isub K dX9_snowImbalance_19 ?_
  refine f_aload_n K dX9_snowImbalance_20 rfl ?_
  refine f_get (v := .ref (ad 0)) K fl_X9_7_X9 dX9_snowImbalance_21 (tw_o ht) rfl ?_
  refine f_bipush (v := 12) K dX9_snowImbalance_24 rfl ?_
  refine f_iald (j := 12) K dX9_snowImbalance_26 (tw_a0 ht) nl_12 (by decide) (by decide) ?_
  refine f_isub K dX9_snowImbalance_27 ?_
  refine f_aload_n K dX9_snowImbalance_28 rfl ?_
  refine f_invV (As := []) (rest := [.int (((f0 10) - (f0 11)) - (f0 12))]) K (tm_depths (E := E)  ht ok.n (by have := ok.1; omega)) cs_X9_266 dX9_snowImbalance_29 (tw_o ht) rfl rfl rfl (Nat.le_of_ble_eq_true rfl) (Nat.le_of_ble_eq_true rfl) (Nat.le_of_ble_eq_true rfl) (Nat.le_of_ble_eq_true rfl) (fun v H2 hq hz => ?_) (fun _ _ _ h9 _ _ => h9.elim)
  obtain ⟨rfl, hq⟩ := hq
  rw [hq]
  change Go E Z 1 H1 (0) (0) 32 [(0, .ref m)] [.int (sp_sum f0 n), .int (((f0 10) - (f0 11)) - (f0 12))]
  refine f_isub K dX9_snowImbalance_32 ?_
  exact f_retI K X (Or.inl rfl) dX9_snowImbalance_33 (Nat.le_of_ble_eq_true rfl) (Nat.le_of_ble_eq_true rfl) (⟨rfl, ht, hk⟩)
/-- cartImbalance()I -/
theorem tm_cartImbalance {E : fE} {H : Heap} {m : Nat} {ad : Nat → Nat} {sc f0 f1 f2 f3 f4 fb ft fo : Row} (ht : twAt E H m ad sc f0 f1 f2 f3 f4 fb ft fo)   : fM E yX9_cartImbalance prog_17_method_127_code 1 (some .int) 2 0 0 [.ref m] H (fun r_ H' => r_ = some (.int (f0 8 - sp_crossed f0 - f0 13 - f0 125 - f0 126)) ∧ twAt E H' m ad (upd sc 6 0) f0 f1 f2 f3 f4 fb ft fo ∧ twK m ad H H') noX := by
  refine f_start (own := "SnowPassModel") (nm := "cartImbalance") (lv := [(0, .ref m)]) pn_X9 rfl rfl (Nat.le_of_ble_eq_true rfl) rfl (fun Z K X => ?_)
  have hk := twK.rf (m := m) (ad := ad) (H := H)
  refine f_aload_n K dX9_cartImbalance_0 rfl ?_
  refine f_iconst (v := 0) K dX9_cartImbalance_1 rfl ?_
  refine f_put K fp_X9_55_X9 dX9_cartImbalance_2 (tw_o ht) (tw_lo ht) (Nat.le_of_ble_eq_true rfl) rfl rfl (fun H1 hU ho => ?_)
  have ht := tw_put (sc' := (upd sc 6 0)) ht hU ho rfl
  have hk := hk.put hU
  refine f_aload_n K dX9_cartImbalance_5 rfl ?_
  refine f_get (v := .ref (ad 0)) K fl_X9_7_X9 dX9_cartImbalance_6 (tw_o ht) rfl ?_
  refine f_bipush (v := 8) K dX9_cartImbalance_9 rfl ?_
  refine f_iald (j := 8) K dX9_cartImbalance_11 (tw_a0 ht) nl_8 (by decide) (by decide) ?_
  refine f_aload_n K dX9_cartImbalance_12 rfl ?_
  refine f_invV (As := []) (rest := [.int (f0 8)]) K (tm_crossed (E := E)  ht ) cs_X9_149 dX9_cartImbalance_13 (tw_o ht) rfl rfl rfl (Nat.le_of_ble_eq_true rfl) (Nat.le_of_ble_eq_true rfl) (Nat.le_of_ble_eq_true rfl) (Nat.le_of_ble_eq_true rfl) (fun v H2 hq hz => ?_) (fun _ _ _ h9 _ _ => h9.elim)
  obtain ⟨rfl, hq⟩ := hq
  rw [hq]
  change Go E Z 1 H1 (0) (0) 16 [(0, .ref m)] [.int (sp_crossed f0), .int (f0 8)]
  refine f_isub K dX9_cartImbalance_16 ?_
  refine f_aload_n K dX9_cartImbalance_17 rfl ?_
  refine f_get (v := .ref (ad 0)) K fl_X9_7_X9 dX9_cartImbalance_18 (tw_o ht) rfl ?_
  refine f_bipush (v := 13) K dX9_cartImbalance_21 rfl ?_
  refine f_iald (j := 13) K dX9_cartImbalance_23 (tw_a0 ht) nl_13 (by decide) (by decide) ?_
  refine f_isub K dX9_cartImbalance_24 ?_
  refine f_aload_n K dX9_cartImbalance_25 rfl ?_
  refine f_get (v := .ref (ad 0)) K fl_X9_7_X9 dX9_cartImbalance_26 (tw_o ht) rfl ?_
  refine f_bipush (v := 125) K dX9_cartImbalance_29 rfl ?_
  refine f_iald (j := 125) K dX9_cartImbalance_31 (tw_a0 ht) nl_125 (by decide) (by decide) ?_
  refine f_isub K dX9_cartImbalance_32 ?_
  refine f_aload_n K dX9_cartImbalance_33 rfl ?_
  refine f_get (v := .ref (ad 0)) K fl_X9_7_X9 dX9_cartImbalance_34 (tw_o ht) rfl ?_
  refine f_bipush (v := 126) K dX9_cartImbalance_37 rfl ?_
  refine f_iald (j := 126) K dX9_cartImbalance_39 (tw_a0 ht) nl_126 (by decide) (by decide) ?_
  refine f_isub K dX9_cartImbalance_40 ?_
  exact f_retI K X (Or.inl rfl) dX9_cartImbalance_41 (Nat.le_of_ble_eq_true rfl) (Nat.le_of_ble_eq_true rfl) (⟨rfl, ht, hk⟩)
