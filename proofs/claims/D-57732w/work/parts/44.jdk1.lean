/-! JDK 1: texts -/
set_option maxRecDepth 100000
set_option maxHeartbeats 400000

theorem fl_J9_15_J9 : FL "java/lang/String" 15 19 1 := ⟨RJ9, TJ9, 4, "java/lang/String", rfl, in_J9, by decide, Or.inl rfl, Or.inl q676⟩
theorem pn_J9 : plainName RJ9 = true := by decide +kernel
theorem fl_J9_9_J9 : FL "java/lang/String" 9 19 0 := ⟨RJ9, TJ9, 4, "java/lang/String", rfl, in_J9, by decide, Or.inl rfl, Or.inl q675⟩
theorem cs_J9_335 : CSV "java/lang/String" 335 yJ9_coder prog_39_method_152_code 1 (some .byte) 0 := ⟨⟨by decide +kernel, by decide +kernel, by decide +kernel⟩, q530, q531, q532, q137, q533, by decide⟩
theorem pn_J14 : plainName RJ14 = true := by decide +kernel
theorem cs_J9_1059 : CSS "java/lang/String" 1059 yJ14_checkIndex prog_86_method_11_code 3 (some .int) 3 := ⟨⟨by decide +kernel, by decide +kernel, by decide +kernel⟩, q2412, q912, q143, q913, by decide⟩
theorem cs_J15_9 : CSS "java/lang/StringLatin1" 9 yJ9_checkIndex prog_39_method_155_code 2 none 2 := ⟨⟨by decide +kernel, by decide +kernel, by decide +kernel⟩, q3285, q2410, q137, q2411, by decide⟩
theorem pn_J15 : plainName RJ15 = true := by decide +kernel
theorem cs_J9_492 : CSV "java/lang/String" 492 yJ9_isLatin1 prog_39_method_154_code 1 (some .boolean) 0 := ⟨⟨by decide +kernel, by decide +kernel, by decide +kernel⟩, q967, q968, q969, q137, q970, by decide⟩
theorem cs_J9_495 : CSS "java/lang/String" 495 yJ15_charAt prog_42_method_2_code 2 (some .char) 2 := ⟨⟨by decide +kernel, by decide +kernel, by decide +kernel⟩, q3282, q3283, q144, q3284, by decide⟩
theorem Zok.ok {E : fE} {Z : fZ} {cc : ByteArray} {nL : Nat} {own : String} {ret : Option FieldType} {tb : List ExceptionTableEntry} {nm : String} {L mc ms : Nat} (K : Zok E Z cc nL own ret tb nm L mc ms) : fOK E := by
  obtain ⟨p, e, R, s, m, args, below, meth, c, Q⟩ := Z
  obtain ⟨hx, hb, hml, hown, hts, hlocks, hr, hG, htb, hnm, hLf, hLl, hmc, hms⟩ := K
  exact hG.1
/-- below the law's start the heap is as it was -/
theorem Go.low {E : fE} {Z : fZ} {cc : ByteArray} {nL : Nat} {own : String} {ret : Option FieldType} {tb : List ExceptionTableEntry} {nm : String} {L mc ms : Nat} {H : Heap} {cs ss pc : Nat} {lv : List (Nat × Value)} {st : List Value} (K : Zok E Z cc nL own ret tb nm L mc ms) (k : (∀ q : Nat, q < E.lo → H[q]? = E.s.heap[q]?) → E.lo ≤ H.size → Go E Z nL H cs ss pc lv st) : Go E Z nL H cs ss pc lv st := by
  obtain ⟨p, e, R, s, m, args, below, meth, c, Q⟩ := Z
  obtain ⟨hx, hb, hml, hown, hts, hlocks, hr, hG, htb, hnm, hLf, hLl, hmc, hms⟩ := K
  exact fun locs ls hS hl => k (fun q hq => fA_K hG hS q hq) (fA_S hG hS) locs ls hS hl
theorem f_retN {E : fE} {Z : fZ} {cc : ByteArray} {nL : Nat} {own : String} {ret : Option FieldType} {tb : List ExceptionTableEntry} {nm : String} {L mc ms : Nat} {H : Heap} {cs ss pc : Nat} {lv : List (Nat × Value)} {v : Int32} {ty : FieldType} {Post : Option Value → Heap → Prop} {PX : Nat → String → Heap → Prop} (K : Zok E Z cc nL own ret tb nm L mc ms) (X : Zex E Z mc ms Post PX) (hr0 : ret = some ty) (hn : narrow ty (.int v) = .int v) (hd : decode cc pc = .ok (.ireturn, 1)) (hcs : cs ≤ mc) (hss : ss ≤ ms) (hp : Post (some (.int v)) H) : Go E Z nL H cs ss pc lv [.int v] := by
  obtain ⟨p, e, R, s, m, args, below, meth, c, Q⟩ := Z
  obtain ⟨hx, hb, hml, hown, hts, hlocks, hr, hG, htb, hnm, hLf, hLl, hmc, hms⟩ := K
  intro locs ls hS hl
  obtain rfl : Q = _ := X
  refine W.widen hcs hss (vx_ret ?_)
  exact W.zret (v := v) hx hb (hr.trans hr0) hn (fun t ht _ => ⟨⟨_, rfl, by rw [ht]; exact hp⟩, hS.F ht⟩) hS.2.2 hd
/-- java/lang/String.coder()B -/
theorem js_coder {E : fE} {H : Heap} {q v n : Nat} {f : Row} {h z : Int32} (hs : sat E q v n f h z H) : fM E yJ9_coder prog_39_method_152_code 1 (some .byte) 1 0 0 [.ref q] H (fun r_ H' => r_ = some (.int 0) ∧ H' = H) noX := by
  refine f_start (own := "java/lang/String") (nm := "coder") (lv := [(0, .ref q)]) pn_J9 rfl rfl (Nat.le_of_ble_eq_true rfl) rfl (fun Z K X => ?_)
  refine f_gets (v := .int 1) K (zi_String_COMPACT_STRINGS K.ok) q534 (Or.inl rfl) dJ9_coder_0 ?_
  refine f_if_eq (tgt := 13) K dJ9_coder_3 (by decide) (fun c_3 => ?_) (fun c_3 => ?_)
  · exact absurd c_3 (by decide)
  · refine f_aload_n K dJ9_coder_6 rfl ?_
    refine f_getw (v := .int 0) K fl_J9_15_J9 dJ9_coder_7 hs.1 rfl ?_
    refine f_goto (tgt := 14) K dJ9_coder_10 (by decide) ?_
    exact f_retN K X rfl rfl dJ9_coder_14 (Nat.le_of_ble_eq_true rfl) (Nat.le_of_ble_eq_true rfl) (⟨rfl, rfl⟩)
/-- java/lang/String.length()I -/
theorem js_length {E : fE} {H : Heap} {q v n : Nat} {f : Row} {h z : Int32} (hs : sat E q v n f h z H) : fM E yJ9_length prog_39_method_54_code 1 (some .int) 2 0 0 [.ref q] H (fun r_ H' => r_ = some (.int (nI n)) ∧ H' = H) noX := by
  refine f_start (own := "java/lang/String") (nm := "length") (lv := [(0, .ref q)]) pn_J9 rfl rfl (Nat.le_of_ble_eq_true rfl) rfl (fun Z K X => ?_)
  refine f_aload_n K dJ9_length_0 rfl ?_
  refine f_getw (v := .ref v) K fl_J9_9_J9 dJ9_length_1 hs.1 rfl ?_
  refine f_alenw K dJ9_length_4 hs.2 ?_
  refine f_aload_n K dJ9_length_5 rfl ?_
  refine f_invVc (As := []) (rest := [.int (nI n)]) K (js_coder (E := E) hs) cs_J9_335 dJ9_length_6 hs.1 rfl rfl rfl (Nat.le_of_ble_eq_true rfl) (Nat.le_of_ble_eq_true rfl) (Nat.le_of_ble_eq_true rfl) (Nat.le_of_ble_eq_true rfl) (fun r_v H1 hq hz => ?_) (fun _ _ _ h9 _ _ => h9.elim)
  obtain ⟨rfl, hq⟩ := hq
  rw [hq]
  change Go E Z 1 H (0) (0) 9 [(0, .ref q)] [.int 0, .int (nI n)]
  refine f_ishr (v := (nI n) >>> (0 &&& 31)) K dJ9_length_9 rfl ?_
  exact f_retI K X (Or.inl rfl) dJ9_length_10 (Nat.le_of_ble_eq_true rfl) (Nat.le_of_ble_eq_true rfl) (⟨rI (show nI n >>> (0 &&& 31) = nI n from by rw [show ((0 : Int32) &&& 31) = 0 from rfl]; exact Int32.shiftRight_zero), rfl⟩)
/-- java/lang/String.isLatin1()Z -/
theorem js_isLatin1 {E : fE} {H : Heap} {q v n : Nat} {f : Row} {h z : Int32} (hs : sat E q v n f h z H) : fM E yJ9_isLatin1 prog_39_method_154_code 1 (some .boolean) 1 0 0 [.ref q] H (fun r_ H' => r_ = some (.int 1) ∧ H' = H) noX := by
  refine f_start (own := "java/lang/String") (nm := "isLatin1") (lv := [(0, .ref q)]) pn_J9 rfl rfl (Nat.le_of_ble_eq_true rfl) rfl (fun Z K X => ?_)
  refine f_gets (v := .int 1) K (zi_String_COMPACT_STRINGS K.ok) q534 (Or.inl rfl) dJ9_isLatin1_0 ?_
  refine f_if_eq (tgt := 17) K dJ9_isLatin1_3 (by decide) (fun c_3 => ?_) (fun c_3 => ?_)
  · exact absurd c_3 (by decide)
  · refine f_aload_n K dJ9_isLatin1_6 rfl ?_
    refine f_getw (v := .int 0) K fl_J9_15_J9 dJ9_isLatin1_7 hs.1 rfl ?_
    refine f_if_ne (tgt := 17) K dJ9_isLatin1_10 (by decide) (fun c_10 => ?_) (fun c_10 => ?_)
    · exact absurd c_10 (by decide)
    · refine f_iconst (v := 1) K dJ9_isLatin1_13 rfl ?_
      refine f_goto (tgt := 18) K dJ9_isLatin1_14 (by decide) ?_
      exact f_retI K X (Or.inr ⟨rfl, Or.inr rfl⟩) dJ9_isLatin1_18 (Nat.le_of_ble_eq_true rfl) (Nat.le_of_ble_eq_true rfl) (⟨rfl, rfl⟩)
theorem zq_SIOOBE {E : fE} (hE : fOK E) : ∃ o : Option Nat, va_Z "jdk/internal/util/Preconditions" "SIOOBE_FORMATTER" "Ljava/util/function/BiFunction;" (va_rf o) (fA E) E.s E.s.heap := by
  obtain ⟨v, h1, h2⟩ := zr hE q513 q143 11 rfl
  cases v with
  | null => exact ⟨none, h2⟩
  | ref a => exact ⟨some a, h2⟩
  | _ => exact nomatch h1
/-- jdk/internal/util/Preconditions.checkIndex(IILjava/util/function/BiFunction;)I -/
theorem jp_checkIndex {E : fE} {H : Heap} (x_i y_n : Int32) {i n : Nat} (h_i : x_i = nI i) (h_n : y_n = nI n) (hin : i < n) (hn2 : n < 2147483648) (o : Option Nat) : fM E yJ14_checkIndex prog_86_method_11_code 3 (some .int) 1 0 0 [.int x_i, .int y_n, va_rf o] H (fun r_ H' => r_ = some (.int x_i) ∧ H' = H) noX := by
  cases o with
  | none =>
    refine f_start (own := "jdk/internal/util/Preconditions") (nm := "checkIndex") (lv := [(0, .int x_i), (1, .int y_n), (2, .null)]) pn_J14 rfl rfl (Nat.le_of_ble_eq_true rfl) rfl (fun Z K X => ?_)
    refine f_iload_n K dJ14_checkIndex_0 rfl ?_
    refine f_if_lt (tgt := 9) K dJ14_checkIndex_1 (by decide) (fun c_1 => ?_) (fun c_1 => ?_)
    · exact absurd c_1 (by rw [h_i]; exact nI_pos (by omega))
    · refine f_iload_n K dJ14_checkIndex_4 rfl ?_
      refine f_iload_n K dJ14_checkIndex_5 rfl ?_
      refine f_icmp_lt (tgt := 16) K dJ14_checkIndex_6 (by decide) (fun c_6 => ?_) (fun c_6 => ?_)
      · refine f_iload_n K dJ14_checkIndex_16 rfl ?_
        exact f_retI K X (Or.inl rfl) dJ14_checkIndex_17 (Nat.le_of_ble_eq_true rfl) (Nat.le_of_ble_eq_true rfl) (⟨rfl, rfl⟩)
      · exact absurd (by rw [h_i, h_n]; exact nI_lt hin (by omega)) c_6
  | some o =>
    refine f_start (own := "jdk/internal/util/Preconditions") (nm := "checkIndex") (lv := [(0, .int x_i), (1, .int y_n), (2, .ref o)]) pn_J14 rfl rfl (Nat.le_of_ble_eq_true rfl) rfl (fun Z K X => ?_)
    refine f_iload_n K dJ14_checkIndex_0 rfl ?_
    refine f_if_lt (tgt := 9) K dJ14_checkIndex_1 (by decide) (fun c_1 => ?_) (fun c_1 => ?_)
    · exact absurd c_1 (by rw [h_i]; exact nI_pos (by omega))
    · refine f_iload_n K dJ14_checkIndex_4 rfl ?_
      refine f_iload_n K dJ14_checkIndex_5 rfl ?_
      refine f_icmp_lt (tgt := 16) K dJ14_checkIndex_6 (by decide) (fun c_6 => ?_) (fun c_6 => ?_)
      · refine f_iload_n K dJ14_checkIndex_16 rfl ?_
        exact f_retI K X (Or.inl rfl) dJ14_checkIndex_17 (Nat.le_of_ble_eq_true rfl) (Nat.le_of_ble_eq_true rfl) (⟨rfl, rfl⟩)
      · exact absurd (by rw [h_i, h_n]; exact nI_lt hin (by omega)) c_6
/-- java/lang/String.checkIndex(II)V -/
theorem js_checkIndex {E : fE} {H : Heap} (x_i y_n : Int32) {i n : Nat} (h_i : x_i = nI i) (h_n : y_n = nI n) (hin : i < n) (hn2 : n < 2147483648) : fM E yJ9_checkIndex prog_39_method_155_code 2 none 2 0 0 [.int x_i, .int y_n] H (fun r_ H' => r_ = none ∧ H' = H) noX := by
  refine f_start (own := "java/lang/String") (nm := "checkIndex") (lv := [(0, .int x_i), (1, .int y_n)]) pn_J9 rfl rfl (Nat.le_of_ble_eq_true rfl) rfl (fun Z K X => ?_)
  refine f_iload_n K dJ9_checkIndex_0 rfl ?_
  refine f_iload_n K dJ9_checkIndex_1 rfl ?_
  obtain ⟨o, ho⟩ := zq_SIOOBE K.ok
  refine f_gets (v := va_rf o) K ho q512 (Or.inl rfl) dJ9_checkIndex_2 ?_
  refine f_invS (As := [.int x_i, .int y_n, va_rf o]) (rest := []) K (jp_checkIndex (E := E) x_i y_n h_i h_n (by omega) (by omega) o) cs_J9_1059 dJ9_checkIndex_5 rfl rfl (Nat.le_of_ble_eq_true rfl) (Nat.le_of_ble_eq_true rfl) (Nat.le_of_ble_eq_true rfl) (Nat.le_of_ble_eq_true rfl) (fun r_v H1 hq hz => ?_) (fun _ _ _ h9 _ _ => h9.elim)
  obtain ⟨rfl, hq⟩ := hq
  rw [hq]
  change Go E Z 2 H (0) (0) 8 [(0, .int x_i), (1, .int y_n)] [.int x_i]
  refine f_pop K dJ9_checkIndex_8 rfl ?_
  exact f_retV K X rfl dJ9_checkIndex_9 (Nat.le_of_ble_eq_true rfl) (Nat.le_of_ble_eq_true rfl) (⟨rfl, rfl⟩)
/-- java/lang/StringLatin1.charAt([BI)C -/
theorem jl_charAt {E : fE} {H : Heap} {v n : Nat} {f : Row} (hv : wtat E .byte v n (fun j => .int (f j)) H) (x_i : Int32) {i : Nat} (h_i : x_i = nI i) (hin : i < n) (hn2 : n < 2147483648) : fM E yJ15_charAt prog_42_method_2_code 2 (some .char) 3 0 0 [.ref v, .int x_i] H (fun r_ H' => r_ = some (.int (((f i &&& 255).toUInt32 % 65536).toInt32)) ∧ H' = H) noX := by
  refine f_start (own := "java/lang/StringLatin1") (nm := "charAt") (lv := [(0, .ref v), (1, .int x_i)]) pn_J15 rfl rfl (Nat.le_of_ble_eq_true rfl) rfl (fun Z K X => ?_)
  refine f_iload_n K dJ15_charAt_0 rfl ?_
  refine f_aload_n K dJ15_charAt_1 rfl ?_
  refine f_alenw K dJ15_charAt_2 hv ?_
  refine f_invS (As := [.int x_i, .int (nI n)]) (rest := []) K (js_checkIndex (E := E) x_i (nI n) h_i rfl hin (by omega)) cs_J15_9 dJ15_charAt_3 rfl rfl (Nat.le_of_ble_eq_true rfl) (Nat.le_of_ble_eq_true rfl) (Nat.le_of_ble_eq_true rfl) (Nat.le_of_ble_eq_true rfl) (fun r_v H1 hq hz => ?_) (fun _ _ _ h9 _ _ => h9.elim)
  obtain ⟨rfl, hq⟩ := hq
  rw [hq]
  change Go E Z 2 H (0) (0) 6 [(0, .ref v), (1, .int x_i)] []
  refine f_aload_n K dJ15_charAt_6 rfl ?_
  refine f_iload_n K dJ15_charAt_7 rfl ?_
  refine f_baldw (j := i) K dJ15_charAt_8 hv h_i (by omega) (by omega) ?_
  refine f_sipush (v := 255) K dJ15_charAt_9 rfl ?_
  refine f_iand K dJ15_charAt_12 ?_
  refine f_i2c (v := (((f i) &&& 255).toUInt32 % 65536).toInt32) K dJ15_charAt_13 rfl ?_
  exact f_retN K X rfl (pk_nc _) dJ15_charAt_14 (Nat.le_of_ble_eq_true rfl) (Nat.le_of_ble_eq_true rfl) (⟨rfl, rfl⟩)
/-- java/lang/String.charAt(I)C -/
theorem js_charAt {E : fE} {H : Heap} {q v n : Nat} {f : Row} {h z : Int32} (hs : sat E q v n f h z H) (x_i : Int32) {i : Nat} (h_i : x_i = nI i) (hin : i < n) (hn2 : n < 2147483648) : fM E yJ9_charAt prog_39_method_56_code 2 (some .char) 5 0 0 [.ref q, .int x_i] H (fun r_ H' => r_ = some (.int (((f i &&& 255).toUInt32 % 65536).toInt32)) ∧ H' = H) noX := by
  refine f_start (own := "java/lang/String") (nm := "charAt") (lv := [(0, .ref q), (1, .int x_i)]) pn_J9 rfl rfl (Nat.le_of_ble_eq_true rfl) rfl (fun Z K X => ?_)
  refine f_aload_n K dJ9_charAt_0 rfl ?_
  refine f_invVc (As := []) (rest := []) K (js_isLatin1 (E := E) hs) cs_J9_492 dJ9_charAt_1 hs.1 rfl rfl rfl (Nat.le_of_ble_eq_true rfl) (Nat.le_of_ble_eq_true rfl) (Nat.le_of_ble_eq_true rfl) (Nat.le_of_ble_eq_true rfl) (fun r_v H1 hq hz => ?_) (fun _ _ _ h9 _ _ => h9.elim)
  obtain ⟨rfl, hq⟩ := hq
  rw [hq]
  change Go E Z 2 H (0) (0) 4 [(0, .ref q), (1, .int x_i)] [.int 1]
  refine f_if_eq (tgt := 16) K dJ9_charAt_4 (by decide) (fun c_4 => ?_) (fun c_4 => ?_)
  · exact absurd c_4 (by decide)
  · refine f_aload_n K dJ9_charAt_7 rfl ?_
    refine f_getw (v := .ref v) K fl_J9_9_J9 dJ9_charAt_8 hs.1 rfl ?_
    refine f_iload_n K dJ9_charAt_11 rfl ?_
    refine f_invS (As := [.ref v, .int x_i]) (rest := []) K (jl_charAt (E := E) hs.2 x_i h_i hin (by omega)) cs_J9_495 dJ9_charAt_12 rfl rfl (Nat.le_of_ble_eq_true rfl) (Nat.le_of_ble_eq_true rfl) (Nat.le_of_ble_eq_true rfl) (Nat.le_of_ble_eq_true rfl) (fun r_v H3 hq hz => ?_) (fun _ _ _ h9 _ _ => h9.elim)
    obtain ⟨rfl, hq⟩ := hq
    rw [hq]
    change Go E Z 2 H (0) (0) 15 [(0, .ref q), (1, .int x_i)] [.int (((f i &&& 255).toUInt32 % 65536).toInt32)]
    exact f_retN K X rfl (pk_nc _) dJ9_charAt_15 (Nat.le_of_ble_eq_true rfl) (Nat.le_of_ble_eq_true rfl) (⟨rfl, rfl⟩)
/-- a text that stands below the law's start -/
def kst (E : fE) (q v n : Nat) (f : Row) (h z : Int32) : Prop := sat E q v n f h z E.s.heap ∧ q < E.lo ∧ v < E.lo
theorem kst.at {E : fE} {q v n : Nat} {f : Row} {h z : Int32} {H : Heap} (k : kst E q v n f h z) (low : ∀ q : Nat, q < E.lo → H[q]? = E.s.heap[q]?) : sat E q v n f h z H := k.1.k (low q k.2.1) (low v k.2.2)
theorem kst.of {E : fE} {q v n : Nat} {f : Row} {h z : Int32} (h1 : sat E q v n f h z E.s.heap) : kst E q v n f h z := ⟨h1, h1.1.lt, h1.2.lt⟩
