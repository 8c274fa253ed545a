/-! TWIN 7: contracts, the text -/
set_option maxRecDepth 100000
set_option maxHeartbeats 400000
theorem nl_59 : (59 : Int32) = nI 59 := rfl
theorem fl_X9_171_X9 : FL "SnowPassModel" 171 8 11 := ⟨RX9, TX9, 22, "SnowPassModel", rfl, in_X9, by decide, Or.inl rfl, Or.inl q3416⟩
theorem cs_X9_174 : CSV "SnowPassModel" 174 yX9_byteAt prog_17_method_51_code 2 (some .int) 1 := ⟨⟨by decide +kernel, by decide +kernel, by decide +kernel⟩, q3317, q3319, qs52, q161, q3320, by decide⟩
theorem fp_X9_177_X9 {nm : String} : FLp "SnowPassModel" 177 8 12 .int nm := ⟨RX9, TX9, 22, "SnowPassModel", tyX9, rfl, in_X9, by decide, Or.inl rfl, tyX9_ok, nmX9, by decide +kernel, Or.inl ⟨q3417, Or.inl rfl⟩⟩
theorem fp_X9_180_X9 {nm : String} : FLp "SnowPassModel" 180 8 13 .int nm := ⟨RX9, TX9, 22, "SnowPassModel", tyX9, rfl, in_X9, by decide, Or.inl rfl, tyX9_ok, nmX9, by decide +kernel, Or.inl ⟨q3418, Or.inl rfl⟩⟩
theorem fl_X9_177_X9 : FL "SnowPassModel" 177 8 12 := ⟨RX9, TX9, 22, "SnowPassModel", rfl, in_X9, by decide, Or.inl rfl, Or.inl q3417⟩
theorem fl_X9_180_X9 : FL "SnowPassModel" 180 8 13 := ⟨RX9, TX9, 22, "SnowPassModel", rfl, in_X9, by decide, Or.inl rfl, Or.inl q3418⟩
theorem fp_X9_171_X9 {nm : String} : FLp "SnowPassModel" 171 8 11 .int nm := ⟨RX9, TX9, 22, "SnowPassModel", tyX9, rfl, in_X9, by decide, Or.inl rfl, tyX9_ok, nmX9, by decide +kernel, Or.inl ⟨q3416, Or.inl rfl⟩⟩
theorem fl_X9_187_X9 : FL "SnowPassModel" 187 8 14 := ⟨RX9, TX9, 22, "SnowPassModel", rfl, in_X9, by decide, Or.inl rfl, Or.inl q3419⟩
theorem fp_X9_187_X9 {nm : String} : FLp "SnowPassModel" 187 8 14 .int nm := ⟨RX9, TX9, 22, "SnowPassModel", tyX9, rfl, in_X9, by decide, Or.inl rfl, tyX9_ok, nmX9, by decide +kernel, Or.inl ⟨q3419, Or.inl rfl⟩⟩
theorem fp_X9_190_X9 {nm : String} : FLp "SnowPassModel" 190 8 15 .int nm := ⟨RX9, TX9, 22, "SnowPassModel", tyX9, rfl, in_X9, by decide, Or.inl rfl, tyX9_ok, nmX9, by decide +kernel, Or.inl ⟨q3420, Or.inl rfl⟩⟩
theorem cs_X9_193 : CSV "SnowPassModel" 193 yX9_next prog_17_method_52_code 1 (some .int) 0 := ⟨⟨by decide +kernel, by decide +kernel, by decide +kernel⟩, q3313, q3315, qs51, q161, q3316, by decide⟩
theorem cs_X9_40 : CSV "SnowPassModel" 40 yJ9_length prog_39_method_54_code 1 (some .int) 0 := ⟨⟨by decide +kernel, by decide +kernel, by decide +kernel⟩, q3277, q527, q528, q137, q529, by decide⟩
theorem cs_X9_46 : CSV "SnowPassModel" 46 yJ9_charAt prog_39_method_56_code 2 (some .char) 1 := ⟨⟨by decide +kernel, by decide +kernel, by decide +kernel⟩, q3278, q3279, q3280, q137, q3281, by decide⟩
theorem cs_X9_196 : CSV "SnowPassModel" 196 yX9_sees prog_17_method_54_code 4 (some .boolean) 1 := ⟨⟨by decide +kernel, by decide +kernel, by decide +kernel⟩, q3309, q3311, qs50, q161, q3312, by decide⟩
theorem cs_X9_200 : CSV "SnowPassModel" 200 yX9_must prog_17_method_53_code 3 none 2 := ⟨⟨by decide +kernel, by decide +kernel, by decide +kernel⟩, q3326, q3328, qs53, q161, q3329, by decide⟩
theorem cs_X9_204 : CSV "SnowPassModel" 204 yX9_goesPast prog_17_method_55_code 1 none 0 := ⟨⟨by decide +kernel, by decide +kernel, by decide +kernel⟩, q3330, q3332, qs54, q161, q3333, by decide⟩
theorem cs_X9_215 : CSV "SnowPassModel" 215 yX9_sideHere prog_17_method_59_code 1 (some .int) 0 := ⟨⟨by decide +kernel, by decide +kernel, by decide +kernel⟩, q3376, q3378, qs64, q161, q3379, by decide⟩
theorem fp_X9_220_X9 {nm : String} : FLp "SnowPassModel" 220 8 16 .int nm := ⟨RX9, TX9, 22, "SnowPassModel", tyX9, rfl, in_X9, by decide, Or.inl rfl, tyX9_ok, nmX9, by decide +kernel, Or.inl ⟨q3421, Or.inl rfl⟩⟩
theorem fl_X9_190_X9 : FL "SnowPassModel" 190 8 15 := ⟨RX9, TX9, 22, "SnowPassModel", rfl, in_X9, by decide, Or.inl rfl, Or.inl q3420⟩
theorem fp_X9_28_X9 {nm : String} : FLp "SnowPassModel" 28 8 17 .int nm := ⟨RX9, TX9, 22, "SnowPassModel", tyX9, rfl, in_X9, by decide, Or.inl rfl, tyX9_ok, nmX9, by decide +kernel, Or.inl ⟨q3422, Or.inl rfl⟩⟩
/-- byteAt(I)I -/
theorem tm_byteAt {E : fE} {H : Heap} {m : Nat} {ad : Nat → Nat} {sc f0 f1 f2 f3 f4 fb ft fo : Row} (ht : twAt E H m ad sc f0 f1 f2 f3 f4 fb ft fo) (x_k : Int32) {k : Nat} (h_k : x_k = nI k) {l : Nat} (hl : sc 10 = nI l) (hl2 : l ≤ 700) (hkb : k < 2147483648) : fM E yX9_byteAt prog_17_method_51_code 2 (some .int) 1 0 0 [.ref m, .int x_k] H (fun r_ H' => r_ = some (.int (bt fb l k)) ∧ H' = H) noX := by
  refine f_start (own := "SnowPassModel") (nm := "byteAt") (lv := [(0, .ref m), (1, .int x_k)]) pn_X9 rfl rfl (Nat.le_of_ble_eq_true rfl) rfl (fun Z K X => ?_)
  refine f_iload_n K dX9_byteAt_0 rfl ?_
  refine f_aload_n K dX9_byteAt_1 rfl ?_
  refine f_get (v := .int (sc 10)) K fl_X9_50_X9 dX9_byteAt_2 (tw_o ht) rfl ?_
  refine f_icmp_ge (tgt := 17) K dX9_byteAt_5 (by decide) (fun c_5 => ?_) (fun c_5 => ?_)
  · have hkl : ¬ k < l := fun z => absurd c_5 (by rw [h_k, hl]; exact nI_ge z (by omega))
    refine f_iconst (v := (-1)) K dX9_byteAt_17 rfl ?_
    exact f_retI K X (Or.inl rfl) dX9_byteAt_18 (Nat.le_of_ble_eq_true rfl) (Nat.le_of_ble_eq_true rfl) (⟨rI (by unfold bt; rw [if_neg hkl]), rfl⟩)
  · have hkl : k < l := (Nat.lt_or_ge k l).elim id (fun z => absurd (by rw [h_k, hl]; exact nI_le z (by omega)) c_5)
    refine f_aload_n K dX9_byteAt_8 rfl ?_
    refine f_get (v := .ref (ad 9)) K fl_X9_25_X9 dX9_byteAt_9 (tw_o ht) rfl ?_
    refine f_iload_n K dX9_byteAt_12 rfl ?_
    refine f_iald (j := k) K dX9_byteAt_13 (tw_a9 ht) h_k (by omega) (by decide) ?_
    refine f_goto (tgt := 18) K dX9_byteAt_14 (by decide) ?_
    exact f_retI K X (Or.inl rfl) dX9_byteAt_18 (Nat.le_of_ble_eq_true rfl) (Nat.le_of_ble_eq_true rfl) (⟨rI (by unfold bt; rw [if_pos hkl]), rfl⟩)
theorem psk_t {fb : Row} {l d a : Nat} (c : bt fb l a = 32) : psk fb l (d + 1) a = psk fb l d (a + 1) := if_pos c
theorem psk_f {fb : Row} {l d a : Nat} (c : ¬ bt fb l a = 32) : psk fb l d a = a := by
  cases d with
  | zero => rfl
  | succ d => exact if_neg c
theorem pwl_t {fb : Row} {l d a : Nat} (c : isL (bt fb l a)) : pwl fb l (d + 1) a = pwl fb l d (a + 1) + 1 := if_pos c
theorem pwl_f {fb : Row} {l d a w : Nat} (c : ¬ isL (bt fb l (a + w))) : w + pwl fb l d (a + w) = w := by
  cases d with
  | zero => rfl
  | succ d => exact congrArg (w + ·) (if_neg c)
/-- next()I -/
theorem tm_next {E : fE} {H : Heap} {m : Nat} {ad : Nat → Nat} {sc f0 f1 f2 f3 f4 fb ft fo : Row} {T : PT} (ht : twAt E H m ad (psc sc T) f0 f1 f2 f3 f4 fb ft fo)  {l : Nat} (hl : sc 10 = nI l) (hl2 : l ≤ 700) (hb : T.a ≤ 1000) : fM E yX9_next prog_17_method_52_code 1 (some .int) 2 0 0 [.ref m] H (fun r_ H' => r_ = some (.int (bt fb l (pnx fb l T).a)) ∧ twAt E H' m ad (psc sc (pnx fb l T)) f0 f1 f2 f3 f4 fb ft fo ∧ twK m ad H H') noX := by
  refine f_start (own := "SnowPassModel") (nm := "next") (lv := [(0, .ref m)]) pn_X9 rfl rfl (Nat.le_of_ble_eq_true rfl) rfl (fun Z K X => ?_)
  have hk := twK.rf (m := m) (ad := ad) (H := H)
  have loop1 : ∀ (d : Nat) (a : Nat) (G : Heap), d = l - a → psk fb l (l - T.a) T.a = psk fb l d a → a ≤ 1000 → twAt E G m ad (psc sc (a, T.b, T.w, T.e, T.x)) f0 f1 f2 f3 f4 fb ft fo → twK m ad H G → Go E Z 1 G (0) (0) 0 [(0, .ref m)] [] := by
    intro d
    induction d with
    | zero =>
      intro a G hd hu ha ht hk
      refine f_aload_n K dX9_next_0 rfl ?_
      refine f_aload_n K dX9_next_1 rfl ?_
      refine f_get (v := .int (nI a)) K fl_X9_171_X9 dX9_next_2 (tw_o ht) rfl ?_
      refine f_invV (As := [.int (nI a)]) (rest := []) K (tm_byteAt (E := E) (k := a) ht (nI a) rfl hl hl2 (by omega)) cs_X9_174 dX9_next_5 (tw_o ht) rfl rfl rfl (Nat.le_of_ble_eq_true rfl) (Nat.le_of_ble_eq_true rfl) (Nat.le_of_ble_eq_true rfl) (Nat.le_of_ble_eq_true rfl) (fun v H1 hq hz => ?_) (fun _ _ _ h9 _ _ => h9.elim)
      obtain ⟨rfl, hq⟩ := hq
      rw [hq]
      change Go E Z 1 G (0) (0) 8 [(0, .ref m)] [.int (bt fb l a)]
      refine f_bipush (v := 32) K dX9_next_8 rfl ?_
      refine f_icmp_ne (tgt := 26) K dX9_next_10 (by decide) (fun c_10 => ?_) (fun c_10 => ?_)
      · have hu2 : psk fb l (l - T.a) T.a = a := hu.trans (psk_f c_10)
        refine f_aload_n K dX9_next_26 rfl ?_
        refine f_aload_n K dX9_next_27 rfl ?_
        refine f_get (v := .int (nI a)) K fl_X9_171_X9 dX9_next_28 (tw_o ht) rfl ?_
        refine f_put K fp_X9_177_X9 dX9_next_31 (tw_o ht) (tw_lo ht) (Nat.le_of_ble_eq_true rfl) rfl rfl (fun H3 hU ho => ?_)
        have ht := tw_put (sc' := upd (psc sc (a, T.b, T.w, T.e, T.x)) 12 (nI a)) ht hU ho rfl
        have hk := hk.put hU
        rw [psc_12 (h := rfl)] at ht
        have ht : twAt E H3 m ad (psc sc (a, a, T.w, T.e, T.x)) f0 f1 f2 f3 f4 fb ft fo := ht
        refine f_aload_n K dX9_next_34 rfl ?_
        refine f_iconst (v := 0) K dX9_next_35 rfl ?_
        refine f_put K fp_X9_180_X9 dX9_next_36 (tw_o ht) (tw_lo ht) (Nat.le_of_ble_eq_true rfl) rfl rfl (fun H4 hU ho => ?_)
        have ht := tw_put (sc' := upd (psc sc (a, a, T.w, T.e, T.x)) 13 0) ht hU ho rfl
        have hk := hk.put hU
        rw [psc_13 (h := nl_0)] at ht
        have ht : twAt E H4 m ad (psc sc (a, a, 0, T.e, T.x)) f0 f1 f2 f3 f4 fb ft fo := ht
        have loop2 : ∀ (d : Nat) (w : Nat) (G : Heap), d = l - (a + w) → pwl fb l (l - a) a = w + pwl fb l d (a + w) → w ≤ 700 → twAt E G m ad (psc sc (a, a, w, T.e, T.x)) f0 f1 f2 f3 f4 fb ft fo → twK m ad H G → Go E Z 1 G (0) (0) 39 [(0, .ref m)] [] := by
          intro d
          induction d with
          | zero =>
            intro w G he hw hv ht hk
            refine f_aload_n K dX9_next_39 rfl ?_
            refine f_aload_n K dX9_next_40 rfl ?_
            refine f_get (v := .int (nI a)) K fl_X9_177_X9 dX9_next_41 (tw_o ht) rfl ?_
            refine f_aload_n K dX9_next_44 rfl ?_
            refine f_get (v := .int (nI w)) K fl_X9_180_X9 dX9_next_45 (tw_o ht) rfl ?_
            refine f_iadd K dX9_next_48 ?_
            refine f_invV (As := [.int ((nI a) + (nI w))]) (rest := []) K (tm_byteAt (E := E) (k := (a + w)) ht ((nI a) + (nI w)) (nia rfl rfl) hl hl2 (by omega)) cs_X9_174 dX9_next_49 (tw_o ht) rfl rfl rfl (Nat.le_of_ble_eq_true rfl) (Nat.le_of_ble_eq_true rfl) (Nat.le_of_ble_eq_true rfl) (Nat.le_of_ble_eq_true rfl) (fun v H5 hq hz => ?_) (fun _ _ _ h9 _ _ => h9.elim)
            obtain ⟨rfl, hq⟩ := hq
            rw [hq]
            change Go E Z 1 G (0) (0) 52 [(0, .ref m)] [.int (bt fb l (a + w))]
            refine f_i2l (v := (bt fb l (a + w)).toInt64) K dX9_next_52 rfl ?_
            refine f_ldc2 (v := 97) K q3321 dX9_next_53 ?_
            refine f_ldc2 (v := 122) K q3322 dX9_next_56 ?_
            refine f_invS (As := [.long ((bt fb l (a + w)).toInt64), .long 97, .long 122]) (rest := []) K (tm_in (E := E)  (bt fb l (a + w)) ((bt fb l (a + w)).toInt64) (by rfl) 97 97 (by rfl) 122 122 (by rfl)) cs_X9_62 dX9_next_59 rfl rfl (Nat.le_of_ble_eq_true rfl) (Nat.le_of_ble_eq_true rfl) (Nat.le_of_ble_eq_true rfl) (Nat.le_of_ble_eq_true rfl) (fun v H6 hq hz => ?_) (fun _ _ _ h9 _ _ => h9.elim)
            obtain ⟨rfl, hq⟩ := hq
            rw [hq]
            change Go E Z 1 G (0) (0) 62 [(0, .ref m)] [.int (bI (97 ≤ (bt fb l (a + w)) ∧ (bt fb l (a + w)) ≤ 122))]
            refine f_if_eqB (tgt := 78) K dX9_next_62 (by decide) (fun c_62 => ?_) (fun c_62 => ?_)
            · have hw2 : pwl fb l (l - a) a = w := hw.trans (pwl_f c_62)
              refine f_aload_n K dX9_next_78 rfl ?_
              refine f_aload_n K dX9_next_79 rfl ?_
              refine f_get (v := .int (nI a)) K fl_X9_171_X9 dX9_next_80 (tw_o ht) rfl ?_
              refine f_invV (As := [.int (nI a)]) (rest := []) K (tm_byteAt (E := E) (k := a) ht (nI a) rfl hl hl2 (by omega)) cs_X9_174 dX9_next_83 (tw_o ht) rfl rfl rfl (Nat.le_of_ble_eq_true rfl) (Nat.le_of_ble_eq_true rfl) (Nat.le_of_ble_eq_true rfl) (Nat.le_of_ble_eq_true rfl) (fun v H8 hq hz => ?_) (fun _ _ _ h9 _ _ => h9.elim)
              obtain ⟨rfl, hq⟩ := hq
              rw [hq]
              change Go E Z 1 G (0) (0) 86 [(0, .ref m)] [.int (bt fb l a)]
              exact f_retI K X (Or.inl rfl) dX9_next_86 (Nat.le_of_ble_eq_true rfl) (Nat.le_of_ble_eq_true rfl) (⟨rI (by rw [show pnx fb l T = (a, a, w, T.e, T.x) by unfold pnx; rw [hu2, hw2]]), by rw [show pnx fb l T = (a, a, w, T.e, T.x) by unfold pnx; rw [hu2, hw2]]; exact ht, hk⟩)
            · have := isL_lt c_62; omega
          | succ d ih =>
            intro w G he hw hv ht hk
            refine f_aload_n K dX9_next_39 rfl ?_
            refine f_aload_n K dX9_next_40 rfl ?_
            refine f_get (v := .int (nI a)) K fl_X9_177_X9 dX9_next_41 (tw_o ht) rfl ?_
            refine f_aload_n K dX9_next_44 rfl ?_
            refine f_get (v := .int (nI w)) K fl_X9_180_X9 dX9_next_45 (tw_o ht) rfl ?_
            refine f_iadd K dX9_next_48 ?_
            refine f_invV (As := [.int ((nI a) + (nI w))]) (rest := []) K (tm_byteAt (E := E) (k := (a + w)) ht ((nI a) + (nI w)) (nia rfl rfl) hl hl2 (by omega)) cs_X9_174 dX9_next_49 (tw_o ht) rfl rfl rfl (Nat.le_of_ble_eq_true rfl) (Nat.le_of_ble_eq_true rfl) (Nat.le_of_ble_eq_true rfl) (Nat.le_of_ble_eq_true rfl) (fun v H9 hq hz => ?_) (fun _ _ _ h9 _ _ => h9.elim)
            obtain ⟨rfl, hq⟩ := hq
            rw [hq]
            change Go E Z 1 G (0) (0) 52 [(0, .ref m)] [.int (bt fb l (a + w))]
            refine f_i2l (v := (bt fb l (a + w)).toInt64) K dX9_next_52 rfl ?_
            refine f_ldc2 (v := 97) K q3321 dX9_next_53 ?_
            refine f_ldc2 (v := 122) K q3322 dX9_next_56 ?_
            refine f_invS (As := [.long ((bt fb l (a + w)).toInt64), .long 97, .long 122]) (rest := []) K (tm_in (E := E)  (bt fb l (a + w)) ((bt fb l (a + w)).toInt64) (by rfl) 97 97 (by rfl) 122 122 (by rfl)) cs_X9_62 dX9_next_59 rfl rfl (Nat.le_of_ble_eq_true rfl) (Nat.le_of_ble_eq_true rfl) (Nat.le_of_ble_eq_true rfl) (Nat.le_of_ble_eq_true rfl) (fun v H10 hq hz => ?_) (fun _ _ _ h9 _ _ => h9.elim)
            obtain ⟨rfl, hq⟩ := hq
            rw [hq]
            change Go E Z 1 G (0) (0) 62 [(0, .ref m)] [.int (bI (97 ≤ (bt fb l (a + w)) ∧ (bt fb l (a + w)) ≤ 122))]
            refine f_if_eqB (tgt := 78) K dX9_next_62 (by decide) (fun c_62 => ?_) (fun c_62 => ?_)
            · have hw2 : pwl fb l (l - a) a = w := hw.trans (pwl_f c_62)
              refine f_aload_n K dX9_next_78 rfl ?_
              refine f_aload_n K dX9_next_79 rfl ?_
              refine f_get (v := .int (nI a)) K fl_X9_171_X9 dX9_next_80 (tw_o ht) rfl ?_
              refine f_invV (As := [.int (nI a)]) (rest := []) K (tm_byteAt (E := E) (k := a) ht (nI a) rfl hl hl2 (by omega)) cs_X9_174 dX9_next_83 (tw_o ht) rfl rfl rfl (Nat.le_of_ble_eq_true rfl) (Nat.le_of_ble_eq_true rfl) (Nat.le_of_ble_eq_true rfl) (Nat.le_of_ble_eq_true rfl) (fun v H12 hq hz => ?_) (fun _ _ _ h9 _ _ => h9.elim)
              obtain ⟨rfl, hq⟩ := hq
              rw [hq]
              change Go E Z 1 G (0) (0) 86 [(0, .ref m)] [.int (bt fb l a)]
              exact f_retI K X (Or.inl rfl) dX9_next_86 (Nat.le_of_ble_eq_true rfl) (Nat.le_of_ble_eq_true rfl) (⟨rI (by rw [show pnx fb l T = (a, a, w, T.e, T.x) by unfold pnx; rw [hu2, hw2]]), by rw [show pnx fb l T = (a, a, w, T.e, T.x) by unfold pnx; rw [hu2, hw2]]; exact ht, hk⟩)
            · refine f_aload_n K dX9_next_65 rfl ?_
              refine f_dup K dX9_next_66 rfl ?_
              refine f_get (v := .int (nI w)) K fl_X9_180_X9 dX9_next_67 (tw_o ht) rfl ?_
              refine f_iconst (v := 1) K dX9_next_70 rfl ?_
              refine f_iadd K dX9_next_71 ?_
              refine f_put K fp_X9_180_X9 dX9_next_72 (tw_o ht) (tw_lo ht) (Nat.le_of_ble_eq_true rfl) rfl rfl (fun H13 hU ho => ?_)
              have ht := tw_put (sc' := upd (psc sc (a, a, w, T.e, T.x)) 13 ((nI w) + 1)) ht hU ho rfl
              have hk := hk.put hU
              rw [psc_13 (h := (nia rfl nl_1))] at ht
              have ht : twAt E H13 m ad (psc sc (a, a, (w + 1), T.e, T.x)) f0 f1 f2 f3 f4 fb ft fo := ht
              refine f_goto (tgt := 39) K dX9_next_75 (by decide) ?_
              exact ih (w + 1) _ (by omega) (hw.trans (by show w + pwl fb l (d + 1) (a + w) = w + 1 + pwl fb l d (a + w + 1); rw [pwl_t c_62]; omega)) (by have := isL_lt c_62; omega) ht hk
        exact loop2 (l - a) 0 _ (by omega) (by rw [Nat.zero_add]; rfl) (by omega) ht hk
      · have := bt_lt c_10 (by decide); omega
    | succ d ih =>
      intro a G hd hu ha ht hk
      refine f_aload_n K dX9_next_0 rfl ?_
      refine f_aload_n K dX9_next_1 rfl ?_
      refine f_get (v := .int (nI a)) K fl_X9_171_X9 dX9_next_2 (tw_o ht) rfl ?_
      refine f_invV (As := [.int (nI a)]) (rest := []) K (tm_byteAt (E := E) (k := a) ht (nI a) rfl hl hl2 (by omega)) cs_X9_174 dX9_next_5 (tw_o ht) rfl rfl rfl (Nat.le_of_ble_eq_true rfl) (Nat.le_of_ble_eq_true rfl) (Nat.le_of_ble_eq_true rfl) (Nat.le_of_ble_eq_true rfl) (fun v H14 hq hz => ?_) (fun _ _ _ h9 _ _ => h9.elim)
      obtain ⟨rfl, hq⟩ := hq
      rw [hq]
      change Go E Z 1 G (0) (0) 8 [(0, .ref m)] [.int (bt fb l a)]
      refine f_bipush (v := 32) K dX9_next_8 rfl ?_
      refine f_icmp_ne (tgt := 26) K dX9_next_10 (by decide) (fun c_10 => ?_) (fun c_10 => ?_)
      · have hu2 : psk fb l (l - T.a) T.a = a := hu.trans (psk_f c_10)
        refine f_aload_n K dX9_next_26 rfl ?_
        refine f_aload_n K dX9_next_27 rfl ?_
        refine f_get (v := .int (nI a)) K fl_X9_171_X9 dX9_next_28 (tw_o ht) rfl ?_
        refine f_put K fp_X9_177_X9 dX9_next_31 (tw_o ht) (tw_lo ht) (Nat.le_of_ble_eq_true rfl) rfl rfl (fun H16 hU ho => ?_)
        have ht := tw_put (sc' := upd (psc sc (a, T.b, T.w, T.e, T.x)) 12 (nI a)) ht hU ho rfl
        have hk := hk.put hU
        rw [psc_12 (h := rfl)] at ht
        have ht : twAt E H16 m ad (psc sc (a, a, T.w, T.e, T.x)) f0 f1 f2 f3 f4 fb ft fo := ht
        refine f_aload_n K dX9_next_34 rfl ?_
        refine f_iconst (v := 0) K dX9_next_35 rfl ?_
        refine f_put K fp_X9_180_X9 dX9_next_36 (tw_o ht) (tw_lo ht) (Nat.le_of_ble_eq_true rfl) rfl rfl (fun H17 hU ho => ?_)
        have ht := tw_put (sc' := upd (psc sc (a, a, T.w, T.e, T.x)) 13 0) ht hU ho rfl
        have hk := hk.put hU
        rw [psc_13 (h := nl_0)] at ht
        have ht : twAt E H17 m ad (psc sc (a, a, 0, T.e, T.x)) f0 f1 f2 f3 f4 fb ft fo := ht
        have loop3 : ∀ (d : Nat) (w : Nat) (G : Heap), d = l - (a + w) → pwl fb l (l - a) a = w + pwl fb l d (a + w) → w ≤ 700 → twAt E G m ad (psc sc (a, a, w, T.e, T.x)) f0 f1 f2 f3 f4 fb ft fo → twK m ad H G → Go E Z 1 G (0) (0) 39 [(0, .ref m)] [] := by
          intro d
          induction d with
          | zero =>
            intro w G he hw hv ht hk
            refine f_aload_n K dX9_next_39 rfl ?_
            refine f_aload_n K dX9_next_40 rfl ?_
            refine f_get (v := .int (nI a)) K fl_X9_177_X9 dX9_next_41 (tw_o ht) rfl ?_
            refine f_aload_n K dX9_next_44 rfl ?_
            refine f_get (v := .int (nI w)) K fl_X9_180_X9 dX9_next_45 (tw_o ht) rfl ?_
            refine f_iadd K dX9_next_48 ?_
            refine f_invV (As := [.int ((nI a) + (nI w))]) (rest := []) K (tm_byteAt (E := E) (k := (a + w)) ht ((nI a) + (nI w)) (nia rfl rfl) hl hl2 (by omega)) cs_X9_174 dX9_next_49 (tw_o ht) rfl rfl rfl (Nat.le_of_ble_eq_true rfl) (Nat.le_of_ble_eq_true rfl) (Nat.le_of_ble_eq_true rfl) (Nat.le_of_ble_eq_true rfl) (fun v H18 hq hz => ?_) (fun _ _ _ h9 _ _ => h9.elim)
            obtain ⟨rfl, hq⟩ := hq
            rw [hq]
            change Go E Z 1 G (0) (0) 52 [(0, .ref m)] [.int (bt fb l (a + w))]
            refine f_i2l (v := (bt fb l (a + w)).toInt64) K dX9_next_52 rfl ?_
            refine f_ldc2 (v := 97) K q3321 dX9_next_53 ?_
            refine f_ldc2 (v := 122) K q3322 dX9_next_56 ?_
            refine f_invS (As := [.long ((bt fb l (a + w)).toInt64), .long 97, .long 122]) (rest := []) K (tm_in (E := E)  (bt fb l (a + w)) ((bt fb l (a + w)).toInt64) (by rfl) 97 97 (by rfl) 122 122 (by rfl)) cs_X9_62 dX9_next_59 rfl rfl (Nat.le_of_ble_eq_true rfl) (Nat.le_of_ble_eq_true rfl) (Nat.le_of_ble_eq_true rfl) (Nat.le_of_ble_eq_true rfl) (fun v H19 hq hz => ?_) (fun _ _ _ h9 _ _ => h9.elim)
            obtain ⟨rfl, hq⟩ := hq
            rw [hq]
            change Go E Z 1 G (0) (0) 62 [(0, .ref m)] [.int (bI (97 ≤ (bt fb l (a + w)) ∧ (bt fb l (a + w)) ≤ 122))]
            refine f_if_eqB (tgt := 78) K dX9_next_62 (by decide) (fun c_62 => ?_) (fun c_62 => ?_)
            · have hw2 : pwl fb l (l - a) a = w := hw.trans (pwl_f c_62)
              refine f_aload_n K dX9_next_78 rfl ?_
              refine f_aload_n K dX9_next_79 rfl ?_
              refine f_get (v := .int (nI a)) K fl_X9_171_X9 dX9_next_80 (tw_o ht) rfl ?_
              refine f_invV (As := [.int (nI a)]) (rest := []) K (tm_byteAt (E := E) (k := a) ht (nI a) rfl hl hl2 (by omega)) cs_X9_174 dX9_next_83 (tw_o ht) rfl rfl rfl (Nat.le_of_ble_eq_true rfl) (Nat.le_of_ble_eq_true rfl) (Nat.le_of_ble_eq_true rfl) (Nat.le_of_ble_eq_true rfl) (fun v H21 hq hz => ?_) (fun _ _ _ h9 _ _ => h9.elim)
              obtain ⟨rfl, hq⟩ := hq
              rw [hq]
              change Go E Z 1 G (0) (0) 86 [(0, .ref m)] [.int (bt fb l a)]
              exact f_retI K X (Or.inl rfl) dX9_next_86 (Nat.le_of_ble_eq_true rfl) (Nat.le_of_ble_eq_true rfl) (⟨rI (by rw [show pnx fb l T = (a, a, w, T.e, T.x) by unfold pnx; rw [hu2, hw2]]), by rw [show pnx fb l T = (a, a, w, T.e, T.x) by unfold pnx; rw [hu2, hw2]]; exact ht, hk⟩)
            · have := isL_lt c_62; omega
          | succ d ih =>
            intro w G he hw hv ht hk
            refine f_aload_n K dX9_next_39 rfl ?_
            refine f_aload_n K dX9_next_40 rfl ?_
            refine f_get (v := .int (nI a)) K fl_X9_177_X9 dX9_next_41 (tw_o ht) rfl ?_
            refine f_aload_n K dX9_next_44 rfl ?_
            refine f_get (v := .int (nI w)) K fl_X9_180_X9 dX9_next_45 (tw_o ht) rfl ?_
            refine f_iadd K dX9_next_48 ?_
            refine f_invV (As := [.int ((nI a) + (nI w))]) (rest := []) K (tm_byteAt (E := E) (k := (a + w)) ht ((nI a) + (nI w)) (nia rfl rfl) hl hl2 (by omega)) cs_X9_174 dX9_next_49 (tw_o ht) rfl rfl rfl (Nat.le_of_ble_eq_true rfl) (Nat.le_of_ble_eq_true rfl) (Nat.le_of_ble_eq_true rfl) (Nat.le_of_ble_eq_true rfl) (fun v H22 hq hz => ?_) (fun _ _ _ h9 _ _ => h9.elim)
            obtain ⟨rfl, hq⟩ := hq
            rw [hq]
            change Go E Z 1 G (0) (0) 52 [(0, .ref m)] [.int (bt fb l (a + w))]
            refine f_i2l (v := (bt fb l (a + w)).toInt64) K dX9_next_52 rfl ?_
            refine f_ldc2 (v := 97) K q3321 dX9_next_53 ?_
            refine f_ldc2 (v := 122) K q3322 dX9_next_56 ?_
            refine f_invS (As := [.long ((bt fb l (a + w)).toInt64), .long 97, .long 122]) (rest := []) K (tm_in (E := E)  (bt fb l (a + w)) ((bt fb l (a + w)).toInt64) (by rfl) 97 97 (by rfl) 122 122 (by rfl)) cs_X9_62 dX9_next_59 rfl rfl (Nat.le_of_ble_eq_true rfl) (Nat.le_of_ble_eq_true rfl) (Nat.le_of_ble_eq_true rfl) (Nat.le_of_ble_eq_true rfl) (fun v H23 hq hz => ?_) (fun _ _ _ h9 _ _ => h9.elim)
            obtain ⟨rfl, hq⟩ := hq
            rw [hq]
            change Go E Z 1 G (0) (0) 62 [(0, .ref m)] [.int (bI (97 ≤ (bt fb l (a + w)) ∧ (bt fb l (a + w)) ≤ 122))]
            refine f_if_eqB (tgt := 78) K dX9_next_62 (by decide) (fun c_62 => ?_) (fun c_62 => ?_)
            · have hw2 : pwl fb l (l - a) a = w := hw.trans (pwl_f c_62)
              refine f_aload_n K dX9_next_78 rfl ?_
              refine f_aload_n K dX9_next_79 rfl ?_
              refine f_get (v := .int (nI a)) K fl_X9_171_X9 dX9_next_80 (tw_o ht) rfl ?_
              refine f_invV (As := [.int (nI a)]) (rest := []) K (tm_byteAt (E := E) (k := a) ht (nI a) rfl hl hl2 (by omega)) cs_X9_174 dX9_next_83 (tw_o ht) rfl rfl rfl (Nat.le_of_ble_eq_true rfl) (Nat.le_of_ble_eq_true rfl) (Nat.le_of_ble_eq_true rfl) (Nat.le_of_ble_eq_true rfl) (fun v H25 hq hz => ?_) (fun _ _ _ h9 _ _ => h9.elim)
              obtain ⟨rfl, hq⟩ := hq
              rw [hq]
              change Go E Z 1 G (0) (0) 86 [(0, .ref m)] [.int (bt fb l a)]
              exact f_retI K X (Or.inl rfl) dX9_next_86 (Nat.le_of_ble_eq_true rfl) (Nat.le_of_ble_eq_true rfl) (⟨rI (by rw [show pnx fb l T = (a, a, w, T.e, T.x) by unfold pnx; rw [hu2, hw2]]), by rw [show pnx fb l T = (a, a, w, T.e, T.x) by unfold pnx; rw [hu2, hw2]]; exact ht, hk⟩)
            · refine f_aload_n K dX9_next_65 rfl ?_
              refine f_dup K dX9_next_66 rfl ?_
              refine f_get (v := .int (nI w)) K fl_X9_180_X9 dX9_next_67 (tw_o ht) rfl ?_
              refine f_iconst (v := 1) K dX9_next_70 rfl ?_
              refine f_iadd K dX9_next_71 ?_
              refine f_put K fp_X9_180_X9 dX9_next_72 (tw_o ht) (tw_lo ht) (Nat.le_of_ble_eq_true rfl) rfl rfl (fun H26 hU ho => ?_)
              have ht := tw_put (sc' := upd (psc sc (a, a, w, T.e, T.x)) 13 ((nI w) + 1)) ht hU ho rfl
              have hk := hk.put hU
              rw [psc_13 (h := (nia rfl nl_1))] at ht
              have ht : twAt E H26 m ad (psc sc (a, a, (w + 1), T.e, T.x)) f0 f1 f2 f3 f4 fb ft fo := ht
              refine f_goto (tgt := 39) K dX9_next_75 (by decide) ?_
              exact ih (w + 1) _ (by omega) (hw.trans (by show w + pwl fb l (d + 1) (a + w) = w + 1 + pwl fb l d (a + w + 1); rw [pwl_t c_62]; omega)) (by have := isL_lt c_62; omega) ht hk
        exact loop3 (l - a) 0 _ (by omega) (by rw [Nat.zero_add]; rfl) (by omega) ht hk
      · refine f_aload_n K dX9_next_13 rfl ?_
        refine f_dup K dX9_next_14 rfl ?_
        refine f_get (v := .int (nI a)) K fl_X9_171_X9 dX9_next_15 (tw_o ht) rfl ?_
        refine f_iconst (v := 1) K dX9_next_18 rfl ?_
        refine f_iadd K dX9_next_19 ?_
        refine f_put K fp_X9_171_X9 dX9_next_20 (tw_o ht) (tw_lo ht) (Nat.le_of_ble_eq_true rfl) rfl rfl (fun H27 hU ho => ?_)
        have ht := tw_put (sc' := upd (psc sc (a, T.b, T.w, T.e, T.x)) 11 ((nI a) + 1)) ht hU ho rfl
        have hk := hk.put hU
        rw [psc_11 (h := (nia rfl nl_1))] at ht
        have ht : twAt E H27 m ad (psc sc ((a + 1), T.b, T.w, T.e, T.x)) f0 f1 f2 f3 f4 fb ft fo := ht
        refine f_goto (tgt := 0) K dX9_next_23 (by decide) ?_
        exact ih (a + 1) _ (by omega) (hu.trans (psk_t c_10)) (by have := bt_lt c_10 (by decide); omega) ht hk
  exact loop1 (l - T.a) T.a _ rfl rfl hb ht hk
theorem pmu_1 {P : Prop} [Decidable P] {c : Int32} {T : PT} (h : P) : pmu P c T = T := if_pos h
theorem pmu_2 {P : Prop} [Decidable P] {c : Int32} {T : PT} (h : ¬ P) (e : ¬ T.e = 0) : pmu P c T = T := (if_neg h).trans (if_neg e)
theorem pmu_3 {P : Prop} [Decidable P] {c : Int32} {T : PT} (h : ¬ P) (e : T.e = 0) : pmu P c T = (T.a, T.b, T.w, c, nI T.b) := (if_neg h).trans (if_pos e)
/-- must(ZI)V -/
theorem tm_must {E : fE} {H : Heap} {m : Nat} {ad : Nat → Nat} {sc f0 f1 f2 f3 f4 fb ft fo : Row} {T : PT} (ht : twAt E H m ad (psc sc T) f0 f1 f2 f3 f4 fb ft fo) (P : Prop) [Decidable P] (c : Int32)  : fM E yX9_must prog_17_method_53_code 3 none 1 0 0 [.ref m, .int (bI P), .int c] H (fun r_ H' => r_ = none ∧ twAt E H' m ad (psc sc (pmu P c T)) f0 f1 f2 f3 f4 fb ft fo ∧ twK m ad H H') noX := by
  refine f_start (own := "SnowPassModel") (nm := "must") (lv := [(0, .ref m), (1, .int (bI P)), (2, .int c)]) pn_X9 rfl rfl (Nat.le_of_ble_eq_true rfl) rfl (fun Z K X => ?_)
  have hk := twK.rf (m := m) (ad := ad) (H := H)
  refine f_iload_n K dX9_must_0 rfl ?_
  refine f_if_neB (tgt := 11) K dX9_must_1 (by decide) (fun c_1 => ?_) (fun c_1 => ?_)
  · exact f_retV K X rfl dX9_must_11 (Nat.le_of_ble_eq_true rfl) (Nat.le_of_ble_eq_true rfl) (⟨rfl, by rw [pmu_1 c_1]; exact ht, hk⟩)
  · refine f_aload_n K dX9_must_4 rfl ?_
    refine f_get (v := .int T.e) K fl_X9_187_X9 dX9_must_5 (tw_o ht) rfl ?_
    refine f_if_eq (tgt := 12) K dX9_must_8 (by decide) (fun c_8 => ?_) (fun c_8 => ?_)
    · refine f_aload_n K dX9_must_12 rfl ?_
      refine f_iload_n K dX9_must_13 rfl ?_
      refine f_put K fp_X9_187_X9 dX9_must_14 (tw_o ht) (tw_lo ht) (Nat.le_of_ble_eq_true rfl) rfl rfl (fun H3 hU ho => ?_)
      have ht := tw_put (sc' := upd (psc sc T) 14 c) ht hU ho rfl
      have hk := hk.put hU
      rw [psc_14] at ht
      have ht : twAt E H3 m ad (psc sc (T.a, T.b, T.w, c, T.x)) f0 f1 f2 f3 f4 fb ft fo := ht
      refine f_aload_n K dX9_must_17 rfl ?_
      refine f_aload_n K dX9_must_18 rfl ?_
      refine f_get (v := .int (nI T.b)) K fl_X9_177_X9 dX9_must_19 (tw_o ht) rfl ?_
      refine f_put K fp_X9_190_X9 dX9_must_22 (tw_o ht) (tw_lo ht) (Nat.le_of_ble_eq_true rfl) rfl rfl (fun H4 hU ho => ?_)
      have ht := tw_put (sc' := upd (psc sc (T.a, T.b, T.w, c, T.x)) 15 (nI T.b)) ht hU ho rfl
      have hk := hk.put hU
      rw [psc_15] at ht
      have ht : twAt E H4 m ad (psc sc (T.a, T.b, T.w, c, nI T.b)) f0 f1 f2 f3 f4 fb ft fo := ht
      exact f_retV K X rfl dX9_must_25 (Nat.le_of_ble_eq_true rfl) (Nat.le_of_ble_eq_true rfl) (⟨rfl, by rw [pmu_3 c_1 c_8]; exact ht, hk⟩)
    · exact f_retV K X rfl dX9_must_11 (Nat.le_of_ble_eq_true rfl) (Nat.le_of_ble_eq_true rfl) (⟨rfl, by rw [pmu_2 c_1 c_8]; exact ht, hk⟩)
/-- goesPast()V -/
theorem tm_goesPast {E : fE} {H : Heap} {m : Nat} {ad : Nat → Nat} {sc f0 f1 f2 f3 f4 fb ft fo : Row} {T : PT} (ht : twAt E H m ad (psc sc T) f0 f1 f2 f3 f4 fb ft fo)   : fM E yX9_goesPast prog_17_method_55_code 1 none 1 0 0 [.ref m] H (fun r_ H' => r_ = none ∧ twAt E H' m ad (psc sc (pgo T)) f0 f1 f2 f3 f4 fb ft fo ∧ twK m ad H H') noX := by
  refine f_start (own := "SnowPassModel") (nm := "goesPast") (lv := [(0, .ref m)]) pn_X9 rfl rfl (Nat.le_of_ble_eq_true rfl) rfl (fun Z K X => ?_)
  have hk := twK.rf (m := m) (ad := ad) (H := H)
  refine f_aload_n K dX9_goesPast_0 rfl ?_
  refine f_aload_n K dX9_goesPast_1 rfl ?_
  refine f_get (v := .int (nI T.b)) K fl_X9_177_X9 dX9_goesPast_2 (tw_o ht) rfl ?_
  refine f_aload_n K dX9_goesPast_5 rfl ?_
  refine f_get (v := .int (nI T.w)) K fl_X9_180_X9 dX9_goesPast_6 (tw_o ht) rfl ?_
  refine f_iadd K dX9_goesPast_9 ?_
  refine f_put K fp_X9_171_X9 dX9_goesPast_10 (tw_o ht) (tw_lo ht) (Nat.le_of_ble_eq_true rfl) rfl rfl (fun H1 hU ho => ?_)
  have ht := tw_put (sc' := upd (psc sc T) 11 ((nI T.b) + (nI T.w))) ht hU ho rfl
  have hk := hk.put hU
  rw [psc_11 (h := (nia rfl rfl))] at ht
  have ht : twAt E H1 m ad (psc sc ((T.b + T.w), T.b, T.w, T.e, T.x)) f0 f1 f2 f3 f4 fb ft fo := ht
  exact f_retV K X rfl dX9_goesPast_13 (Nat.le_of_ble_eq_true rfl) (Nat.le_of_ble_eq_true rfl) (⟨rfl, ht, hk⟩)
/-- sees(Ljava/lang/String;)Z -/
theorem tm_sees {E : fE} {H : Heap} {m : Nat} {ad : Nat → Nat} {sc f0 f1 f2 f3 f4 fb ft fo : Row} {T : PT} (ht : twAt E H m ad (psc sc T) f0 f1 f2 f3 f4 fb ft fo) (q : Nat) {vq : Nat} {W : Row} {N : Nat} {ha za : Int32} (hw : kst E q vq N W ha za) (hN : N < 1000) (hW : ∀ k, k < N → ((W k &&& 255).toUInt32 % 65536).toInt32 = W k) {l : Nat} (hl : sc 10 = nI l) (hl2 : l ≤ 700) (hb : T.a ≤ 1000) : fM E yX9_sees prog_17_method_54_code 4 (some .boolean) 6 0 0 [.ref m, .ref q] H (fun r_ H' => r_ = some (.int (bI (psees fb l W N T))) ∧ twAt E H' m ad (psc sc (pnx fb l T)) f0 f1 f2 f3 f4 fb ft fo ∧ twK m ad H H') noX := by
  refine f_start (own := "SnowPassModel") (nm := "sees") (lv := [(0, .ref m), (1, .ref q)]) pn_X9 rfl rfl (Nat.le_of_ble_eq_true rfl) rfl (fun Z K X => ?_)
  have hna := pnx_a (fb := fb) (l := l) (T := T)
  have hnw := pnx_w (fb := fb) (l := l) (T := T)
  have hnb : (pnx fb l T).b = (pnx fb l T).a := rfl
  have hk := twK.rf (m := m) (ad := ad) (H := H)
  refine f_aload_n K dX9_sees_0 rfl ?_
  refine f_invV (As := []) (rest := []) K (tm_next (E := E)  ht hl hl2 hb) cs_X9_193 dX9_sees_1 (tw_o ht) rfl rfl rfl (Nat.le_of_ble_eq_true rfl) (Nat.le_of_ble_eq_true rfl) (Nat.le_of_ble_eq_true rfl) (Nat.le_of_ble_eq_true rfl) (fun v H1 hq hz => ?_) (fun _ _ _ h9 _ _ => h9.elim)
  obtain ⟨rfl, ht, hk1⟩ := hq
  have hk := hk.tr hk1
  have ht : twAt E H1 m ad (psc sc (pnx fb l T)) f0 f1 f2 f3 f4 fb ft fo := ht
  change Go E Z 4 H1 (0) (0) 4 [(0, .ref m), (1, .ref q)] [.int (bt fb l (pnx fb l T).a)]
  refine f_istore_n (lv' := [(2, .int (bt fb l (pnx fb l T).a)), (0, .ref m), (1, .ref q)]) K dX9_sees_4 (by decide) rfl ?_
  refine f_aload_n K dX9_sees_5 rfl ?_
  refine f_get (v := .int ((pnx fb l T).e)) K fl_X9_187_X9 dX9_sees_6 (tw_o ht) rfl ?_
  refine f_if_ne (tgt := 23) K dX9_sees_9 (by decide) (fun c_9 => ?_) (fun c_9 => ?_)
  · refine f_iconst (v := 0) K dX9_sees_23 rfl ?_
    exact f_retI K X (Or.inr ⟨rfl, Or.inl rfl⟩) dX9_sees_24 (Nat.le_of_ble_eq_true rfl) (Nat.le_of_ble_eq_true rfl) (⟨rI0 (fun z => c_9 z.1.1), ht, hk⟩)
  · refine f_aload_n K dX9_sees_12 rfl ?_
    refine f_get (v := .int (nI ((pnx fb l T).w))) K fl_X9_180_X9 dX9_sees_13 (tw_o ht) rfl ?_
    refine f_aload_n K dX9_sees_16 rfl ?_
    refine Go.low K (fun low _ => ?_)
    have hs4 := hw.at low
    refine f_invVc (As := []) (rest := [.int (nI ((pnx fb l T).w))]) K (js_length (E := E) hs4) cs_X9_40 dX9_sees_17 hs4.1 rfl rfl rfl (Nat.le_of_ble_eq_true rfl) (Nat.le_of_ble_eq_true rfl) (Nat.le_of_ble_eq_true rfl) (Nat.le_of_ble_eq_true rfl) (fun r_v H4 hq hz => ?_) (fun _ _ _ h9 _ _ => h9.elim)
    obtain ⟨rfl, hq⟩ := hq
    rw [hq]
    change Go E Z 4 H1 (0) (0) 20 [(2, .int (bt fb l (pnx fb l T).a)), (0, .ref m), (1, .ref q)] [.int (nI N), .int (nI ((pnx fb l T).w))]
    refine f_icmp_eq (tgt := 25) K dX9_sees_20 (by decide) (fun c_20 => ?_) (fun c_20 => ?_)
    · have hwN : (pnx fb l T).w = N := (nI_eq (by omega) (by omega)).mp c_20
      refine f_iconst (v := 0) K dX9_sees_25 rfl ?_
      refine f_istore_n (lv' := [(3, .int 0), (2, .int (bt fb l (pnx fb l T).a)), (0, .ref m), (1, .ref q)]) K dX9_sees_26 (by decide) rfl ?_
      have loop : ∀ (d i : Nat) (x_i : Int32) (G : Heap), x_i = nI i → i + d = N → (∀ k, k < i → bt fb l ((pnx fb l T).b + k) = W k) → Go E Z 4 H1 (0) (0) 27 [(3, .int x_i), (2, .int (bt fb l (pnx fb l T).a)), (0, .ref m), (1, .ref q)] [] := by
        intro d
        induction d with
        | zero =>
          intro i x_i G h_i hd hall
          refine f_iload_n K dX9_sees_27 rfl ?_
          refine f_aload_n K dX9_sees_28 rfl ?_
          refine f_get (v := .int (nI ((pnx fb l T).w))) K fl_X9_180_X9 dX9_sees_29 (tw_o ht) rfl ?_
          refine f_icmp_ge (tgt := 61) K dX9_sees_32 (by decide) (fun c_32 => ?_) (fun c_32 => ?_)
          · refine f_iconst (v := 1) K dX9_sees_61 rfl ?_
            exact f_retI K X (Or.inr ⟨rfl, Or.inr rfl⟩) dX9_sees_62 (Nat.le_of_ble_eq_true rfl) (Nat.le_of_ble_eq_true rfl) (⟨rI1 ⟨⟨c_9, hwN⟩, fun k hk9 => hall k (by omega)⟩, ht, hk⟩)
          · exact absurd (by rw [h_i, (congrArg nI hwN)]; exact nI_le (by omega) (by omega)) c_32
        | succ d ih =>
          intro i x_i G h_i hd hall
          refine f_iload_n K dX9_sees_27 rfl ?_
          refine f_aload_n K dX9_sees_28 rfl ?_
          refine f_get (v := .int (nI ((pnx fb l T).w))) K fl_X9_180_X9 dX9_sees_29 (tw_o ht) rfl ?_
          refine f_icmp_ge (tgt := 61) K dX9_sees_32 (by decide) (fun c_32 => ?_) (fun c_32 => ?_)
          · exact absurd c_32 (by rw [h_i, (congrArg nI hwN)]; exact nI_ge (by omega) (by omega))
          · refine f_aload_n K dX9_sees_35 rfl ?_
            refine f_aload_n K dX9_sees_36 rfl ?_
            refine f_get (v := .int (nI ((pnx fb l T).b))) K fl_X9_177_X9 dX9_sees_37 (tw_o ht) rfl ?_
            refine f_iload_n K dX9_sees_40 rfl ?_
            refine f_iadd K dX9_sees_41 ?_
            refine f_invV (As := [.int ((nI ((pnx fb l T).b)) + x_i)]) (rest := []) K (tm_byteAt (E := E) (k := ((pnx fb l T).b + i)) ht ((nI ((pnx fb l T).b)) + x_i) (nia rfl h_i) hl hl2 (by omega)) cs_X9_174 dX9_sees_42 (tw_o ht) rfl rfl rfl (Nat.le_of_ble_eq_true rfl) (Nat.le_of_ble_eq_true rfl) (Nat.le_of_ble_eq_true rfl) (Nat.le_of_ble_eq_true rfl) (fun v H8 hq hz => ?_) (fun _ _ _ h9 _ _ => h9.elim)
            obtain ⟨rfl, hq⟩ := hq
            rw [hq]
            change Go E Z 4 H1 (0) (0) 45 [(3, .int x_i), (2, .int (bt fb l (pnx fb l T).a)), (0, .ref m), (1, .ref q)] [.int (bt fb l ((pnx fb l T).b + i))]
            refine f_aload_n K dX9_sees_45 rfl ?_
            refine f_iload_n K dX9_sees_46 rfl ?_
            refine Go.low K (fun low _ => ?_)
            have hs9 := hw.at low
            refine f_invVc (As := [.int x_i]) (rest := [.int (bt fb l ((pnx fb l T).b + i))]) K (js_charAt (E := E) hs9 x_i h_i (by omega) (by omega)) cs_X9_46 dX9_sees_47 hs9.1 rfl rfl rfl (Nat.le_of_ble_eq_true rfl) (Nat.le_of_ble_eq_true rfl) (Nat.le_of_ble_eq_true rfl) (Nat.le_of_ble_eq_true rfl) (fun r_v H9 hq hz => ?_) (fun _ _ _ h9 _ _ => h9.elim)
            obtain ⟨rfl, hq⟩ := hq
            rw [hq]
            rw [hW _ (by omega)]
            change Go E Z 4 H1 (0) (0) 50 [(3, .int x_i), (2, .int (bt fb l (pnx fb l T).a)), (0, .ref m), (1, .ref q)] [.int (W i), .int (bt fb l ((pnx fb l T).b + i))]
            refine f_icmp_eq (tgt := 55) K dX9_sees_50 (by decide) (fun c_50 => ?_) (fun c_50 => ?_)
            · refine f_iinc (v := x_i + 1) (lv' := [(3, .int (x_i + 1)), (2, .int (bt fb l (pnx fb l T).a)), (0, .ref m), (1, .ref q)]) K dX9_sees_55 rfl rfl (by decide) rfl ?_
              refine f_goto (tgt := 27) K dX9_sees_58 (by decide) ?_
              exact ih ((i + 1)) _ H1 (nia h_i nl_1) (by omega) (fun k hk9 => (Nat.lt_succ_iff_lt_or_eq.mp hk9).elim (hall k) (fun z => by rw [z]; exact c_50))
            · refine f_iconst (v := 0) K dX9_sees_53 rfl ?_
              exact f_retI K X (Or.inr ⟨rfl, Or.inl rfl⟩) dX9_sees_54 (Nat.le_of_ble_eq_true rfl) (Nat.le_of_ble_eq_true rfl) (⟨rI0 (fun z => c_50 (z.2 i (by omega))), ht, hk⟩)
      exact loop (N) 0 _ H1 nl_0 (by omega) (fun k hk9 => absurd hk9 (Nat.not_lt_zero _))
    · have hwN : ¬ (pnx fb l T).w = N := fun z => c_20 (congrArg nI z)
      refine f_iconst (v := 0) K dX9_sees_23 rfl ?_
      exact f_retI K X (Or.inr ⟨rfl, Or.inl rfl⟩) dX9_sees_24 (Nat.le_of_ble_eq_true rfl) (Nat.le_of_ble_eq_true rfl) (⟨rI0 (fun z => hwN z.1.2), ht, hk⟩)
/-- keyword(Ljava/lang/String;)V -/
theorem tm_keyword {E : fE} {H : Heap} {m : Nat} {ad : Nat → Nat} {sc f0 f1 f2 f3 f4 fb ft fo : Row} {T : PT} (ht : twAt E H m ad (psc sc T) f0 f1 f2 f3 f4 fb ft fo) (q : Nat) {vq : Nat} {W : Row} {N : Nat} {ha za : Int32} (hw : kst E q vq N W ha za) (hN : N < 1000) (hW : ∀ k, k < N → ((W k &&& 255).toUInt32 % 65536).toInt32 = W k) {l : Nat} (hl : sc 10 = nI l) (hl2 : l ≤ 700) (hb : T.a ≤ 1000) : fM E yX9_keyword prog_17_method_56_code 2 none 7 0 0 [.ref m, .ref q] H (fun r_ H' => r_ = none ∧ twAt E H' m ad (psc sc (pkw fb l W N T)) f0 f1 f2 f3 f4 fb ft fo ∧ twK m ad H H') noX := by
  refine f_start (own := "SnowPassModel") (nm := "keyword") (lv := [(0, .ref m), (1, .ref q)]) pn_X9 rfl rfl (Nat.le_of_ble_eq_true rfl) rfl (fun Z K X => ?_)
  have hk := twK.rf (m := m) (ad := ad) (H := H)
  refine f_aload_n K dX9_keyword_0 rfl ?_
  refine f_aload_n K dX9_keyword_1 rfl ?_
  refine f_aload_n K dX9_keyword_2 rfl ?_
  refine f_invV (As := [.ref q]) (rest := [.ref m]) K (tm_sees (E := E)  ht q hw hN hW hl hl2 hb) cs_X9_196 dX9_keyword_3 (tw_o ht) rfl rfl rfl (Nat.le_of_ble_eq_true rfl) (Nat.le_of_ble_eq_true rfl) (Nat.le_of_ble_eq_true rfl) (Nat.le_of_ble_eq_true rfl) (fun v H1 hq hz => ?_) (fun _ _ _ h9 _ _ => h9.elim)
  obtain ⟨rfl, ht, hk1⟩ := hq
  have hk := hk.tr hk1
  have ht : twAt E H1 m ad (psc sc (pnx fb l T)) f0 f1 f2 f3 f4 fb ft fo := ht
  change Go E Z 2 H1 (0) (0) 6 [(0, .ref m), (1, .ref q)] [.int (bI (psees fb l W N T)), .ref m]
  refine f_iconst (v := 1) K dX9_keyword_6 rfl ?_
  refine f_invV (As := [.int (bI (psees fb l W N T)), .int 1]) (rest := []) K (tm_must (E := E)  ht (psees fb l W N T) 1) cs_X9_200 dX9_keyword_7 (tw_o ht) rfl rfl rfl (Nat.le_of_ble_eq_true rfl) (Nat.le_of_ble_eq_true rfl) (Nat.le_of_ble_eq_true rfl) (Nat.le_of_ble_eq_true rfl) (fun v H3 hq hz => ?_) (fun _ _ _ h9 _ _ => h9.elim)
  obtain ⟨rfl, ht, hk1⟩ := hq
  have hk := hk.tr hk1
  have ht : twAt E H3 m ad (psc sc (pmu (psees fb l W N T) 1 (pnx fb l T))) f0 f1 f2 f3 f4 fb ft fo := ht
  change Go E Z 2 H3 (0) (0) 10 [(0, .ref m), (1, .ref q)] []
  refine f_aload_n K dX9_keyword_10 rfl ?_
  refine f_invV (As := []) (rest := []) K (tm_goesPast (E := E)  ht ) cs_X9_204 dX9_keyword_11 (tw_o ht) rfl rfl rfl (Nat.le_of_ble_eq_true rfl) (Nat.le_of_ble_eq_true rfl) (Nat.le_of_ble_eq_true rfl) (Nat.le_of_ble_eq_true rfl) (fun v H5 hq hz => ?_) (fun _ _ _ h9 _ _ => h9.elim)
  obtain ⟨rfl, ht, hk1⟩ := hq
  have hk := hk.tr hk1
  have ht : twAt E H5 m ad (psc sc (pgo (pmu (psees fb l W N T) 1 (pnx fb l T)))) f0 f1 f2 f3 f4 fb ft fo := ht
  change Go E Z 2 H5 (0) (0) 14 [(0, .ref m), (1, .ref q)] []
  exact f_retV K X rfl dX9_keyword_14 (Nat.le_of_ble_eq_true rfl) (Nat.le_of_ble_eq_true rfl) (⟨rfl, ht, hk⟩)
theorem pmu_ff {P : Prop} [Decidable P] {c : Int32} {T : PT} (h : ¬ P) : pmu False c T = pmu P c T := by
  unfold pmu
  rw [if_neg h, if_neg (id : ¬ False)]
theorem pmu_tt {P : Prop} [Decidable P] {c : Int32} {T : PT} (h : P) : pmu True c T = pmu P c T := by rw [pmu_1 h, pmu_1 trivial]
theorem pmu_a {P : Prop} [Decidable P] {c : Int32} {T : PT} : (pmu P c T).a = T.a := by
  unfold pmu
  repeat' split
  all_goals rfl
theorem pmu_b {P : Prop} [Decidable P] {c : Int32} {T : PT} : (pmu P c T).b = T.b := by
  unfold pmu
  repeat' split
  all_goals rfl
theorem psemi_1 {fb : Row} {l : Nat} {T : PT} (e : T.e = 0) : psemi fb l T = ((pnx fb l T).a + 1, (pmu (bt fb l (pnx fb l T).a = 59) 1 (pnx fb l T)).2) := if_pos e
/-- semicolon()V -/
theorem tm_semicolon {E : fE} {H : Heap} {m : Nat} {ad : Nat → Nat} {sc f0 f1 f2 f3 f4 fb ft fo : Row} {T : PT} (ht : twAt E H m ad (psc sc T) f0 f1 f2 f3 f4 fb ft fo)  {l : Nat} (hl : sc 10 = nI l) (hl2 : l ≤ 700) (hb : T.a ≤ 1000) : fM E yX9_semicolon prog_17_method_57_code 1 none 3 0 0 [.ref m] H (fun r_ H' => r_ = none ∧ twAt E H' m ad (psc sc (psemi fb l T)) f0 f1 f2 f3 f4 fb ft fo ∧ twK m ad H H') noX := by
  refine f_start (own := "SnowPassModel") (nm := "semicolon") (lv := [(0, .ref m)]) pn_X9 rfl rfl (Nat.le_of_ble_eq_true rfl) rfl (fun Z K X => ?_)
  have hk := twK.rf (m := m) (ad := ad) (H := H)
  refine f_aload_n K dX9_semicolon_0 rfl ?_
  refine f_get (v := .int T.e) K fl_X9_187_X9 dX9_semicolon_1 (tw_o ht) rfl ?_
  refine f_if_eq (tgt := 8) K dX9_semicolon_4 (by decide) (fun c_4 => ?_) (fun c_4 => ?_)
  · refine f_aload_n K dX9_semicolon_8 rfl ?_
    refine f_aload_n K dX9_semicolon_9 rfl ?_
    refine f_invV (As := []) (rest := [.ref m]) K (tm_next (E := E)  ht hl hl2 hb) cs_X9_193 dX9_semicolon_10 (tw_o ht) rfl rfl rfl (Nat.le_of_ble_eq_true rfl) (Nat.le_of_ble_eq_true rfl) (Nat.le_of_ble_eq_true rfl) (Nat.le_of_ble_eq_true rfl) (fun v H2 hq hz => ?_) (fun _ _ _ h9 _ _ => h9.elim)
    obtain ⟨rfl, ht, hk1⟩ := hq
    have hk := hk.tr hk1
    have ht : twAt E H2 m ad (psc sc (pnx fb l T)) f0 f1 f2 f3 f4 fb ft fo := ht
    change Go E Z 1 H2 (0) (0) 13 [(0, .ref m)] [.int (bt fb l (pnx fb l T).a), .ref m]
    refine f_bipush (v := 59) K dX9_semicolon_13 rfl ?_
    refine f_icmp_ne (tgt := 22) K dX9_semicolon_15 (by decide) (fun c_15 => ?_) (fun c_15 => ?_)
    · refine f_iconst (v := 0) K dX9_semicolon_22 rfl ?_
      refine f_iconst (v := 1) K dX9_semicolon_23 rfl ?_
      refine f_invV (As := [.int 0, .int 1]) (rest := []) K (tm_must (E := E)  ht False 1) cs_X9_200 dX9_semicolon_24 (tw_o ht) rfl rfl rfl (Nat.le_of_ble_eq_true rfl) (Nat.le_of_ble_eq_true rfl) (Nat.le_of_ble_eq_true rfl) (Nat.le_of_ble_eq_true rfl) (fun v H5 hq hz => ?_) (fun _ _ _ h9 _ _ => h9.elim)
      obtain ⟨rfl, ht, hk1⟩ := hq
      have hk := hk.tr hk1
      have ht : twAt E H5 m ad (psc sc (pmu False 1 (pnx fb l T))) f0 f1 f2 f3 f4 fb ft fo := ht
      change Go E Z 1 H5 (0) (0) 27 [(0, .ref m)] []
      refine f_aload_n K dX9_semicolon_27 rfl ?_
      refine f_dup K dX9_semicolon_28 rfl ?_
      refine f_get (v := .int (nI ((pmu False 1 (pnx fb l T)).a))) K fl_X9_171_X9 dX9_semicolon_29 (tw_o ht) rfl ?_
      refine f_iconst (v := 1) K dX9_semicolon_32 rfl ?_
      refine f_iadd K dX9_semicolon_33 ?_
      refine f_put K fp_X9_171_X9 dX9_semicolon_34 (tw_o ht) (tw_lo ht) (Nat.le_of_ble_eq_true rfl) rfl rfl (fun H7 hU ho => ?_)
      have ht := tw_put (sc' := upd (psc sc (pmu False 1 (pnx fb l T))) 11 ((nI ((pmu False 1 (pnx fb l T)).a)) + 1)) ht hU ho rfl
      have hk := hk.put hU
      rw [psc_11 (h := (nia rfl nl_1))] at ht
      have ht : twAt E H7 m ad (psc sc (((pmu False 1 (pnx fb l T)).a + 1), (pmu False 1 (pnx fb l T)).b, (pmu False 1 (pnx fb l T)).w, (pmu False 1 (pnx fb l T)).e, (pmu False 1 (pnx fb l T)).x)) f0 f1 f2 f3 f4 fb ft fo := ht
      exact f_retV K X rfl dX9_semicolon_37 (Nat.le_of_ble_eq_true rfl) (Nat.le_of_ble_eq_true rfl) (⟨rfl, by rw [psemi_1 c_4, ← pmu_ff c_15]; rw [pmu_a] at ht; exact ht, hk⟩)
    · refine f_iconst (v := 1) K dX9_semicolon_18 rfl ?_
      refine f_goto (tgt := 23) K dX9_semicolon_19 (by decide) ?_
      refine f_iconst (v := 1) K dX9_semicolon_23 rfl ?_
      refine f_invV (As := [.int 1, .int 1]) (rest := []) K (tm_must (E := E)  ht True 1) cs_X9_200 dX9_semicolon_24 (tw_o ht) rfl rfl rfl (Nat.le_of_ble_eq_true rfl) (Nat.le_of_ble_eq_true rfl) (Nat.le_of_ble_eq_true rfl) (Nat.le_of_ble_eq_true rfl) (fun v H8 hq hz => ?_) (fun _ _ _ h9 _ _ => h9.elim)
      obtain ⟨rfl, ht, hk1⟩ := hq
      have hk := hk.tr hk1
      have ht : twAt E H8 m ad (psc sc (pmu True 1 (pnx fb l T))) f0 f1 f2 f3 f4 fb ft fo := ht
      change Go E Z 1 H8 (0) (0) 27 [(0, .ref m)] []
      refine f_aload_n K dX9_semicolon_27 rfl ?_
      refine f_dup K dX9_semicolon_28 rfl ?_
      refine f_get (v := .int (nI ((pmu True 1 (pnx fb l T)).a))) K fl_X9_171_X9 dX9_semicolon_29 (tw_o ht) rfl ?_
      refine f_iconst (v := 1) K dX9_semicolon_32 rfl ?_
      refine f_iadd K dX9_semicolon_33 ?_
      refine f_put K fp_X9_171_X9 dX9_semicolon_34 (tw_o ht) (tw_lo ht) (Nat.le_of_ble_eq_true rfl) rfl rfl (fun H10 hU ho => ?_)
      have ht := tw_put (sc' := upd (psc sc (pmu True 1 (pnx fb l T))) 11 ((nI ((pmu True 1 (pnx fb l T)).a)) + 1)) ht hU ho rfl
      have hk := hk.put hU
      rw [psc_11 (h := (nia rfl nl_1))] at ht
      have ht : twAt E H10 m ad (psc sc (((pmu True 1 (pnx fb l T)).a + 1), (pmu True 1 (pnx fb l T)).b, (pmu True 1 (pnx fb l T)).w, (pmu True 1 (pnx fb l T)).e, (pmu True 1 (pnx fb l T)).x)) f0 f1 f2 f3 f4 fb ft fo := ht
      exact f_retV K X rfl dX9_semicolon_37 (Nat.le_of_ble_eq_true rfl) (Nat.le_of_ble_eq_true rfl) (⟨rfl, by rw [psemi_1 c_4, ← pmu_tt c_15]; rw [pmu_a] at ht; exact ht, hk⟩)
  · exact f_retV K X rfl dX9_semicolon_7 (Nat.le_of_ble_eq_true rfl) (Nat.le_of_ble_eq_true rfl) (⟨rfl, by rw [show psemi fb l T = T from if_neg c_4]; exact ht, hk⟩)
theorem sw_211 : ∀ k, k < bs_X9_211.length → (((fun j => bs_X9_211.getD j 0) k &&& 255).toUInt32 % 65536).toInt32 = (fun j => bs_X9_211.getD j 0) k := by decide +kernel
theorem sw_213 : ∀ k, k < bs_X9_213.length → (((fun j => bs_X9_213.getD j 0) k &&& 255).toUInt32 % 65536).toInt32 = (fun j => bs_X9_213.getD j 0) k := by decide +kernel
theorem sw_218 : ∀ k, k < bs_X9_218.length → (((fun j => bs_X9_218.getD j 0) k &&& 255).toUInt32 % 65536).toInt32 = (fun j => bs_X9_218.getD j 0) k := by decide +kernel
theorem sw_223 : ∀ k, k < bs_X9_223.length → (((fun j => bs_X9_223.getD j 0) k &&& 255).toUInt32 % 65536).toInt32 = (fun j => bs_X9_223.getD j 0) k := by decide +kernel
theorem sw_241 : ∀ k, k < bs_X9_241.length → (((fun j => bs_X9_241.getD j 0) k &&& 255).toUInt32 % 65536).toInt32 = (fun j => bs_X9_241.getD j 0) k := by decide +kernel
theorem sw_246 : ∀ k, k < bs_X9_246.length → (((fun j => bs_X9_246.getD j 0) k &&& 255).toUInt32 % 65536).toInt32 = (fun j => bs_X9_246.getD j 0) k := by decide +kernel
theorem sw_272 : ∀ k, k < bs_X9_272.length → (((fun j => bs_X9_272.getD j 0) k &&& 255).toUInt32 % 65536).toInt32 = (fun j => bs_X9_272.getD j 0) k := by decide +kernel
theorem sw_274 : ∀ k, k < bs_X9_274.length → (((fun j => bs_X9_274.getD j 0) k &&& 255).toUInt32 % 65536).toInt32 = (fun j => bs_X9_274.getD j 0) k := by decide +kernel
theorem sw_276 : ∀ k, k < bs_X9_276.length → (((fun j => bs_X9_276.getD j 0) k &&& 255).toUInt32 % 65536).toInt32 = (fun j => bs_X9_276.getD j 0) k := by decide +kernel
theorem sw_278 : ∀ k, k < bs_X9_278.length → (((fun j => bs_X9_278.getD j 0) k &&& 255).toUInt32 % 65536).toInt32 = (fun j => bs_X9_278.getD j 0) k := by decide +kernel
theorem sw_280 : ∀ k, k < bs_X9_280.length → (((fun j => bs_X9_280.getD j 0) k &&& 255).toUInt32 % 65536).toInt32 = (fun j => bs_X9_280.getD j 0) k := by decide +kernel
theorem sw_282 : ∀ k, k < bs_X9_282.length → (((fun j => bs_X9_282.getD j 0) k &&& 255).toUInt32 % 65536).toInt32 = (fun j => bs_X9_282.getD j 0) k := by decide +kernel
theorem sw_284 : ∀ k, k < bs_X9_284.length → (((fun j => bs_X9_284.getD j 0) k &&& 255).toUInt32 % 65536).toInt32 = (fun j => bs_X9_284.getD j 0) k := by decide +kernel
abbrev w_west : Row := fun j => bs_X9_211.getD j 0
abbrev w_east : Row := fun j => bs_X9_213.getD j 0
abbrev w_chains : Row := fun j => bs_X9_218.getD j 0
/-- the side that stands here -/
def pside (fb : Row) (l : Nat) (T : PT) : Int32 := if psees fb l w_west 4 T then 0 else 1
def psideT (fb : Row) (l : Nat) (T : PT) : PT := if psees fb l w_west 4 T then pnx fb l T else pmu (psees fb l w_east 4 (pnx fb l T)) 1 (pnx fb l (pnx fb l T))
def pchn (fb : Row) (l : Nat) (T : PT) : Int32 := if psees fb l w_chains 6 T then 1 else 0
def pchnT (fb : Row) (l : Nat) (T : PT) : PT := if psees fb l w_chains 6 T then pgo (pnx fb l T) else pnx fb l T
theorem pval_t {fb : Row} {l b d a : Nat} {v : Int32} (c : isD (bt fb l a)) : pval fb l b (d + 1) a v = pval fb l b d (a + 1) (if a - b < 3 then 10 * v + bt fb l a - 48 else v) := if_pos c
theorem pval_f {fb : Row} {l b d a : Nat} {v : Int32} (c : ¬ isD (bt fb l a)) : pval fb l b d a v = (a, v) := by
  cases d with
  | zero => rfl
  | succ d => exact if_neg c
theorem pnT_1 {fb : Row} {l : Nat} {lo hi : Int32} {T : PT} {r : Nat × Int32} (e : T.e = 0) (h : pnv fb l T = r) : pnT fb l lo hi T = pmu (lo ≤ r.2 ∧ r.2 ≤ hi) 2 (pmu (r.1 - (pnx fb l T).a ≤ 3) 1 (r.1, (pmu (isD (bt fb l (pnx fb l T).a)) 1 (pnx fb l T)).2)) := by
  subst h
  exact if_pos e
/-- sideHere()I -/
theorem tm_sideHere {E : fE} {H : Heap} {m : Nat} {ad : Nat → Nat} {sc f0 f1 f2 f3 f4 fb ft fo : Row} {T : PT} (ht : twAt E H m ad (psc sc T) f0 f1 f2 f3 f4 fb ft fo)  {l : Nat} (hl : sc 10 = nI l) (hl2 : l ≤ 700) (hb : T.a ≤ 1000) : fM E yX9_sideHere prog_17_method_59_code 1 (some .int) 7 0 0 [.ref m] H (fun r_ H' => r_ = some (.int (pside fb l T)) ∧ twAt E H' m ad (psc sc (psideT fb l T)) f0 f1 f2 f3 f4 fb ft fo ∧ twK m ad H H') noX := by
  refine f_start (own := "SnowPassModel") (nm := "sideHere") (lv := [(0, .ref m)]) pn_X9 rfl rfl (Nat.le_of_ble_eq_true rfl) rfl (fun Z K X => ?_)
  have hk := twK.rf (m := m) (ad := ad) (H := H)
  refine f_aload_n K dX9_sideHere_0 rfl ?_
  obtain ⟨q_1, v_1, hr_1, hs_1⟩ := str_X9_211 K.ok
  refine f_ldcS K hr_1 dX9_sideHere_1 ?_
  refine f_invV (As := [.ref q_1]) (rest := []) K (tm_sees (E := E)  ht q_1 (kst.of hs_1) (by decide) sw_211 hl hl2 hb) cs_X9_196 dX9_sideHere_3 (tw_o ht) rfl rfl rfl (Nat.le_of_ble_eq_true rfl) (Nat.le_of_ble_eq_true rfl) (Nat.le_of_ble_eq_true rfl) (Nat.le_of_ble_eq_true rfl) (fun v H2 hq hz => ?_) (fun _ _ _ h9 _ _ => h9.elim)
  obtain ⟨rfl, ht, hk1⟩ := hq
  have hk := hk.tr hk1
  have ht : twAt E H2 m ad (psc sc (pnx fb l T)) f0 f1 f2 f3 f4 fb ft fo := ht
  change Go E Z 1 H2 (0) (0) 6 [(0, .ref m)] [.int (bI (psees fb l (fun j => bs_X9_211.getD j 0) 4 T))]
  refine f_if_eqB (tgt := 11) K dX9_sideHere_6 (by decide) (fun c_6 => ?_) (fun c_6 => ?_)
  · refine f_aload_n K dX9_sideHere_11 rfl ?_
    refine f_aload_n K dX9_sideHere_12 rfl ?_
    obtain ⟨q_5, v_5, hr_5, hs_5⟩ := str_X9_213 K.ok
    refine f_ldcS K hr_5 dX9_sideHere_13 ?_
    refine f_invV (As := [.ref q_5]) (rest := [.ref m]) K (tm_sees (E := E)  ht q_5 (kst.of hs_5) (by decide) sw_213 hl hl2 (by have := pnx_a (fb := fb) (l := l) (T := T); omega)) cs_X9_196 dX9_sideHere_15 (tw_o ht) rfl rfl rfl (Nat.le_of_ble_eq_true rfl) (Nat.le_of_ble_eq_true rfl) (Nat.le_of_ble_eq_true rfl) (Nat.le_of_ble_eq_true rfl) (fun v H6 hq hz => ?_) (fun _ _ _ h9 _ _ => h9.elim)
    obtain ⟨rfl, ht, hk1⟩ := hq
    have hk := hk.tr hk1
    have ht : twAt E H6 m ad (psc sc (pnx fb l (pnx fb l T))) f0 f1 f2 f3 f4 fb ft fo := ht
    change Go E Z 1 H6 (0) (0) 18 [(0, .ref m)] [.int (bI (psees fb l (fun j => bs_X9_213.getD j 0) 4 (pnx fb l T))), .ref m]
    refine f_iconst (v := 1) K dX9_sideHere_18 rfl ?_
    refine f_invV (As := [.int (bI (psees fb l (fun j => bs_X9_213.getD j 0) 4 (pnx fb l T))), .int 1]) (rest := []) K (tm_must (E := E)  ht (psees fb l (fun j => bs_X9_213.getD j 0) 4 (pnx fb l T)) 1) cs_X9_200 dX9_sideHere_19 (tw_o ht) rfl rfl rfl (Nat.le_of_ble_eq_true rfl) (Nat.le_of_ble_eq_true rfl) (Nat.le_of_ble_eq_true rfl) (Nat.le_of_ble_eq_true rfl) (fun v H8 hq hz => ?_) (fun _ _ _ h9 _ _ => h9.elim)
    obtain ⟨rfl, ht, hk1⟩ := hq
    have hk := hk.tr hk1
    have ht : twAt E H8 m ad (psc sc (pmu (psees fb l (fun j => bs_X9_213.getD j 0) 4 (pnx fb l T)) 1 (pnx fb l (pnx fb l T)))) f0 f1 f2 f3 f4 fb ft fo := ht
    change Go E Z 1 H8 (0) (0) 22 [(0, .ref m)] []
    refine f_iconst (v := 1) K dX9_sideHere_22 rfl ?_
    exact f_retI K X (Or.inl rfl) dX9_sideHere_23 (Nat.le_of_ble_eq_true rfl) (Nat.le_of_ble_eq_true rfl) (⟨rI (if_neg c_6).symm, by rw [show psideT fb l T = _ from if_neg c_6]; exact ht, hk⟩)
  · refine f_iconst (v := 0) K dX9_sideHere_9 rfl ?_
    exact f_retI K X (Or.inl rfl) dX9_sideHere_10 (Nat.le_of_ble_eq_true rfl) (Nat.le_of_ble_eq_true rfl) (⟨rI (if_pos c_6).symm, by rw [show psideT fb l T = pnx fb l T from if_pos c_6]; exact ht, hk⟩)
/-- sidePast()I -/
theorem tm_sidePast {E : fE} {H : Heap} {m : Nat} {ad : Nat → Nat} {sc f0 f1 f2 f3 f4 fb ft fo : Row} {T : PT} (ht : twAt E H m ad (psc sc T) f0 f1 f2 f3 f4 fb ft fo)  {l : Nat} (hl : sc 10 = nI l) (hl2 : l ≤ 700) (hb : T.a ≤ 1000) : fM E yX9_sidePast prog_17_method_60_code 2 (some .int) 8 0 0 [.ref m] H (fun r_ H' => r_ = some (.int (pside fb l T)) ∧ twAt E H' m ad (psc sc (pgo (psideT fb l T))) f0 f1 f2 f3 f4 fb ft fo ∧ twK m ad H H') noX := by
  refine f_start (own := "SnowPassModel") (nm := "sidePast") (lv := [(0, .ref m)]) pn_X9 rfl rfl (Nat.le_of_ble_eq_true rfl) rfl (fun Z K X => ?_)
  have hk := twK.rf (m := m) (ad := ad) (H := H)
  refine f_aload_n K dX9_sidePast_0 rfl ?_
  refine f_invV (As := []) (rest := []) K (tm_sideHere (E := E)  ht hl hl2 hb) cs_X9_215 dX9_sidePast_1 (tw_o ht) rfl rfl rfl (Nat.le_of_ble_eq_true rfl) (Nat.le_of_ble_eq_true rfl) (Nat.le_of_ble_eq_true rfl) (Nat.le_of_ble_eq_true rfl) (fun v H1 hq hz => ?_) (fun _ _ _ h9 _ _ => h9.elim)
  obtain ⟨rfl, ht, hk1⟩ := hq
  have hk := hk.tr hk1
  have ht : twAt E H1 m ad (psc sc (psideT fb l T)) f0 f1 f2 f3 f4 fb ft fo := ht
  change Go E Z 2 H1 (0) (0) 4 [(0, .ref m)] [.int (pside fb l T)]
  refine f_istore_n (lv' := [(1, .int (pside fb l T)), (0, .ref m)]) K dX9_sidePast_4 (by decide) rfl ?_
  refine f_aload_n K dX9_sidePast_5 rfl ?_
  refine f_invV (As := []) (rest := []) K (tm_goesPast (E := E)  ht ) cs_X9_204 dX9_sidePast_6 (tw_o ht) rfl rfl rfl (Nat.le_of_ble_eq_true rfl) (Nat.le_of_ble_eq_true rfl) (Nat.le_of_ble_eq_true rfl) (Nat.le_of_ble_eq_true rfl) (fun v H3 hq hz => ?_) (fun _ _ _ h9 _ _ => h9.elim)
  obtain ⟨rfl, ht, hk1⟩ := hq
  have hk := hk.tr hk1
  have ht : twAt E H3 m ad (psc sc (pgo (psideT fb l T))) f0 f1 f2 f3 f4 fb ft fo := ht
  change Go E Z 2 H3 (0) (0) 9 [(1, .int (pside fb l T)), (0, .ref m)] []
  refine f_iload_n K dX9_sidePast_9 rfl ?_
  exact f_retI K X (Or.inl rfl) dX9_sidePast_10 (Nat.le_of_ble_eq_true rfl) (Nat.le_of_ble_eq_true rfl) (⟨rfl, ht, hk⟩)
/-- chainsHere()I -/
theorem tm_chainsHere {E : fE} {H : Heap} {m : Nat} {ad : Nat → Nat} {sc f0 f1 f2 f3 f4 fb ft fo : Row} {T : PT} (ht : twAt E H m ad (psc sc T) f0 f1 f2 f3 f4 fb ft fo)  {l : Nat} (hl : sc 10 = nI l) (hl2 : l ≤ 700) (hb : T.a ≤ 1000) : fM E yX9_chainsHere prog_17_method_61_code 1 (some .int) 7 0 0 [.ref m] H (fun r_ H' => r_ = some (.int (pchn fb l T)) ∧ twAt E H' m ad (psc sc (pchnT fb l T)) f0 f1 f2 f3 f4 fb ft fo ∧ twK m ad H H') noX := by
  refine f_start (own := "SnowPassModel") (nm := "chainsHere") (lv := [(0, .ref m)]) pn_X9 rfl rfl (Nat.le_of_ble_eq_true rfl) rfl (fun Z K X => ?_)
  have hk := twK.rf (m := m) (ad := ad) (H := H)
  refine f_aload_n K dX9_chainsHere_0 rfl ?_
  obtain ⟨q_1, v_1, hr_1, hs_1⟩ := str_X9_218 K.ok
  refine f_ldcS K hr_1 dX9_chainsHere_1 ?_
  refine f_invV (As := [.ref q_1]) (rest := []) K (tm_sees (E := E)  ht q_1 (kst.of hs_1) (by decide) sw_218 hl hl2 hb) cs_X9_196 dX9_chainsHere_3 (tw_o ht) rfl rfl rfl (Nat.le_of_ble_eq_true rfl) (Nat.le_of_ble_eq_true rfl) (Nat.le_of_ble_eq_true rfl) (Nat.le_of_ble_eq_true rfl) (fun v H2 hq hz => ?_) (fun _ _ _ h9 _ _ => h9.elim)
  obtain ⟨rfl, ht, hk1⟩ := hq
  have hk := hk.tr hk1
  have ht : twAt E H2 m ad (psc sc (pnx fb l T)) f0 f1 f2 f3 f4 fb ft fo := ht
  change Go E Z 1 H2 (0) (0) 6 [(0, .ref m)] [.int (bI (psees fb l (fun j => bs_X9_218.getD j 0) 6 T))]
  refine f_if_neB (tgt := 11) K dX9_chainsHere_6 (by decide) (fun c_6 => ?_) (fun c_6 => ?_)
  · refine f_aload_n K dX9_chainsHere_11 rfl ?_
    refine f_invV (As := []) (rest := []) K (tm_goesPast (E := E)  ht ) cs_X9_204 dX9_chainsHere_12 (tw_o ht) rfl rfl rfl (Nat.le_of_ble_eq_true rfl) (Nat.le_of_ble_eq_true rfl) (Nat.le_of_ble_eq_true rfl) (Nat.le_of_ble_eq_true rfl) (fun v H5 hq hz => ?_) (fun _ _ _ h9 _ _ => h9.elim)
    obtain ⟨rfl, ht, hk1⟩ := hq
    have hk := hk.tr hk1
    have ht : twAt E H5 m ad (psc sc (pgo (pnx fb l T))) f0 f1 f2 f3 f4 fb ft fo := ht
    change Go E Z 1 H5 (0) (0) 15 [(0, .ref m)] []
    refine f_iconst (v := 1) K dX9_chainsHere_15 rfl ?_
    exact f_retI K X (Or.inl rfl) dX9_chainsHere_16 (Nat.le_of_ble_eq_true rfl) (Nat.le_of_ble_eq_true rfl) (⟨rI (if_pos c_6).symm, by rw [show pchnT fb l T = pgo (pnx fb l T) from if_pos c_6]; exact ht, hk⟩)
  · refine f_iconst (v := 0) K dX9_chainsHere_9 rfl ?_
    exact f_retI K X (Or.inl rfl) dX9_chainsHere_10 (Nat.le_of_ble_eq_true rfl) (Nat.le_of_ble_eq_true rfl) (⟨rI (if_neg c_6).symm, by rw [show pchnT fb l T = pnx fb l T from if_neg c_6]; exact ht, hk⟩)
/-- startsText()V -/
theorem tm_startsText {E : fE} {H : Heap} {m : Nat} {ad : Nat → Nat} {sc f0 f1 f2 f3 f4 fb ft fo : Row} (ht : twAt E H m ad sc f0 f1 f2 f3 f4 fb ft fo)   : fM E yX9_startsText prog_17_method_62_code 1 none 1 0 0 [.ref m] H (fun r_ H' => r_ = none ∧ twAt E H' m ad (upd (upd (upd (upd sc 11 0) 12 0) 14 0) 15 (-1)) f0 f1 f2 f3 f4 fb ft fo ∧ twK m ad H H') noX := by
  refine f_start (own := "SnowPassModel") (nm := "startsText") (lv := [(0, .ref m)]) pn_X9 rfl rfl (Nat.le_of_ble_eq_true rfl) rfl (fun Z K X => ?_)
  have hk := twK.rf (m := m) (ad := ad) (H := H)
  refine f_aload_n K dX9_startsText_0 rfl ?_
  refine f_iconst (v := 0) K dX9_startsText_1 rfl ?_
  refine f_put K fp_X9_171_X9 dX9_startsText_2 (tw_o ht) (tw_lo ht) (Nat.le_of_ble_eq_true rfl) rfl rfl (fun H1 hU ho => ?_)
  have ht := tw_put (sc' := (upd sc 11 0)) ht hU ho rfl
  have hk := hk.put hU
  refine f_aload_n K dX9_startsText_5 rfl ?_
  refine f_iconst (v := 0) K dX9_startsText_6 rfl ?_
  refine f_put K fp_X9_177_X9 dX9_startsText_7 (tw_o ht) (tw_lo ht) (Nat.le_of_ble_eq_true rfl) rfl rfl (fun H2 hU ho => ?_)
  have ht := tw_put (sc' := (upd (upd sc 11 0) 12 0)) ht hU ho rfl
  have hk := hk.put hU
  refine f_aload_n K dX9_startsText_10 rfl ?_
  refine f_iconst (v := 0) K dX9_startsText_11 rfl ?_
  refine f_put K fp_X9_187_X9 dX9_startsText_12 (tw_o ht) (tw_lo ht) (Nat.le_of_ble_eq_true rfl) rfl rfl (fun H3 hU ho => ?_)
  have ht := tw_put (sc' := (upd (upd (upd sc 11 0) 12 0) 14 0)) ht hU ho rfl
  have hk := hk.put hU
  refine f_aload_n K dX9_startsText_15 rfl ?_
  refine f_iconst (v := (-1)) K dX9_startsText_16 rfl ?_
  refine f_put K fp_X9_190_X9 dX9_startsText_17 (tw_o ht) (tw_lo ht) (Nat.le_of_ble_eq_true rfl) rfl rfl (fun H4 hU ho => ?_)
  have ht := tw_put (sc' := (upd (upd (upd (upd sc 11 0) 12 0) 14 0) 15 (-1))) ht hU ho rfl
  have hk := hk.put hU
  exact f_retV K X rfl dX9_startsText_20 (Nat.le_of_ble_eq_true rfl) (Nat.le_of_ble_eq_true rfl) (⟨rfl, ht, hk⟩)
/-- endsText()Z -/
theorem tm_endsText {E : fE} {H : Heap} {m : Nat} {ad : Nat → Nat} {sc f0 f1 f2 f3 f4 fb ft fo : Row} (ht : twAt E H m ad sc f0 f1 f2 f3 f4 fb ft fo)   : fM E yX9_endsText prog_17_method_63_code 1 (some .boolean) 1 0 0 [.ref m] H (fun r_ H' => r_ = some (.int (bI (sc 14 = 0))) ∧ twAt E H' m ad (upd (upd (upd sc 10 0) 16 (sc 14)) 17 (sc 15)) f0 f1 f2 f3 f4 fb ft fo ∧ twK m ad H H') noX := by
  refine f_start (own := "SnowPassModel") (nm := "endsText") (lv := [(0, .ref m)]) pn_X9 rfl rfl (Nat.le_of_ble_eq_true rfl) rfl (fun Z K X => ?_)
  have hk := twK.rf (m := m) (ad := ad) (H := H)
  refine f_aload_n K dX9_endsText_0 rfl ?_
  refine f_iconst (v := 0) K dX9_endsText_1 rfl ?_
  refine f_put K fp_X9_50_X9 dX9_endsText_2 (tw_o ht) (tw_lo ht) (Nat.le_of_ble_eq_true rfl) rfl rfl (fun H1 hU ho => ?_)
  have ht := tw_put (sc' := (upd sc 10 0)) ht hU ho rfl
  have hk := hk.put hU
  refine f_aload_n K dX9_endsText_5 rfl ?_
  refine f_aload_n K dX9_endsText_6 rfl ?_
  refine f_get (v := .int (sc 14)) K fl_X9_187_X9 dX9_endsText_7 (tw_o ht) rfl ?_
  refine f_put K fp_X9_220_X9 dX9_endsText_10 (tw_o ht) (tw_lo ht) (Nat.le_of_ble_eq_true rfl) rfl rfl (fun H2 hU ho => ?_)
  have ht := tw_put (sc' := (upd (upd sc 10 0) 16 (sc 14))) ht hU ho rfl
  have hk := hk.put hU
  refine f_aload_n K dX9_endsText_13 rfl ?_
  refine f_aload_n K dX9_endsText_14 rfl ?_
  refine f_get (v := .int (sc 15)) K fl_X9_190_X9 dX9_endsText_15 (tw_o ht) rfl ?_
  refine f_put K fp_X9_28_X9 dX9_endsText_18 (tw_o ht) (tw_lo ht) (Nat.le_of_ble_eq_true rfl) rfl rfl (fun H3 hU ho => ?_)
  have ht := tw_put (sc' := (upd (upd (upd sc 10 0) 16 (sc 14)) 17 (sc 15))) ht hU ho rfl
  have hk := hk.put hU
  refine f_aload_n K dX9_endsText_21 rfl ?_
  refine f_get (v := .int (sc 14)) K fl_X9_187_X9 dX9_endsText_22 (tw_o ht) rfl ?_
  refine f_if_ne (tgt := 32) K dX9_endsText_25 (by decide) (fun c_25 => ?_) (fun c_25 => ?_)
  · refine f_iconst (v := 0) K dX9_endsText_32 rfl ?_
    exact f_retI K X (Or.inr ⟨rfl, Or.inl rfl⟩) dX9_endsText_33 (Nat.le_of_ble_eq_true rfl) (Nat.le_of_ble_eq_true rfl) (⟨rI0 c_25, ht, hk⟩)
  · refine f_iconst (v := 1) K dX9_endsText_28 rfl ?_
    refine f_goto (tgt := 33) K dX9_endsText_29 (by decide) ?_
    exact f_retI K X (Or.inr ⟨rfl, Or.inr rfl⟩) dX9_endsText_33 (Nat.le_of_ble_eq_true rfl) (Nat.le_of_ble_eq_true rfl) (⟨rI1 c_25, ht, hk⟩)
/-- number(II)I -/
theorem tm_number {E : fE} {H : Heap} {m : Nat} {ad : Nat → Nat} {sc f0 f1 f2 f3 f4 fb ft fo : Row} {T : PT} (ht : twAt E H m ad (psc sc T) f0 f1 f2 f3 f4 fb ft fo) (lo : Int32) (hi : Int32) {l : Nat} (hl : sc 10 = nI l) (hl2 : l ≤ 700) (hb : T.a ≤ 1000) : fM E yX9_number prog_17_method_58_code 4 (some .int) 3 0 0 [.ref m, .int lo, .int hi] H (fun r_ H' => r_ = some (.int (pnum fb l lo hi T)) ∧ twAt E H' m ad (psc sc (pnT fb l lo hi T)) f0 f1 f2 f3 f4 fb ft fo ∧ twK m ad H H') noX := by
  refine f_start (own := "SnowPassModel") (nm := "number") (lv := [(0, .ref m), (1, .int lo), (2, .int hi)]) pn_X9 rfl rfl (Nat.le_of_ble_eq_true rfl) rfl (fun Z K X => ?_)
  have hna := pnx_a (fb := fb) (l := l) (T := T)
  have hmb : (pmu (48 ≤ (bt fb l (pnx fb l T).a) ∧ (bt fb l (pnx fb l T).a) ≤ 57) 1 (pnx fb l T)).b = (pnx fb l T).a := pmu_b
  have hma : (pmu (48 ≤ (bt fb l (pnx fb l T).a) ∧ (bt fb l (pnx fb l T).a) ≤ 57) 1 (pnx fb l T)).a = (pnx fb l T).a := pmu_a
  have hk := twK.rf (m := m) (ad := ad) (H := H)
  refine f_aload_n K dX9_number_0 rfl ?_
  refine f_get (v := .int T.e) K fl_X9_187_X9 dX9_number_1 (tw_o ht) rfl ?_
  refine f_if_eq (tgt := 9) K dX9_number_4 (by decide) (fun c_4 => ?_) (fun c_4 => ?_)
  · refine f_aload_n K dX9_number_9 rfl ?_
    refine f_aload_n K dX9_number_10 rfl ?_
    refine f_invV (As := []) (rest := [.ref m]) K (tm_next (E := E)  ht hl hl2 hb) cs_X9_193 dX9_number_11 (tw_o ht) rfl rfl rfl (Nat.le_of_ble_eq_true rfl) (Nat.le_of_ble_eq_true rfl) (Nat.le_of_ble_eq_true rfl) (Nat.le_of_ble_eq_true rfl) (fun v H2 hq hz => ?_) (fun _ _ _ h9 _ _ => h9.elim)
    obtain ⟨rfl, ht, hk1⟩ := hq
    have hk := hk.tr hk1
    have ht : twAt E H2 m ad (psc sc (pnx fb l T)) f0 f1 f2 f3 f4 fb ft fo := ht
    change Go E Z 4 H2 (0) (0) 14 [(0, .ref m), (1, .int lo), (2, .int hi)] [.int (bt fb l (pnx fb l T).a), .ref m]
    refine f_i2l (v := (bt fb l (pnx fb l T).a).toInt64) K dX9_number_14 rfl ?_
    refine f_ldc2 (v := 48) K q3338 dX9_number_15 ?_
    refine f_ldc2 (v := 57) K q3339 dX9_number_18 ?_
    refine f_invS (As := [.long ((bt fb l (pnx fb l T).a).toInt64), .long 48, .long 57]) (rest := [.ref m]) K (tm_in (E := E)  (bt fb l (pnx fb l T).a) ((bt fb l (pnx fb l T).a).toInt64) (by rfl) 48 48 (by rfl) 57 57 (by rfl)) cs_X9_62 dX9_number_21 rfl rfl (Nat.le_of_ble_eq_true rfl) (Nat.le_of_ble_eq_true rfl) (Nat.le_of_ble_eq_true rfl) (Nat.le_of_ble_eq_true rfl) (fun v H4 hq hz => ?_) (fun _ _ _ h9 _ _ => h9.elim)
    obtain ⟨rfl, hq⟩ := hq
    rw [hq]
    change Go E Z 4 H2 (0) (0) 24 [(0, .ref m), (1, .int lo), (2, .int hi)] [.int (bI (48 ≤ (bt fb l (pnx fb l T).a) ∧ (bt fb l (pnx fb l T).a) ≤ 57)), .ref m]
    refine f_iconst (v := 1) K dX9_number_24 rfl ?_
    refine f_invV (As := [.int (bI (48 ≤ (bt fb l (pnx fb l T).a) ∧ (bt fb l (pnx fb l T).a) ≤ 57)), .int 1]) (rest := []) K (tm_must (E := E)  ht (48 ≤ (bt fb l (pnx fb l T).a) ∧ (bt fb l (pnx fb l T).a) ≤ 57) 1) cs_X9_200 dX9_number_25 (tw_o ht) rfl rfl rfl (Nat.le_of_ble_eq_true rfl) (Nat.le_of_ble_eq_true rfl) (Nat.le_of_ble_eq_true rfl) (Nat.le_of_ble_eq_true rfl) (fun v H5 hq hz => ?_) (fun _ _ _ h9 _ _ => h9.elim)
    obtain ⟨rfl, ht, hk1⟩ := hq
    have hk := hk.tr hk1
    have ht : twAt E H5 m ad (psc sc (pmu (48 ≤ (bt fb l (pnx fb l T).a) ∧ (bt fb l (pnx fb l T).a) ≤ 57) 1 (pnx fb l T))) f0 f1 f2 f3 f4 fb ft fo := ht
    change Go E Z 4 H5 (0) (0) 28 [(0, .ref m), (1, .int lo), (2, .int hi)] []
    refine f_iconst (v := 0) K dX9_number_28 rfl ?_
    refine f_istore_n (lv' := [(3, .int 0), (0, .ref m), (1, .int lo), (2, .int hi)]) K dX9_number_29 (by decide) rfl ?_
    have loop1 : ∀ (d : Nat) (a : Nat) (x_v : Int32) (G : Heap), d = l - a → pnv fb l T = pval fb l (pnx fb l T).a d a x_v → (pmu (48 ≤ (bt fb l (pnx fb l T).a) ∧ (bt fb l (pnx fb l T).a) ≤ 57) 1 (pnx fb l T)).b ≤ a → a ≤ 1000 → twAt E G m ad (psc sc (a, (pmu (48 ≤ (bt fb l (pnx fb l T).a) ∧ (bt fb l (pnx fb l T).a) ≤ 57) 1 (pnx fb l T)).b, (pmu (48 ≤ (bt fb l (pnx fb l T).a) ∧ (bt fb l (pnx fb l T).a) ≤ 57) 1 (pnx fb l T)).w, (pmu (48 ≤ (bt fb l (pnx fb l T).a) ∧ (bt fb l (pnx fb l T).a) ≤ 57) 1 (pnx fb l T)).e, (pmu (48 ≤ (bt fb l (pnx fb l T).a) ∧ (bt fb l (pnx fb l T).a) ≤ 57) 1 (pnx fb l T)).x)) f0 f1 f2 f3 f4 fb ft fo → twK m ad H G → Go E Z 4 G (0) (0) 30 [(3, .int x_v), (0, .ref m), (1, .int lo), (2, .int hi)] [] := by
      intro d
      induction d with
      | zero =>
        intro a x_v G hd hu hab ha ht hk
        refine f_aload_n K dX9_number_30 rfl ?_
        refine f_aload_n K dX9_number_31 rfl ?_
        refine f_get (v := .int (nI a)) K fl_X9_171_X9 dX9_number_32 (tw_o ht) rfl ?_
        refine f_invV (As := [.int (nI a)]) (rest := []) K (tm_byteAt (E := E) (k := a) ht (nI a) rfl hl hl2 (by omega)) cs_X9_174 dX9_number_35 (tw_o ht) rfl rfl rfl (Nat.le_of_ble_eq_true rfl) (Nat.le_of_ble_eq_true rfl) (Nat.le_of_ble_eq_true rfl) (Nat.le_of_ble_eq_true rfl) (fun v H7 hq hz => ?_) (fun _ _ _ h9 _ _ => h9.elim)
        obtain ⟨rfl, hq⟩ := hq
        rw [hq]
        change Go E Z 4 G (0) (0) 38 [(3, .int x_v), (0, .ref m), (1, .int lo), (2, .int hi)] [.int (bt fb l a)]
        refine f_i2l (v := (bt fb l a).toInt64) K dX9_number_38 rfl ?_
        refine f_ldc2 (v := 48) K q3338 dX9_number_39 ?_
        refine f_ldc2 (v := 57) K q3339 dX9_number_42 ?_
        refine f_invS (As := [.long ((bt fb l a).toInt64), .long 48, .long 57]) (rest := []) K (tm_in (E := E)  (bt fb l a) ((bt fb l a).toInt64) (by rfl) 48 48 (by rfl) 57 57 (by rfl)) cs_X9_62 dX9_number_45 rfl rfl (Nat.le_of_ble_eq_true rfl) (Nat.le_of_ble_eq_true rfl) (Nat.le_of_ble_eq_true rfl) (Nat.le_of_ble_eq_true rfl) (fun v H8 hq hz => ?_) (fun _ _ _ h9 _ _ => h9.elim)
        obtain ⟨rfl, hq⟩ := hq
        rw [hq]
        change Go E Z 4 G (0) (0) 48 [(3, .int x_v), (0, .ref m), (1, .int lo), (2, .int hi)] [.int (bI (48 ≤ (bt fb l a) ∧ (bt fb l a) ≤ 57))]
        refine f_if_eqB (tgt := 98) K dX9_number_48 (by decide) (fun c_48 => ?_) (fun c_48 => ?_)
        · have hpv : pnv fb l T = (a, x_v) := hu.trans (pval_f c_48)
          refine f_aload_n K dX9_number_98 rfl ?_
          refine f_aload_n K dX9_number_99 rfl ?_
          refine f_get (v := .int (nI a)) K fl_X9_171_X9 dX9_number_100 (tw_o ht) rfl ?_
          refine f_aload_n K dX9_number_103 rfl ?_
          refine f_get (v := .int (nI ((pmu (48 ≤ (bt fb l (pnx fb l T).a) ∧ (bt fb l (pnx fb l T).a) ≤ 57) 1 (pnx fb l T)).b))) K fl_X9_177_X9 dX9_number_104 (tw_o ht) rfl ?_
          refine f_isub K dX9_number_107 ?_
          refine f_iconst (v := 3) K dX9_number_108 rfl ?_
          refine f_icmp_gt (tgt := 116) K dX9_number_109 (by decide) (fun c_109 => ?_) (fun c_109 => ?_)
          · have h3 : ¬ a - (pnx fb l T).a ≤ 3 := by
                intro z
                exact absurd c_109 (by rw [nis (x := nI a) (y := nI _) rfl rfl hab]; exact nI_nlt (a := 3) (by omega) (by decide))
            refine f_iconst (v := 0) K dX9_number_116 rfl ?_
            refine f_iconst (v := 1) K dX9_number_117 rfl ?_
            refine f_invV (As := [.int 0, .int 1]) (rest := []) K (tm_must (E := E)  ht False 1) cs_X9_200 dX9_number_118 (tw_o ht) rfl rfl rfl (Nat.le_of_ble_eq_true rfl) (Nat.le_of_ble_eq_true rfl) (Nat.le_of_ble_eq_true rfl) (Nat.le_of_ble_eq_true rfl) (fun v H11 hq hz => ?_) (fun _ _ _ h9 _ _ => h9.elim)
            obtain ⟨rfl, ht, hk1⟩ := hq
            have hk := hk.tr hk1
            have ht : twAt E H11 m ad (psc sc (pmu False 1 (a, (pmu (48 ≤ (bt fb l (pnx fb l T).a) ∧ (bt fb l (pnx fb l T).a) ≤ 57) 1 (pnx fb l T)).b, (pmu (48 ≤ (bt fb l (pnx fb l T).a) ∧ (bt fb l (pnx fb l T).a) ≤ 57) 1 (pnx fb l T)).w, (pmu (48 ≤ (bt fb l (pnx fb l T).a) ∧ (bt fb l (pnx fb l T).a) ≤ 57) 1 (pnx fb l T)).e, (pmu (48 ≤ (bt fb l (pnx fb l T).a) ∧ (bt fb l (pnx fb l T).a) ≤ 57) 1 (pnx fb l T)).x))) f0 f1 f2 f3 f4 fb ft fo := ht
            change Go E Z 4 H11 (0) (0) 121 [(3, .int x_v), (0, .ref m), (1, .int lo), (2, .int hi)] []
            refine f_aload_n K dX9_number_121 rfl ?_
            refine f_iload_n K dX9_number_122 rfl ?_
            refine f_i2l (v := x_v.toInt64) K dX9_number_123 rfl ?_
            refine f_iload_n K dX9_number_124 rfl ?_
            refine f_i2l (v := lo.toInt64) K dX9_number_125 rfl ?_
            refine f_iload_n K dX9_number_126 rfl ?_
            refine f_i2l (v := hi.toInt64) K dX9_number_127 rfl ?_
            refine f_invS (As := [.long x_v.toInt64, .long lo.toInt64, .long hi.toInt64]) (rest := [.ref m]) K (tm_in (E := E)  x_v x_v.toInt64 (by rfl) lo lo.toInt64 (by rfl) hi hi.toInt64 (by rfl)) cs_X9_62 dX9_number_128 rfl rfl (Nat.le_of_ble_eq_true rfl) (Nat.le_of_ble_eq_true rfl) (Nat.le_of_ble_eq_true rfl) (Nat.le_of_ble_eq_true rfl) (fun v H13 hq hz => ?_) (fun _ _ _ h9 _ _ => h9.elim)
            obtain ⟨rfl, hq⟩ := hq
            rw [hq]
            change Go E Z 4 H11 (0) (0) 131 [(3, .int x_v), (0, .ref m), (1, .int lo), (2, .int hi)] [.int (bI (lo ≤ x_v ∧ x_v ≤ hi)), .ref m]
            refine f_iconst (v := 2) K dX9_number_131 rfl ?_
            refine f_invV (As := [.int (bI (lo ≤ x_v ∧ x_v ≤ hi)), .int 2]) (rest := []) K (tm_must (E := E)  ht (lo ≤ x_v ∧ x_v ≤ hi) 2) cs_X9_200 dX9_number_132 (tw_o ht) rfl rfl rfl (Nat.le_of_ble_eq_true rfl) (Nat.le_of_ble_eq_true rfl) (Nat.le_of_ble_eq_true rfl) (Nat.le_of_ble_eq_true rfl) (fun v H14 hq hz => ?_) (fun _ _ _ h9 _ _ => h9.elim)
            obtain ⟨rfl, ht, hk1⟩ := hq
            have hk := hk.tr hk1
            have ht : twAt E H14 m ad (psc sc (pmu (lo ≤ x_v ∧ x_v ≤ hi) 2 (pmu False 1 (a, (pmu (48 ≤ (bt fb l (pnx fb l T).a) ∧ (bt fb l (pnx fb l T).a) ≤ 57) 1 (pnx fb l T)).b, (pmu (48 ≤ (bt fb l (pnx fb l T).a) ∧ (bt fb l (pnx fb l T).a) ≤ 57) 1 (pnx fb l T)).w, (pmu (48 ≤ (bt fb l (pnx fb l T).a) ∧ (bt fb l (pnx fb l T).a) ≤ 57) 1 (pnx fb l T)).e, (pmu (48 ≤ (bt fb l (pnx fb l T).a) ∧ (bt fb l (pnx fb l T).a) ≤ 57) 1 (pnx fb l T)).x)))) f0 f1 f2 f3 f4 fb ft fo := ht
            change Go E Z 4 H14 (0) (0) 135 [(3, .int x_v), (0, .ref m), (1, .int lo), (2, .int hi)] []
            have hT : pnT fb l lo hi T = (pmu (lo ≤ x_v ∧ x_v ≤ hi) 2 (pmu False 1 (a, (pmu (48 ≤ (bt fb l (pnx fb l T).a) ∧ (bt fb l (pnx fb l T).a) ≤ 57) 1 (pnx fb l T)).b, (pmu (48 ≤ (bt fb l (pnx fb l T).a) ∧ (bt fb l (pnx fb l T).a) ≤ 57) 1 (pnx fb l T)).w, (pmu (48 ≤ (bt fb l (pnx fb l T).a) ∧ (bt fb l (pnx fb l T).a) ≤ 57) 1 (pnx fb l T)).e, (pmu (48 ≤ (bt fb l (pnx fb l T).a) ∧ (bt fb l (pnx fb l T).a) ≤ 57) 1 (pnx fb l T)).x))) := (pnT_1 c_4 hpv).trans (congrArg (pmu (lo ≤ x_v ∧ x_v ≤ hi) 2) (pmu_ff h3).symm)
            refine f_aload_n K dX9_number_135 rfl ?_
            refine f_get (v := .int ((pmu (lo ≤ x_v ∧ x_v ≤ hi) 2 (pmu False 1 (a, (pmu (48 ≤ (bt fb l (pnx fb l T).a) ∧ (bt fb l (pnx fb l T).a) ≤ 57) 1 (pnx fb l T)).b, (pmu (48 ≤ (bt fb l (pnx fb l T).a) ∧ (bt fb l (pnx fb l T).a) ≤ 57) 1 (pnx fb l T)).w, (pmu (48 ≤ (bt fb l (pnx fb l T).a) ∧ (bt fb l (pnx fb l T).a) ≤ 57) 1 (pnx fb l T)).e, (pmu (48 ≤ (bt fb l (pnx fb l T).a) ∧ (bt fb l (pnx fb l T).a) ≤ 57) 1 (pnx fb l T)).x))).e)) K fl_X9_187_X9 dX9_number_136 (tw_o ht) rfl ?_
            refine f_if_ne (tgt := 146) K dX9_number_139 (by decide) (fun c_139 => ?_) (fun c_139 => ?_)
            · refine f_iload_n K dX9_number_146 rfl ?_
              exact f_retI K X (Or.inl rfl) dX9_number_147 (Nat.le_of_ble_eq_true rfl) (Nat.le_of_ble_eq_true rfl) (⟨rI (by rw [pnum, hpv, hT]; exact (if_neg (fun z => c_139 z.2)).symm), by rw [hT]; exact ht, hk⟩)
            · refine f_iload_n K dX9_number_142 rfl ?_
              refine f_goto (tgt := 147) K dX9_number_143 (by decide) ?_
              exact f_retI K X (Or.inl rfl) dX9_number_147 (Nat.le_of_ble_eq_true rfl) (Nat.le_of_ble_eq_true rfl) (⟨rI (by rw [pnum, hpv, hT]; exact (if_pos ⟨c_4, c_139⟩).symm), by rw [hT]; exact ht, hk⟩)
          · have h3 : a - (pnx fb l T).a ≤ 3 := by
                rcases Nat.lt_or_ge 3 (a - (pnx fb l T).a) with z | z
                · exact absurd (by rw [nis (x := nI a) (y := nI _) rfl rfl hab]; exact nI_lt (a := 3) (by omega) (by omega)) c_109
                · exact z
            refine f_iconst (v := 1) K dX9_number_112 rfl ?_
            refine f_goto (tgt := 117) K dX9_number_113 (by decide) ?_
            refine f_iconst (v := 1) K dX9_number_117 rfl ?_
            refine f_invV (As := [.int 1, .int 1]) (rest := []) K (tm_must (E := E)  ht True 1) cs_X9_200 dX9_number_118 (tw_o ht) rfl rfl rfl (Nat.le_of_ble_eq_true rfl) (Nat.le_of_ble_eq_true rfl) (Nat.le_of_ble_eq_true rfl) (Nat.le_of_ble_eq_true rfl) (fun v H17 hq hz => ?_) (fun _ _ _ h9 _ _ => h9.elim)
            obtain ⟨rfl, ht, hk1⟩ := hq
            have hk := hk.tr hk1
            have ht : twAt E H17 m ad (psc sc (pmu True 1 (a, (pmu (48 ≤ (bt fb l (pnx fb l T).a) ∧ (bt fb l (pnx fb l T).a) ≤ 57) 1 (pnx fb l T)).b, (pmu (48 ≤ (bt fb l (pnx fb l T).a) ∧ (bt fb l (pnx fb l T).a) ≤ 57) 1 (pnx fb l T)).w, (pmu (48 ≤ (bt fb l (pnx fb l T).a) ∧ (bt fb l (pnx fb l T).a) ≤ 57) 1 (pnx fb l T)).e, (pmu (48 ≤ (bt fb l (pnx fb l T).a) ∧ (bt fb l (pnx fb l T).a) ≤ 57) 1 (pnx fb l T)).x))) f0 f1 f2 f3 f4 fb ft fo := ht
            change Go E Z 4 H17 (0) (0) 121 [(3, .int x_v), (0, .ref m), (1, .int lo), (2, .int hi)] []
            refine f_aload_n K dX9_number_121 rfl ?_
            refine f_iload_n K dX9_number_122 rfl ?_
            refine f_i2l (v := x_v.toInt64) K dX9_number_123 rfl ?_
            refine f_iload_n K dX9_number_124 rfl ?_
            refine f_i2l (v := lo.toInt64) K dX9_number_125 rfl ?_
            refine f_iload_n K dX9_number_126 rfl ?_
            refine f_i2l (v := hi.toInt64) K dX9_number_127 rfl ?_
            refine f_invS (As := [.long x_v.toInt64, .long lo.toInt64, .long hi.toInt64]) (rest := [.ref m]) K (tm_in (E := E)  x_v x_v.toInt64 (by rfl) lo lo.toInt64 (by rfl) hi hi.toInt64 (by rfl)) cs_X9_62 dX9_number_128 rfl rfl (Nat.le_of_ble_eq_true rfl) (Nat.le_of_ble_eq_true rfl) (Nat.le_of_ble_eq_true rfl) (Nat.le_of_ble_eq_true rfl) (fun v H19 hq hz => ?_) (fun _ _ _ h9 _ _ => h9.elim)
            obtain ⟨rfl, hq⟩ := hq
            rw [hq]
            change Go E Z 4 H17 (0) (0) 131 [(3, .int x_v), (0, .ref m), (1, .int lo), (2, .int hi)] [.int (bI (lo ≤ x_v ∧ x_v ≤ hi)), .ref m]
            refine f_iconst (v := 2) K dX9_number_131 rfl ?_
            refine f_invV (As := [.int (bI (lo ≤ x_v ∧ x_v ≤ hi)), .int 2]) (rest := []) K (tm_must (E := E)  ht (lo ≤ x_v ∧ x_v ≤ hi) 2) cs_X9_200 dX9_number_132 (tw_o ht) rfl rfl rfl (Nat.le_of_ble_eq_true rfl) (Nat.le_of_ble_eq_true rfl) (Nat.le_of_ble_eq_true rfl) (Nat.le_of_ble_eq_true rfl) (fun v H20 hq hz => ?_) (fun _ _ _ h9 _ _ => h9.elim)
            obtain ⟨rfl, ht, hk1⟩ := hq
            have hk := hk.tr hk1
            have ht : twAt E H20 m ad (psc sc (pmu (lo ≤ x_v ∧ x_v ≤ hi) 2 (pmu True 1 (a, (pmu (48 ≤ (bt fb l (pnx fb l T).a) ∧ (bt fb l (pnx fb l T).a) ≤ 57) 1 (pnx fb l T)).b, (pmu (48 ≤ (bt fb l (pnx fb l T).a) ∧ (bt fb l (pnx fb l T).a) ≤ 57) 1 (pnx fb l T)).w, (pmu (48 ≤ (bt fb l (pnx fb l T).a) ∧ (bt fb l (pnx fb l T).a) ≤ 57) 1 (pnx fb l T)).e, (pmu (48 ≤ (bt fb l (pnx fb l T).a) ∧ (bt fb l (pnx fb l T).a) ≤ 57) 1 (pnx fb l T)).x)))) f0 f1 f2 f3 f4 fb ft fo := ht
            change Go E Z 4 H20 (0) (0) 135 [(3, .int x_v), (0, .ref m), (1, .int lo), (2, .int hi)] []
            have hT : pnT fb l lo hi T = (pmu (lo ≤ x_v ∧ x_v ≤ hi) 2 (pmu True 1 (a, (pmu (48 ≤ (bt fb l (pnx fb l T).a) ∧ (bt fb l (pnx fb l T).a) ≤ 57) 1 (pnx fb l T)).b, (pmu (48 ≤ (bt fb l (pnx fb l T).a) ∧ (bt fb l (pnx fb l T).a) ≤ 57) 1 (pnx fb l T)).w, (pmu (48 ≤ (bt fb l (pnx fb l T).a) ∧ (bt fb l (pnx fb l T).a) ≤ 57) 1 (pnx fb l T)).e, (pmu (48 ≤ (bt fb l (pnx fb l T).a) ∧ (bt fb l (pnx fb l T).a) ≤ 57) 1 (pnx fb l T)).x))) := (pnT_1 c_4 hpv).trans (congrArg (pmu (lo ≤ x_v ∧ x_v ≤ hi) 2) (pmu_tt h3).symm)
            refine f_aload_n K dX9_number_135 rfl ?_
            refine f_get (v := .int ((pmu (lo ≤ x_v ∧ x_v ≤ hi) 2 (pmu True 1 (a, (pmu (48 ≤ (bt fb l (pnx fb l T).a) ∧ (bt fb l (pnx fb l T).a) ≤ 57) 1 (pnx fb l T)).b, (pmu (48 ≤ (bt fb l (pnx fb l T).a) ∧ (bt fb l (pnx fb l T).a) ≤ 57) 1 (pnx fb l T)).w, (pmu (48 ≤ (bt fb l (pnx fb l T).a) ∧ (bt fb l (pnx fb l T).a) ≤ 57) 1 (pnx fb l T)).e, (pmu (48 ≤ (bt fb l (pnx fb l T).a) ∧ (bt fb l (pnx fb l T).a) ≤ 57) 1 (pnx fb l T)).x))).e)) K fl_X9_187_X9 dX9_number_136 (tw_o ht) rfl ?_
            refine f_if_ne (tgt := 146) K dX9_number_139 (by decide) (fun c_139 => ?_) (fun c_139 => ?_)
            · refine f_iload_n K dX9_number_146 rfl ?_
              exact f_retI K X (Or.inl rfl) dX9_number_147 (Nat.le_of_ble_eq_true rfl) (Nat.le_of_ble_eq_true rfl) (⟨rI (by rw [pnum, hpv, hT]; exact (if_neg (fun z => c_139 z.2)).symm), by rw [hT]; exact ht, hk⟩)
            · refine f_iload_n K dX9_number_142 rfl ?_
              refine f_goto (tgt := 147) K dX9_number_143 (by decide) ?_
              exact f_retI K X (Or.inl rfl) dX9_number_147 (Nat.le_of_ble_eq_true rfl) (Nat.le_of_ble_eq_true rfl) (⟨rI (by rw [pnum, hpv, hT]; exact (if_pos ⟨c_4, c_139⟩).symm), by rw [hT]; exact ht, hk⟩)
        · have := isD_lt c_48; omega
      | succ d ih =>
        intro a x_v G hd hu hab ha ht hk
        refine f_aload_n K dX9_number_30 rfl ?_
        refine f_aload_n K dX9_number_31 rfl ?_
        refine f_get (v := .int (nI a)) K fl_X9_171_X9 dX9_number_32 (tw_o ht) rfl ?_
        refine f_invV (As := [.int (nI a)]) (rest := []) K (tm_byteAt (E := E) (k := a) ht (nI a) rfl hl hl2 (by omega)) cs_X9_174 dX9_number_35 (tw_o ht) rfl rfl rfl (Nat.le_of_ble_eq_true rfl) (Nat.le_of_ble_eq_true rfl) (Nat.le_of_ble_eq_true rfl) (Nat.le_of_ble_eq_true rfl) (fun v H23 hq hz => ?_) (fun _ _ _ h9 _ _ => h9.elim)
        obtain ⟨rfl, hq⟩ := hq
        rw [hq]
        change Go E Z 4 G (0) (0) 38 [(3, .int x_v), (0, .ref m), (1, .int lo), (2, .int hi)] [.int (bt fb l a)]
        refine f_i2l (v := (bt fb l a).toInt64) K dX9_number_38 rfl ?_
        refine f_ldc2 (v := 48) K q3338 dX9_number_39 ?_
        refine f_ldc2 (v := 57) K q3339 dX9_number_42 ?_
        refine f_invS (As := [.long ((bt fb l a).toInt64), .long 48, .long 57]) (rest := []) K (tm_in (E := E)  (bt fb l a) ((bt fb l a).toInt64) (by rfl) 48 48 (by rfl) 57 57 (by rfl)) cs_X9_62 dX9_number_45 rfl rfl (Nat.le_of_ble_eq_true rfl) (Nat.le_of_ble_eq_true rfl) (Nat.le_of_ble_eq_true rfl) (Nat.le_of_ble_eq_true rfl) (fun v H24 hq hz => ?_) (fun _ _ _ h9 _ _ => h9.elim)
        obtain ⟨rfl, hq⟩ := hq
        rw [hq]
        change Go E Z 4 G (0) (0) 48 [(3, .int x_v), (0, .ref m), (1, .int lo), (2, .int hi)] [.int (bI (48 ≤ (bt fb l a) ∧ (bt fb l a) ≤ 57))]
        refine f_if_eqB (tgt := 98) K dX9_number_48 (by decide) (fun c_48 => ?_) (fun c_48 => ?_)
        · have hpv : pnv fb l T = (a, x_v) := hu.trans (pval_f c_48)
          refine f_aload_n K dX9_number_98 rfl ?_
          refine f_aload_n K dX9_number_99 rfl ?_
          refine f_get (v := .int (nI a)) K fl_X9_171_X9 dX9_number_100 (tw_o ht) rfl ?_
          refine f_aload_n K dX9_number_103 rfl ?_
          refine f_get (v := .int (nI ((pmu (48 ≤ (bt fb l (pnx fb l T).a) ∧ (bt fb l (pnx fb l T).a) ≤ 57) 1 (pnx fb l T)).b))) K fl_X9_177_X9 dX9_number_104 (tw_o ht) rfl ?_
          refine f_isub K dX9_number_107 ?_
          refine f_iconst (v := 3) K dX9_number_108 rfl ?_
          refine f_icmp_gt (tgt := 116) K dX9_number_109 (by decide) (fun c_109 => ?_) (fun c_109 => ?_)
          · have h3 : ¬ a - (pnx fb l T).a ≤ 3 := by
                intro z
                exact absurd c_109 (by rw [nis (x := nI a) (y := nI _) rfl rfl hab]; exact nI_nlt (a := 3) (by omega) (by decide))
            refine f_iconst (v := 0) K dX9_number_116 rfl ?_
            refine f_iconst (v := 1) K dX9_number_117 rfl ?_
            refine f_invV (As := [.int 0, .int 1]) (rest := []) K (tm_must (E := E)  ht False 1) cs_X9_200 dX9_number_118 (tw_o ht) rfl rfl rfl (Nat.le_of_ble_eq_true rfl) (Nat.le_of_ble_eq_true rfl) (Nat.le_of_ble_eq_true rfl) (Nat.le_of_ble_eq_true rfl) (fun v H27 hq hz => ?_) (fun _ _ _ h9 _ _ => h9.elim)
            obtain ⟨rfl, ht, hk1⟩ := hq
            have hk := hk.tr hk1
            have ht : twAt E H27 m ad (psc sc (pmu False 1 (a, (pmu (48 ≤ (bt fb l (pnx fb l T).a) ∧ (bt fb l (pnx fb l T).a) ≤ 57) 1 (pnx fb l T)).b, (pmu (48 ≤ (bt fb l (pnx fb l T).a) ∧ (bt fb l (pnx fb l T).a) ≤ 57) 1 (pnx fb l T)).w, (pmu (48 ≤ (bt fb l (pnx fb l T).a) ∧ (bt fb l (pnx fb l T).a) ≤ 57) 1 (pnx fb l T)).e, (pmu (48 ≤ (bt fb l (pnx fb l T).a) ∧ (bt fb l (pnx fb l T).a) ≤ 57) 1 (pnx fb l T)).x))) f0 f1 f2 f3 f4 fb ft fo := ht
            change Go E Z 4 H27 (0) (0) 121 [(3, .int x_v), (0, .ref m), (1, .int lo), (2, .int hi)] []
            refine f_aload_n K dX9_number_121 rfl ?_
            refine f_iload_n K dX9_number_122 rfl ?_
            refine f_i2l (v := x_v.toInt64) K dX9_number_123 rfl ?_
            refine f_iload_n K dX9_number_124 rfl ?_
            refine f_i2l (v := lo.toInt64) K dX9_number_125 rfl ?_
            refine f_iload_n K dX9_number_126 rfl ?_
            refine f_i2l (v := hi.toInt64) K dX9_number_127 rfl ?_
            refine f_invS (As := [.long x_v.toInt64, .long lo.toInt64, .long hi.toInt64]) (rest := [.ref m]) K (tm_in (E := E)  x_v x_v.toInt64 (by rfl) lo lo.toInt64 (by rfl) hi hi.toInt64 (by rfl)) cs_X9_62 dX9_number_128 rfl rfl (Nat.le_of_ble_eq_true rfl) (Nat.le_of_ble_eq_true rfl) (Nat.le_of_ble_eq_true rfl) (Nat.le_of_ble_eq_true rfl) (fun v H29 hq hz => ?_) (fun _ _ _ h9 _ _ => h9.elim)
            obtain ⟨rfl, hq⟩ := hq
            rw [hq]
            change Go E Z 4 H27 (0) (0) 131 [(3, .int x_v), (0, .ref m), (1, .int lo), (2, .int hi)] [.int (bI (lo ≤ x_v ∧ x_v ≤ hi)), .ref m]
            refine f_iconst (v := 2) K dX9_number_131 rfl ?_
            refine f_invV (As := [.int (bI (lo ≤ x_v ∧ x_v ≤ hi)), .int 2]) (rest := []) K (tm_must (E := E)  ht (lo ≤ x_v ∧ x_v ≤ hi) 2) cs_X9_200 dX9_number_132 (tw_o ht) rfl rfl rfl (Nat.le_of_ble_eq_true rfl) (Nat.le_of_ble_eq_true rfl) (Nat.le_of_ble_eq_true rfl) (Nat.le_of_ble_eq_true rfl) (fun v H30 hq hz => ?_) (fun _ _ _ h9 _ _ => h9.elim)
            obtain ⟨rfl, ht, hk1⟩ := hq
            have hk := hk.tr hk1
            have ht : twAt E H30 m ad (psc sc (pmu (lo ≤ x_v ∧ x_v ≤ hi) 2 (pmu False 1 (a, (pmu (48 ≤ (bt fb l (pnx fb l T).a) ∧ (bt fb l (pnx fb l T).a) ≤ 57) 1 (pnx fb l T)).b, (pmu (48 ≤ (bt fb l (pnx fb l T).a) ∧ (bt fb l (pnx fb l T).a) ≤ 57) 1 (pnx fb l T)).w, (pmu (48 ≤ (bt fb l (pnx fb l T).a) ∧ (bt fb l (pnx fb l T).a) ≤ 57) 1 (pnx fb l T)).e, (pmu (48 ≤ (bt fb l (pnx fb l T).a) ∧ (bt fb l (pnx fb l T).a) ≤ 57) 1 (pnx fb l T)).x)))) f0 f1 f2 f3 f4 fb ft fo := ht
            change Go E Z 4 H30 (0) (0) 135 [(3, .int x_v), (0, .ref m), (1, .int lo), (2, .int hi)] []
            have hT : pnT fb l lo hi T = (pmu (lo ≤ x_v ∧ x_v ≤ hi) 2 (pmu False 1 (a, (pmu (48 ≤ (bt fb l (pnx fb l T).a) ∧ (bt fb l (pnx fb l T).a) ≤ 57) 1 (pnx fb l T)).b, (pmu (48 ≤ (bt fb l (pnx fb l T).a) ∧ (bt fb l (pnx fb l T).a) ≤ 57) 1 (pnx fb l T)).w, (pmu (48 ≤ (bt fb l (pnx fb l T).a) ∧ (bt fb l (pnx fb l T).a) ≤ 57) 1 (pnx fb l T)).e, (pmu (48 ≤ (bt fb l (pnx fb l T).a) ∧ (bt fb l (pnx fb l T).a) ≤ 57) 1 (pnx fb l T)).x))) := (pnT_1 c_4 hpv).trans (congrArg (pmu (lo ≤ x_v ∧ x_v ≤ hi) 2) (pmu_ff h3).symm)
            refine f_aload_n K dX9_number_135 rfl ?_
            refine f_get (v := .int ((pmu (lo ≤ x_v ∧ x_v ≤ hi) 2 (pmu False 1 (a, (pmu (48 ≤ (bt fb l (pnx fb l T).a) ∧ (bt fb l (pnx fb l T).a) ≤ 57) 1 (pnx fb l T)).b, (pmu (48 ≤ (bt fb l (pnx fb l T).a) ∧ (bt fb l (pnx fb l T).a) ≤ 57) 1 (pnx fb l T)).w, (pmu (48 ≤ (bt fb l (pnx fb l T).a) ∧ (bt fb l (pnx fb l T).a) ≤ 57) 1 (pnx fb l T)).e, (pmu (48 ≤ (bt fb l (pnx fb l T).a) ∧ (bt fb l (pnx fb l T).a) ≤ 57) 1 (pnx fb l T)).x))).e)) K fl_X9_187_X9 dX9_number_136 (tw_o ht) rfl ?_
            refine f_if_ne (tgt := 146) K dX9_number_139 (by decide) (fun c_139 => ?_) (fun c_139 => ?_)
            · refine f_iload_n K dX9_number_146 rfl ?_
              exact f_retI K X (Or.inl rfl) dX9_number_147 (Nat.le_of_ble_eq_true rfl) (Nat.le_of_ble_eq_true rfl) (⟨rI (by rw [pnum, hpv, hT]; exact (if_neg (fun z => c_139 z.2)).symm), by rw [hT]; exact ht, hk⟩)
            · refine f_iload_n K dX9_number_142 rfl ?_
              refine f_goto (tgt := 147) K dX9_number_143 (by decide) ?_
              exact f_retI K X (Or.inl rfl) dX9_number_147 (Nat.le_of_ble_eq_true rfl) (Nat.le_of_ble_eq_true rfl) (⟨rI (by rw [pnum, hpv, hT]; exact (if_pos ⟨c_4, c_139⟩).symm), by rw [hT]; exact ht, hk⟩)
          · have h3 : a - (pnx fb l T).a ≤ 3 := by
                rcases Nat.lt_or_ge 3 (a - (pnx fb l T).a) with z | z
                · exact absurd (by rw [nis (x := nI a) (y := nI _) rfl rfl hab]; exact nI_lt (a := 3) (by omega) (by omega)) c_109
                · exact z
            refine f_iconst (v := 1) K dX9_number_112 rfl ?_
            refine f_goto (tgt := 117) K dX9_number_113 (by decide) ?_
            refine f_iconst (v := 1) K dX9_number_117 rfl ?_
            refine f_invV (As := [.int 1, .int 1]) (rest := []) K (tm_must (E := E)  ht True 1) cs_X9_200 dX9_number_118 (tw_o ht) rfl rfl rfl (Nat.le_of_ble_eq_true rfl) (Nat.le_of_ble_eq_true rfl) (Nat.le_of_ble_eq_true rfl) (Nat.le_of_ble_eq_true rfl) (fun v H33 hq hz => ?_) (fun _ _ _ h9 _ _ => h9.elim)
            obtain ⟨rfl, ht, hk1⟩ := hq
            have hk := hk.tr hk1
            have ht : twAt E H33 m ad (psc sc (pmu True 1 (a, (pmu (48 ≤ (bt fb l (pnx fb l T).a) ∧ (bt fb l (pnx fb l T).a) ≤ 57) 1 (pnx fb l T)).b, (pmu (48 ≤ (bt fb l (pnx fb l T).a) ∧ (bt fb l (pnx fb l T).a) ≤ 57) 1 (pnx fb l T)).w, (pmu (48 ≤ (bt fb l (pnx fb l T).a) ∧ (bt fb l (pnx fb l T).a) ≤ 57) 1 (pnx fb l T)).e, (pmu (48 ≤ (bt fb l (pnx fb l T).a) ∧ (bt fb l (pnx fb l T).a) ≤ 57) 1 (pnx fb l T)).x))) f0 f1 f2 f3 f4 fb ft fo := ht
            change Go E Z 4 H33 (0) (0) 121 [(3, .int x_v), (0, .ref m), (1, .int lo), (2, .int hi)] []
            refine f_aload_n K dX9_number_121 rfl ?_
            refine f_iload_n K dX9_number_122 rfl ?_
            refine f_i2l (v := x_v.toInt64) K dX9_number_123 rfl ?_
            refine f_iload_n K dX9_number_124 rfl ?_
            refine f_i2l (v := lo.toInt64) K dX9_number_125 rfl ?_
            refine f_iload_n K dX9_number_126 rfl ?_
            refine f_i2l (v := hi.toInt64) K dX9_number_127 rfl ?_
            refine f_invS (As := [.long x_v.toInt64, .long lo.toInt64, .long hi.toInt64]) (rest := [.ref m]) K (tm_in (E := E)  x_v x_v.toInt64 (by rfl) lo lo.toInt64 (by rfl) hi hi.toInt64 (by rfl)) cs_X9_62 dX9_number_128 rfl rfl (Nat.le_of_ble_eq_true rfl) (Nat.le_of_ble_eq_true rfl) (Nat.le_of_ble_eq_true rfl) (Nat.le_of_ble_eq_true rfl) (fun v H35 hq hz => ?_) (fun _ _ _ h9 _ _ => h9.elim)
            obtain ⟨rfl, hq⟩ := hq
            rw [hq]
            change Go E Z 4 H33 (0) (0) 131 [(3, .int x_v), (0, .ref m), (1, .int lo), (2, .int hi)] [.int (bI (lo ≤ x_v ∧ x_v ≤ hi)), .ref m]
            refine f_iconst (v := 2) K dX9_number_131 rfl ?_
            refine f_invV (As := [.int (bI (lo ≤ x_v ∧ x_v ≤ hi)), .int 2]) (rest := []) K (tm_must (E := E)  ht (lo ≤ x_v ∧ x_v ≤ hi) 2) cs_X9_200 dX9_number_132 (tw_o ht) rfl rfl rfl (Nat.le_of_ble_eq_true rfl) (Nat.le_of_ble_eq_true rfl) (Nat.le_of_ble_eq_true rfl) (Nat.le_of_ble_eq_true rfl) (fun v H36 hq hz => ?_) (fun _ _ _ h9 _ _ => h9.elim)
            obtain ⟨rfl, ht, hk1⟩ := hq
            have hk := hk.tr hk1
            have ht : twAt E H36 m ad (psc sc (pmu (lo ≤ x_v ∧ x_v ≤ hi) 2 (pmu True 1 (a, (pmu (48 ≤ (bt fb l (pnx fb l T).a) ∧ (bt fb l (pnx fb l T).a) ≤ 57) 1 (pnx fb l T)).b, (pmu (48 ≤ (bt fb l (pnx fb l T).a) ∧ (bt fb l (pnx fb l T).a) ≤ 57) 1 (pnx fb l T)).w, (pmu (48 ≤ (bt fb l (pnx fb l T).a) ∧ (bt fb l (pnx fb l T).a) ≤ 57) 1 (pnx fb l T)).e, (pmu (48 ≤ (bt fb l (pnx fb l T).a) ∧ (bt fb l (pnx fb l T).a) ≤ 57) 1 (pnx fb l T)).x)))) f0 f1 f2 f3 f4 fb ft fo := ht
            change Go E Z 4 H36 (0) (0) 135 [(3, .int x_v), (0, .ref m), (1, .int lo), (2, .int hi)] []
            have hT : pnT fb l lo hi T = (pmu (lo ≤ x_v ∧ x_v ≤ hi) 2 (pmu True 1 (a, (pmu (48 ≤ (bt fb l (pnx fb l T).a) ∧ (bt fb l (pnx fb l T).a) ≤ 57) 1 (pnx fb l T)).b, (pmu (48 ≤ (bt fb l (pnx fb l T).a) ∧ (bt fb l (pnx fb l T).a) ≤ 57) 1 (pnx fb l T)).w, (pmu (48 ≤ (bt fb l (pnx fb l T).a) ∧ (bt fb l (pnx fb l T).a) ≤ 57) 1 (pnx fb l T)).e, (pmu (48 ≤ (bt fb l (pnx fb l T).a) ∧ (bt fb l (pnx fb l T).a) ≤ 57) 1 (pnx fb l T)).x))) := (pnT_1 c_4 hpv).trans (congrArg (pmu (lo ≤ x_v ∧ x_v ≤ hi) 2) (pmu_tt h3).symm)
            refine f_aload_n K dX9_number_135 rfl ?_
            refine f_get (v := .int ((pmu (lo ≤ x_v ∧ x_v ≤ hi) 2 (pmu True 1 (a, (pmu (48 ≤ (bt fb l (pnx fb l T).a) ∧ (bt fb l (pnx fb l T).a) ≤ 57) 1 (pnx fb l T)).b, (pmu (48 ≤ (bt fb l (pnx fb l T).a) ∧ (bt fb l (pnx fb l T).a) ≤ 57) 1 (pnx fb l T)).w, (pmu (48 ≤ (bt fb l (pnx fb l T).a) ∧ (bt fb l (pnx fb l T).a) ≤ 57) 1 (pnx fb l T)).e, (pmu (48 ≤ (bt fb l (pnx fb l T).a) ∧ (bt fb l (pnx fb l T).a) ≤ 57) 1 (pnx fb l T)).x))).e)) K fl_X9_187_X9 dX9_number_136 (tw_o ht) rfl ?_
            refine f_if_ne (tgt := 146) K dX9_number_139 (by decide) (fun c_139 => ?_) (fun c_139 => ?_)
            · refine f_iload_n K dX9_number_146 rfl ?_
              exact f_retI K X (Or.inl rfl) dX9_number_147 (Nat.le_of_ble_eq_true rfl) (Nat.le_of_ble_eq_true rfl) (⟨rI (by rw [pnum, hpv, hT]; exact (if_neg (fun z => c_139 z.2)).symm), by rw [hT]; exact ht, hk⟩)
            · refine f_iload_n K dX9_number_142 rfl ?_
              refine f_goto (tgt := 147) K dX9_number_143 (by decide) ?_
              exact f_retI K X (Or.inl rfl) dX9_number_147 (Nat.le_of_ble_eq_true rfl) (Nat.le_of_ble_eq_true rfl) (⟨rI (by rw [pnum, hpv, hT]; exact (if_pos ⟨c_4, c_139⟩).symm), by rw [hT]; exact ht, hk⟩)
        · refine f_aload_n K dX9_number_51 rfl ?_
          refine f_get (v := .int (nI a)) K fl_X9_171_X9 dX9_number_52 (tw_o ht) rfl ?_
          refine f_aload_n K dX9_number_55 rfl ?_
          refine f_get (v := .int (nI ((pmu (48 ≤ (bt fb l (pnx fb l T).a) ∧ (bt fb l (pnx fb l T).a) ≤ 57) 1 (pnx fb l T)).b))) K fl_X9_177_X9 dX9_number_56 (tw_o ht) rfl ?_
          refine f_isub K dX9_number_59 ?_
          refine f_iconst (v := 3) K dX9_number_60 rfl ?_
          refine f_icmp_ge (tgt := 83) K dX9_number_61 (by decide) (fun c_61 => ?_) (fun c_61 => ?_)
          · have hlt : ¬ a - (pnx fb l T).a < 3 := by
                intro z
                exact absurd c_61 (by rw [nis (x := nI a) (y := nI _) rfl rfl hab]; exact nI_ge (a := _) (b := 3) (by omega) (by decide))
            refine f_iload_n K dX9_number_83 rfl ?_
            refine f_istore_n (lv' := [(3, .int x_v), (0, .ref m), (1, .int lo), (2, .int hi)]) K dX9_number_84 (by decide) rfl ?_
            refine f_aload_n K dX9_number_85 rfl ?_
            refine f_dup K dX9_number_86 rfl ?_
            refine f_get (v := .int (nI a)) K fl_X9_171_X9 dX9_number_87 (tw_o ht) rfl ?_
            refine f_iconst (v := 1) K dX9_number_90 rfl ?_
            refine f_iadd K dX9_number_91 ?_
            refine f_put K fp_X9_171_X9 dX9_number_92 (tw_o ht) (tw_lo ht) (Nat.le_of_ble_eq_true rfl) rfl rfl (fun H40 hU ho => ?_)
            have ht := tw_put (sc' := upd (psc sc (a, (pmu (48 ≤ (bt fb l (pnx fb l T).a) ∧ (bt fb l (pnx fb l T).a) ≤ 57) 1 (pnx fb l T)).b, (pmu (48 ≤ (bt fb l (pnx fb l T).a) ∧ (bt fb l (pnx fb l T).a) ≤ 57) 1 (pnx fb l T)).w, (pmu (48 ≤ (bt fb l (pnx fb l T).a) ∧ (bt fb l (pnx fb l T).a) ≤ 57) 1 (pnx fb l T)).e, (pmu (48 ≤ (bt fb l (pnx fb l T).a) ∧ (bt fb l (pnx fb l T).a) ≤ 57) 1 (pnx fb l T)).x)) 11 ((nI a) + 1)) ht hU ho rfl
            have hk := hk.put hU
            rw [psc_11 (h := (nia rfl nl_1))] at ht
            have ht : twAt E H40 m ad (psc sc ((a + 1), (pmu (48 ≤ (bt fb l (pnx fb l T).a) ∧ (bt fb l (pnx fb l T).a) ≤ 57) 1 (pnx fb l T)).b, (pmu (48 ≤ (bt fb l (pnx fb l T).a) ∧ (bt fb l (pnx fb l T).a) ≤ 57) 1 (pnx fb l T)).w, (pmu (48 ≤ (bt fb l (pnx fb l T).a) ∧ (bt fb l (pnx fb l T).a) ≤ 57) 1 (pnx fb l T)).e, (pmu (48 ≤ (bt fb l (pnx fb l T).a) ∧ (bt fb l (pnx fb l T).a) ≤ 57) 1 (pnx fb l T)).x)) f0 f1 f2 f3 f4 fb ft fo := ht
            refine f_goto (tgt := 30) K dX9_number_95 (by decide) ?_
            exact ih (a + 1) _ _ (by omega) (hu.trans ((pval_t c_48).trans (by rw [if_neg hlt]))) (by omega) (by have := isD_lt c_48; omega) ht hk
          · have hlt : a - (pnx fb l T).a < 3 := by
                rcases Nat.lt_or_ge (a - (pnx fb l T).a) 3 with z | z
                · exact z
                · exact absurd (by rw [nis (x := nI a) (y := nI _) rfl rfl hab]; exact nI_le (a := 3) (by omega) (by omega)) c_61
            refine f_bipush (v := 10) K dX9_number_64 rfl ?_
            refine f_iload_n K dX9_number_66 rfl ?_
            refine f_imul K dX9_number_67 ?_
            refine f_aload_n K dX9_number_68 rfl ?_
            refine f_aload_n K dX9_number_69 rfl ?_
            refine f_get (v := .int (nI a)) K fl_X9_171_X9 dX9_number_70 (tw_o ht) rfl ?_
            refine f_invV (As := [.int (nI a)]) (rest := [.int (10 * x_v)]) K (tm_byteAt (E := E) (k := a) ht (nI a) rfl hl hl2 (by omega)) cs_X9_174 dX9_number_73 (tw_o ht) rfl rfl rfl (Nat.le_of_ble_eq_true rfl) (Nat.le_of_ble_eq_true rfl) (Nat.le_of_ble_eq_true rfl) (Nat.le_of_ble_eq_true rfl) (fun v H41 hq hz => ?_) (fun _ _ _ h9 _ _ => h9.elim)
            obtain ⟨rfl, hq⟩ := hq
            rw [hq]
            change Go E Z 4 G (0) (0) 76 [(3, .int x_v), (0, .ref m), (1, .int lo), (2, .int hi)] [.int (bt fb l a), .int (10 * x_v)]
            refine f_iadd K dX9_number_76 ?_
            refine f_bipush (v := 48) K dX9_number_77 rfl ?_
            refine f_isub K dX9_number_79 ?_
            refine f_goto (tgt := 84) K dX9_number_80 (by decide) ?_
            refine f_istore_n (lv' := [(3, .int (((10 * x_v) + (bt fb l a)) - 48)), (0, .ref m), (1, .int lo), (2, .int hi)]) K dX9_number_84 (by decide) rfl ?_
            refine f_aload_n K dX9_number_85 rfl ?_
            refine f_dup K dX9_number_86 rfl ?_
            refine f_get (v := .int (nI a)) K fl_X9_171_X9 dX9_number_87 (tw_o ht) rfl ?_
            refine f_iconst (v := 1) K dX9_number_90 rfl ?_
            refine f_iadd K dX9_number_91 ?_
            refine f_put K fp_X9_171_X9 dX9_number_92 (tw_o ht) (tw_lo ht) (Nat.le_of_ble_eq_true rfl) rfl rfl (fun H42 hU ho => ?_)
            have ht := tw_put (sc' := upd (psc sc (a, (pmu (48 ≤ (bt fb l (pnx fb l T).a) ∧ (bt fb l (pnx fb l T).a) ≤ 57) 1 (pnx fb l T)).b, (pmu (48 ≤ (bt fb l (pnx fb l T).a) ∧ (bt fb l (pnx fb l T).a) ≤ 57) 1 (pnx fb l T)).w, (pmu (48 ≤ (bt fb l (pnx fb l T).a) ∧ (bt fb l (pnx fb l T).a) ≤ 57) 1 (pnx fb l T)).e, (pmu (48 ≤ (bt fb l (pnx fb l T).a) ∧ (bt fb l (pnx fb l T).a) ≤ 57) 1 (pnx fb l T)).x)) 11 ((nI a) + 1)) ht hU ho rfl
            have hk := hk.put hU
            rw [psc_11 (h := (nia rfl nl_1))] at ht
            have ht : twAt E H42 m ad (psc sc ((a + 1), (pmu (48 ≤ (bt fb l (pnx fb l T).a) ∧ (bt fb l (pnx fb l T).a) ≤ 57) 1 (pnx fb l T)).b, (pmu (48 ≤ (bt fb l (pnx fb l T).a) ∧ (bt fb l (pnx fb l T).a) ≤ 57) 1 (pnx fb l T)).w, (pmu (48 ≤ (bt fb l (pnx fb l T).a) ∧ (bt fb l (pnx fb l T).a) ≤ 57) 1 (pnx fb l T)).e, (pmu (48 ≤ (bt fb l (pnx fb l T).a) ∧ (bt fb l (pnx fb l T).a) ≤ 57) 1 (pnx fb l T)).x)) f0 f1 f2 f3 f4 fb ft fo := ht
            refine f_goto (tgt := 30) K dX9_number_95 (by decide) ?_
            exact ih (a + 1) _ _ (by omega) (hu.trans ((pval_t c_48).trans (by rw [if_pos hlt]))) (by omega) (by have := isD_lt c_48; omega) ht hk
    exact loop1 (l - (pnx fb l T).a) ((pmu (48 ≤ (bt fb l (pnx fb l T).a) ∧ (bt fb l (pnx fb l T).a) ≤ 57) 1 (pnx fb l T)).a) 0 _ (by rw [hma]) (by rw [hma]; rfl) (by rw [hma, hmb]; exact Nat.le_refl _) (by rw [hma]; omega) ht hk
  · refine f_iload_n K dX9_number_7 rfl ?_
    exact f_retI K X (Or.inl rfl) dX9_number_8 (Nat.le_of_ble_eq_true rfl) (Nat.le_of_ble_eq_true rfl) (⟨rI (show pnum fb l lo hi T = _ from if_neg (fun z => c_4 z.1)).symm, by rw [show pnT fb l lo hi T = T from if_neg c_4]; exact ht, hk⟩)
