/-! TWIN 6: contracts, output and buffer -/
set_option maxRecDepth 100000
set_option maxHeartbeats 400000
theorem nl_32 : (32 : Int32) = nI 32 := rfl
theorem nl_42 : (42 : Int32) = nI 42 := rfl
theorem nl_60 : (60 : Int32) = nI 60 := rfl
theorem nl_62 : (62 : Int32) = nI 62 := rfl
theorem nl_255 : (255 : Int32) = nI 255 := rfl
theorem nl_700 : (700 : Int32) = nI 700 := rfl
theorem cs_X9_392 : CSV "SnowPassModel" 392 yX9_writesNumber prog_17_method_144_code 3 none 1 := ⟨⟨by decide +kernel, by decide +kernel, by decide +kernel⟩, q3948, q3950, qs121, q161, q3951, by decide⟩
theorem cs_X9_395 : CSV "SnowPassModel" 395 yX9_writesSegment prog_17_method_145_code 2 none 1 := ⟨⟨by decide +kernel, by decide +kernel, by decide +kernel⟩, q3944, q3946, qs120, q161, q3947, by decide⟩
theorem fl_X9_25_X9 : FL "SnowPassModel" 25 8 9 := ⟨RX9, TX9, 22, "SnowPassModel", rfl, in_X9, by decide, Or.inl rfl, Or.inl q3414⟩
theorem fl_X9_50_X9 : FL "SnowPassModel" 50 8 10 := ⟨RX9, TX9, 22, "SnowPassModel", rfl, in_X9, by decide, Or.inl rfl, Or.inl q3415⟩
theorem fp_X9_50_X9 {nm : String} : FLp "SnowPassModel" 50 8 10 .int nm := ⟨RX9, TX9, 22, "SnowPassModel", tyX9, rfl, in_X9, by decide, Or.inl rfl, tyX9_ok, nmX9, by decide +kernel, Or.inl ⟨q3415, Or.inl rfl⟩⟩
theorem cs_X9_168 : CSV "SnowPassModel" 168 yX9_four prog_17_method_48_code 3 none 1 := ⟨⟨by decide +kernel, by decide +kernel, by decide +kernel⟩, q3480, q3482, qs71, q161, q3483, by decide⟩
theorem okr.dd {n t k : Nat} {f : Row} (h : okr n t f) (hk : k < n) : f (25 + 3 * k) = nI (f (25 + 3 * k)).toNatClampNeg ∧ (f (25 + 3 * k)).toNatClampNeg < 1000 := by
  obtain ⟨d, hd, e⟩ := h.d hk
  rw [e, nI_clamp (by omega)]
  exact ⟨rfl, by omega⟩
theorem owc_t {o : Row × Nat} {p : Prop} [Decidable p] {c : Int32} (h : p) : owc o p c = ow o c := if_pos h
theorem owc_f {o : Row × Nat} {p : Prop} [Decidable p] {c : Int32} (h : ¬ p) : owc o p c = o := if_neg h
/-- writesSegment(I)V -/
theorem tm_writesSegment {E : fE} {H : Heap} {m : Nat} {ad : Nat → Nat} {sc f0 f1 f2 f3 f4 fb ft fo : Row} (ht : twAt E H m ad sc f0 f1 f2 f3 f4 fb ft fo) (x_j : Int32) {j : Nat} (h_j : x_j = nI j) {n t k : Nat} (ok : okr n t f0) (hj : j < n) (hol : sc 21 = nI k) (hk9 : k + 6 < 160) : fM E yX9_writesSegment prog_17_method_145_code 2 none 3 0 0 [.ref m, .int x_j] H (fun r_ H' => r_ = none ∧ twAt E H' m ad (upd sc 21 (nI (ows f0 (fo, k) j).2)) f0 f1 f2 f3 f4 fb ft ((ows f0 (fo, k) j).1) ∧ twK m ad H H') noX := by
  refine f_start (own := "SnowPassModel") (nm := "writesSegment") (lv := [(0, .ref m), (1, .int x_j)]) pn_X9 rfl rfl (Nat.le_of_ble_eq_true rfl) rfl (fun Z K X => ?_)
  have hb9 := ok.1
  have hdp := ok.dd hj
  have hlen : k ≤ (own (fo, k) (f0 (25 + 3 * j)).toNatClampNeg).2 ∧ (own (fo, k) (f0 (25 + 3 * j)).toNatClampNeg).2 ≤ k + 3 := own_le (fo, k) (f0 (25 + 3 * j)).toNatClampNeg
  have hk := twK.rf (m := m) (ad := ad) (H := H)
  refine f_aload_n K dX9_writesSegment_0 rfl ?_
  refine f_aload_n K dX9_writesSegment_1 rfl ?_
  refine f_iload_n K dX9_writesSegment_2 rfl ?_
  refine f_iconst (v := 0) K dX9_writesSegment_3 rfl ?_
  refine f_invV (As := [.int x_j, .int 0]) (rest := [.ref m]) K (tm_of (E := E) (k := j) (w := 0) ht x_j h_j 0 nl_0 (by omega)) cs_X9_66 dX9_writesSegment_4 (tw_o ht) rfl rfl rfl (Nat.le_of_ble_eq_true rfl) (Nat.le_of_ble_eq_true rfl) (Nat.le_of_ble_eq_true rfl) (Nat.le_of_ble_eq_true rfl) (fun v H1 hq hz => ?_) (fun _ _ _ h9 _ _ => h9.elim)
  obtain ⟨rfl, hq⟩ := hq
  rw [hq]
  change Go E Z 2 H (0) (0) 7 [(0, .ref m), (1, .int x_j)] [.int (f0 (25 + 3 * j)), .ref m]
  refine f_invV (As := [.int (f0 (25 + 3 * j))]) (rest := []) K (tm_writesNumber (E := E) (d := (f0 (25 + 3 * j)).toNatClampNeg) ht (f0 (25 + 3 * j)) hdp.1 hdp.2 hol (by omega)) cs_X9_392 dX9_writesSegment_7 (tw_o ht) rfl rfl rfl (Nat.le_of_ble_eq_true rfl) (Nat.le_of_ble_eq_true rfl) (Nat.le_of_ble_eq_true rfl) (Nat.le_of_ble_eq_true rfl) (fun v H2 hq hz => ?_) (fun _ _ _ h9 _ _ => h9.elim)
  obtain ⟨rfl, ht, hk1⟩ := hq
  have hk := hk.tr hk1
  have ht : twAt E H2 m ad (upd sc 21 (nI (own (fo, k) ((f0 (25 + 3 * j)).toNatClampNeg)).2)) f0 f1 f2 f3 f4 fb ft ((own (fo, k) ((f0 (25 + 3 * j)).toNatClampNeg)).1) := ht
  change Go E Z 2 H2 (0) (0) 10 [(0, .ref m), (1, .int x_j)] []
  have hol3 := show (upd sc 21 (nI (own (fo, k) ((f0 (25 + 3 * j)).toNatClampNeg)).2)) 21 = _ from rfl
  refine f_aload_n K dX9_writesSegment_10 rfl ?_
  refine f_iload_n K dX9_writesSegment_11 rfl ?_
  refine f_iconst (v := 2) K dX9_writesSegment_12 rfl ?_
  refine f_invV (As := [.int x_j, .int 2]) (rest := []) K (tm_of (E := E) (k := j) (w := 2) ht x_j h_j 2 nl_2 (by omega)) cs_X9_66 dX9_writesSegment_13 (tw_o ht) rfl rfl rfl (Nat.le_of_ble_eq_true rfl) (Nat.le_of_ble_eq_true rfl) (Nat.le_of_ble_eq_true rfl) (Nat.le_of_ble_eq_true rfl) (fun v H4 hq hz => ?_) (fun _ _ _ h9 _ _ => h9.elim)
  obtain ⟨rfl, hq⟩ := hq
  rw [hq]
  change Go E Z 2 H2 (0) (0) 16 [(0, .ref m), (1, .int x_j)] [.int (f0 (25 + 3 * j + 2))]
  refine f_if_le (tgt := 25) K dX9_writesSegment_16 (by decide) (fun c_16 => ?_) (fun c_16 => ?_)
  · refine f_aload_n K dX9_writesSegment_25 rfl ?_
    refine f_iconst (v := 0) K dX9_writesSegment_26 rfl ?_
    refine f_iconst (v := 0) K dX9_writesSegment_27 rfl ?_
    refine f_invV (As := [.int 0, .int 0]) (rest := []) K (tm_ofPlough (E := E) (p := 0) (w := 0) ht 0 nl_0 0 nl_0 (by omega)) cs_X9_70 dX9_writesSegment_28 (tw_o ht) rfl rfl rfl (Nat.le_of_ble_eq_true rfl) (Nat.le_of_ble_eq_true rfl) (Nat.le_of_ble_eq_true rfl) (Nat.le_of_ble_eq_true rfl) (fun v H6 hq hz => ?_) (fun _ _ _ h9 _ _ => h9.elim)
    obtain ⟨rfl, hq⟩ := hq
    rw [hq]
    change Go E Z 2 H2 (0) (0) 31 [(0, .ref m), (1, .int x_j)] [.int (f0 17)]
    refine f_iload_n K dX9_writesSegment_31 rfl ?_
    refine f_icmp_ne (tgt := 41) K dX9_writesSegment_32 (by decide) (fun c_32 => ?_) (fun c_32 => ?_)
    · refine f_aload_n K dX9_writesSegment_41 rfl ?_
      refine f_iconst (v := 1) K dX9_writesSegment_42 rfl ?_
      refine f_iconst (v := 0) K dX9_writesSegment_43 rfl ?_
      refine f_invV (As := [.int 1, .int 0]) (rest := []) K (tm_ofPlough (E := E) (p := 1) (w := 0) ht 1 nl_1 0 nl_0 (by omega)) cs_X9_70 dX9_writesSegment_44 (tw_o ht) rfl rfl rfl (Nat.le_of_ble_eq_true rfl) (Nat.le_of_ble_eq_true rfl) (Nat.le_of_ble_eq_true rfl) (Nat.le_of_ble_eq_true rfl) (fun v H8 hq hz => ?_) (fun _ _ _ h9 _ _ => h9.elim)
      obtain ⟨rfl, hq⟩ := hq
      rw [hq]
      change Go E Z 2 H2 (0) (0) 47 [(0, .ref m), (1, .int x_j)] [.int (f0 21)]
      refine f_iload_n K dX9_writesSegment_47 rfl ?_
      refine f_icmp_ne (tgt := 57) K dX9_writesSegment_48 (by decide) (fun c_48 => ?_) (fun c_48 => ?_)
      · exact f_retV K X rfl dX9_writesSegment_57 (Nat.le_of_ble_eq_true rfl) (Nat.le_of_ble_eq_true rfl) (⟨rfl, by rw [ows, owc_f (fun z => c_48 (z.trans h_j.symm)), owc_f (fun z => c_32 (z.trans h_j.symm)), owc_f (Int32.not_lt.mpr c_16)]; exact ht, hk⟩)
      · refine f_aload_n K dX9_writesSegment_51 rfl ?_
        refine f_bipush (v := 62) K dX9_writesSegment_52 rfl ?_
        refine f_invV (As := [.int 62]) (rest := []) K (tm_writes (E := E)  ht 62 hol3 (by omega)) cs_X9_389 dX9_writesSegment_54 (tw_o ht) rfl rfl rfl (Nat.le_of_ble_eq_true rfl) (Nat.le_of_ble_eq_true rfl) (Nat.le_of_ble_eq_true rfl) (Nat.le_of_ble_eq_true rfl) (fun v H10 hq hz => ?_) (fun _ _ _ h9 _ _ => h9.elim)
        obtain ⟨rfl, ht, hk1⟩ := hq
        have hk := hk.tr hk1
        have ht : twAt E H10 m ad (upd (upd sc 21 (nI (own (fo, k) ((f0 (25 + 3 * j)).toNatClampNeg)).2)) 21 (nI (((own (fo, k) (f0 (25 + 3 * j)).toNatClampNeg).2) + 1))) f0 f1 f2 f3 f4 fb ft (upd ((own (fo, k) ((f0 (25 + 3 * j)).toNatClampNeg)).1) ((own (fo, k) (f0 (25 + 3 * j)).toNatClampNeg).2) 62) := ht
        change Go E Z 2 H10 (0) (0) 57 [(0, .ref m), (1, .int x_j)] []
        have hol11 := show (upd (upd sc 21 (nI (own (fo, k) ((f0 (25 + 3 * j)).toNatClampNeg)).2)) 21 (nI (((own (fo, k) (f0 (25 + 3 * j)).toNatClampNeg).2) + 1))) 21 = _ from rfl
        exact f_retV K X rfl dX9_writesSegment_57 (Nat.le_of_ble_eq_true rfl) (Nat.le_of_ble_eq_true rfl) (⟨rfl, by rw [ows, owc_t (c_48.trans h_j), owc_f (fun z => c_32 (z.trans h_j.symm)), owc_f (Int32.not_lt.mpr c_16)]; rw [upd_upd] at ht; exact ht, hk⟩)
    · refine f_aload_n K dX9_writesSegment_35 rfl ?_
      refine f_bipush (v := 60) K dX9_writesSegment_36 rfl ?_
      refine f_invV (As := [.int 60]) (rest := []) K (tm_writes (E := E)  ht 60 hol3 (by omega)) cs_X9_389 dX9_writesSegment_38 (tw_o ht) rfl rfl rfl (Nat.le_of_ble_eq_true rfl) (Nat.le_of_ble_eq_true rfl) (Nat.le_of_ble_eq_true rfl) (Nat.le_of_ble_eq_true rfl) (fun v H12 hq hz => ?_) (fun _ _ _ h9 _ _ => h9.elim)
      obtain ⟨rfl, ht, hk1⟩ := hq
      have hk := hk.tr hk1
      have ht : twAt E H12 m ad (upd (upd sc 21 (nI (own (fo, k) ((f0 (25 + 3 * j)).toNatClampNeg)).2)) 21 (nI (((own (fo, k) (f0 (25 + 3 * j)).toNatClampNeg).2) + 1))) f0 f1 f2 f3 f4 fb ft (upd ((own (fo, k) ((f0 (25 + 3 * j)).toNatClampNeg)).1) ((own (fo, k) (f0 (25 + 3 * j)).toNatClampNeg).2) 60) := ht
      change Go E Z 2 H12 (0) (0) 41 [(0, .ref m), (1, .int x_j)] []
      have hol13 := show (upd (upd sc 21 (nI (own (fo, k) ((f0 (25 + 3 * j)).toNatClampNeg)).2)) 21 (nI (((own (fo, k) (f0 (25 + 3 * j)).toNatClampNeg).2) + 1))) 21 = _ from rfl
      refine f_aload_n K dX9_writesSegment_41 rfl ?_
      refine f_iconst (v := 1) K dX9_writesSegment_42 rfl ?_
      refine f_iconst (v := 0) K dX9_writesSegment_43 rfl ?_
      refine f_invV (As := [.int 1, .int 0]) (rest := []) K (tm_ofPlough (E := E) (p := 1) (w := 0) ht 1 nl_1 0 nl_0 (by omega)) cs_X9_70 dX9_writesSegment_44 (tw_o ht) rfl rfl rfl (Nat.le_of_ble_eq_true rfl) (Nat.le_of_ble_eq_true rfl) (Nat.le_of_ble_eq_true rfl) (Nat.le_of_ble_eq_true rfl) (fun v H14 hq hz => ?_) (fun _ _ _ h9 _ _ => h9.elim)
      obtain ⟨rfl, hq⟩ := hq
      rw [hq]
      change Go E Z 2 H12 (0) (0) 47 [(0, .ref m), (1, .int x_j)] [.int (f0 21)]
      refine f_iload_n K dX9_writesSegment_47 rfl ?_
      refine f_icmp_ne (tgt := 57) K dX9_writesSegment_48 (by decide) (fun c_48 => ?_) (fun c_48 => ?_)
      · exact f_retV K X rfl dX9_writesSegment_57 (Nat.le_of_ble_eq_true rfl) (Nat.le_of_ble_eq_true rfl) (⟨rfl, by rw [ows, owc_f (fun z => c_48 (z.trans h_j.symm)), owc_t (c_32.trans h_j), owc_f (Int32.not_lt.mpr c_16)]; rw [upd_upd] at ht; exact ht, hk⟩)
      · refine f_aload_n K dX9_writesSegment_51 rfl ?_
        refine f_bipush (v := 62) K dX9_writesSegment_52 rfl ?_
        refine f_invV (As := [.int 62]) (rest := []) K (tm_writes (E := E)  ht 62 hol13 (by omega)) cs_X9_389 dX9_writesSegment_54 (tw_o ht) rfl rfl rfl (Nat.le_of_ble_eq_true rfl) (Nat.le_of_ble_eq_true rfl) (Nat.le_of_ble_eq_true rfl) (Nat.le_of_ble_eq_true rfl) (fun v H16 hq hz => ?_) (fun _ _ _ h9 _ _ => h9.elim)
        obtain ⟨rfl, ht, hk1⟩ := hq
        have hk := hk.tr hk1
        have ht : twAt E H16 m ad (upd (upd (upd sc 21 (nI (own (fo, k) ((f0 (25 + 3 * j)).toNatClampNeg)).2)) 21 (nI (((own (fo, k) (f0 (25 + 3 * j)).toNatClampNeg).2) + 1))) 21 (nI (((own (fo, k) (f0 (25 + 3 * j)).toNatClampNeg).2 + 1) + 1))) f0 f1 f2 f3 f4 fb ft (upd (upd ((own (fo, k) ((f0 (25 + 3 * j)).toNatClampNeg)).1) ((own (fo, k) (f0 (25 + 3 * j)).toNatClampNeg).2) 60) ((own (fo, k) (f0 (25 + 3 * j)).toNatClampNeg).2 + 1) 62) := ht
        change Go E Z 2 H16 (0) (0) 57 [(0, .ref m), (1, .int x_j)] []
        have hol17 := show (upd (upd (upd sc 21 (nI (own (fo, k) ((f0 (25 + 3 * j)).toNatClampNeg)).2)) 21 (nI (((own (fo, k) (f0 (25 + 3 * j)).toNatClampNeg).2) + 1))) 21 (nI (((own (fo, k) (f0 (25 + 3 * j)).toNatClampNeg).2 + 1) + 1))) 21 = _ from rfl
        exact f_retV K X rfl dX9_writesSegment_57 (Nat.le_of_ble_eq_true rfl) (Nat.le_of_ble_eq_true rfl) (⟨rfl, by rw [ows, owc_t (c_48.trans h_j), owc_t (c_32.trans h_j), owc_f (Int32.not_lt.mpr c_16)]; rw [upd_upd] at ht; rw [upd_upd] at ht; exact ht, hk⟩)
  · refine f_aload_n K dX9_writesSegment_19 rfl ?_
    refine f_bipush (v := 42) K dX9_writesSegment_20 rfl ?_
    refine f_invV (As := [.int 42]) (rest := []) K (tm_writes (E := E)  ht 42 hol3 (by omega)) cs_X9_389 dX9_writesSegment_22 (tw_o ht) rfl rfl rfl (Nat.le_of_ble_eq_true rfl) (Nat.le_of_ble_eq_true rfl) (Nat.le_of_ble_eq_true rfl) (Nat.le_of_ble_eq_true rfl) (fun v H18 hq hz => ?_) (fun _ _ _ h9 _ _ => h9.elim)
    obtain ⟨rfl, ht, hk1⟩ := hq
    have hk := hk.tr hk1
    have ht : twAt E H18 m ad (upd (upd sc 21 (nI (own (fo, k) ((f0 (25 + 3 * j)).toNatClampNeg)).2)) 21 (nI (((own (fo, k) (f0 (25 + 3 * j)).toNatClampNeg).2) + 1))) f0 f1 f2 f3 f4 fb ft (upd ((own (fo, k) ((f0 (25 + 3 * j)).toNatClampNeg)).1) ((own (fo, k) (f0 (25 + 3 * j)).toNatClampNeg).2) 42) := ht
    change Go E Z 2 H18 (0) (0) 25 [(0, .ref m), (1, .int x_j)] []
    have hol19 := show (upd (upd sc 21 (nI (own (fo, k) ((f0 (25 + 3 * j)).toNatClampNeg)).2)) 21 (nI (((own (fo, k) (f0 (25 + 3 * j)).toNatClampNeg).2) + 1))) 21 = _ from rfl
    refine f_aload_n K dX9_writesSegment_25 rfl ?_
    refine f_iconst (v := 0) K dX9_writesSegment_26 rfl ?_
    refine f_iconst (v := 0) K dX9_writesSegment_27 rfl ?_
    refine f_invV (As := [.int 0, .int 0]) (rest := []) K (tm_ofPlough (E := E) (p := 0) (w := 0) ht 0 nl_0 0 nl_0 (by omega)) cs_X9_70 dX9_writesSegment_28 (tw_o ht) rfl rfl rfl (Nat.le_of_ble_eq_true rfl) (Nat.le_of_ble_eq_true rfl) (Nat.le_of_ble_eq_true rfl) (Nat.le_of_ble_eq_true rfl) (fun v H20 hq hz => ?_) (fun _ _ _ h9 _ _ => h9.elim)
    obtain ⟨rfl, hq⟩ := hq
    rw [hq]
    change Go E Z 2 H18 (0) (0) 31 [(0, .ref m), (1, .int x_j)] [.int (f0 17)]
    refine f_iload_n K dX9_writesSegment_31 rfl ?_
    refine f_icmp_ne (tgt := 41) K dX9_writesSegment_32 (by decide) (fun c_32 => ?_) (fun c_32 => ?_)
    · refine f_aload_n K dX9_writesSegment_41 rfl ?_
      refine f_iconst (v := 1) K dX9_writesSegment_42 rfl ?_
      refine f_iconst (v := 0) K dX9_writesSegment_43 rfl ?_
      refine f_invV (As := [.int 1, .int 0]) (rest := []) K (tm_ofPlough (E := E) (p := 1) (w := 0) ht 1 nl_1 0 nl_0 (by omega)) cs_X9_70 dX9_writesSegment_44 (tw_o ht) rfl rfl rfl (Nat.le_of_ble_eq_true rfl) (Nat.le_of_ble_eq_true rfl) (Nat.le_of_ble_eq_true rfl) (Nat.le_of_ble_eq_true rfl) (fun v H22 hq hz => ?_) (fun _ _ _ h9 _ _ => h9.elim)
      obtain ⟨rfl, hq⟩ := hq
      rw [hq]
      change Go E Z 2 H18 (0) (0) 47 [(0, .ref m), (1, .int x_j)] [.int (f0 21)]
      refine f_iload_n K dX9_writesSegment_47 rfl ?_
      refine f_icmp_ne (tgt := 57) K dX9_writesSegment_48 (by decide) (fun c_48 => ?_) (fun c_48 => ?_)
      · exact f_retV K X rfl dX9_writesSegment_57 (Nat.le_of_ble_eq_true rfl) (Nat.le_of_ble_eq_true rfl) (⟨rfl, by rw [ows, owc_f (fun z => c_48 (z.trans h_j.symm)), owc_f (fun z => c_32 (z.trans h_j.symm)), owc_t (Int32.not_le.mp c_16)]; rw [upd_upd] at ht; exact ht, hk⟩)
      · refine f_aload_n K dX9_writesSegment_51 rfl ?_
        refine f_bipush (v := 62) K dX9_writesSegment_52 rfl ?_
        refine f_invV (As := [.int 62]) (rest := []) K (tm_writes (E := E)  ht 62 hol19 (by omega)) cs_X9_389 dX9_writesSegment_54 (tw_o ht) rfl rfl rfl (Nat.le_of_ble_eq_true rfl) (Nat.le_of_ble_eq_true rfl) (Nat.le_of_ble_eq_true rfl) (Nat.le_of_ble_eq_true rfl) (fun v H24 hq hz => ?_) (fun _ _ _ h9 _ _ => h9.elim)
        obtain ⟨rfl, ht, hk1⟩ := hq
        have hk := hk.tr hk1
        have ht : twAt E H24 m ad (upd (upd (upd sc 21 (nI (own (fo, k) ((f0 (25 + 3 * j)).toNatClampNeg)).2)) 21 (nI (((own (fo, k) (f0 (25 + 3 * j)).toNatClampNeg).2) + 1))) 21 (nI (((own (fo, k) (f0 (25 + 3 * j)).toNatClampNeg).2 + 1) + 1))) f0 f1 f2 f3 f4 fb ft (upd (upd ((own (fo, k) ((f0 (25 + 3 * j)).toNatClampNeg)).1) ((own (fo, k) (f0 (25 + 3 * j)).toNatClampNeg).2) 42) ((own (fo, k) (f0 (25 + 3 * j)).toNatClampNeg).2 + 1) 62) := ht
        change Go E Z 2 H24 (0) (0) 57 [(0, .ref m), (1, .int x_j)] []
        have hol25 := show (upd (upd (upd sc 21 (nI (own (fo, k) ((f0 (25 + 3 * j)).toNatClampNeg)).2)) 21 (nI (((own (fo, k) (f0 (25 + 3 * j)).toNatClampNeg).2) + 1))) 21 (nI (((own (fo, k) (f0 (25 + 3 * j)).toNatClampNeg).2 + 1) + 1))) 21 = _ from rfl
        exact f_retV K X rfl dX9_writesSegment_57 (Nat.le_of_ble_eq_true rfl) (Nat.le_of_ble_eq_true rfl) (⟨rfl, by rw [ows, owc_t (c_48.trans h_j), owc_f (fun z => c_32 (z.trans h_j.symm)), owc_t (Int32.not_le.mp c_16)]; rw [upd_upd] at ht; rw [upd_upd] at ht; exact ht, hk⟩)
    · refine f_aload_n K dX9_writesSegment_35 rfl ?_
      refine f_bipush (v := 60) K dX9_writesSegment_36 rfl ?_
      refine f_invV (As := [.int 60]) (rest := []) K (tm_writes (E := E)  ht 60 hol19 (by omega)) cs_X9_389 dX9_writesSegment_38 (tw_o ht) rfl rfl rfl (Nat.le_of_ble_eq_true rfl) (Nat.le_of_ble_eq_true rfl) (Nat.le_of_ble_eq_true rfl) (Nat.le_of_ble_eq_true rfl) (fun v H26 hq hz => ?_) (fun _ _ _ h9 _ _ => h9.elim)
      obtain ⟨rfl, ht, hk1⟩ := hq
      have hk := hk.tr hk1
      have ht : twAt E H26 m ad (upd (upd (upd sc 21 (nI (own (fo, k) ((f0 (25 + 3 * j)).toNatClampNeg)).2)) 21 (nI (((own (fo, k) (f0 (25 + 3 * j)).toNatClampNeg).2) + 1))) 21 (nI (((own (fo, k) (f0 (25 + 3 * j)).toNatClampNeg).2 + 1) + 1))) f0 f1 f2 f3 f4 fb ft (upd (upd ((own (fo, k) ((f0 (25 + 3 * j)).toNatClampNeg)).1) ((own (fo, k) (f0 (25 + 3 * j)).toNatClampNeg).2) 42) ((own (fo, k) (f0 (25 + 3 * j)).toNatClampNeg).2 + 1) 60) := ht
      change Go E Z 2 H26 (0) (0) 41 [(0, .ref m), (1, .int x_j)] []
      have hol27 := show (upd (upd (upd sc 21 (nI (own (fo, k) ((f0 (25 + 3 * j)).toNatClampNeg)).2)) 21 (nI (((own (fo, k) (f0 (25 + 3 * j)).toNatClampNeg).2) + 1))) 21 (nI (((own (fo, k) (f0 (25 + 3 * j)).toNatClampNeg).2 + 1) + 1))) 21 = _ from rfl
      refine f_aload_n K dX9_writesSegment_41 rfl ?_
      refine f_iconst (v := 1) K dX9_writesSegment_42 rfl ?_
      refine f_iconst (v := 0) K dX9_writesSegment_43 rfl ?_
      refine f_invV (As := [.int 1, .int 0]) (rest := []) K (tm_ofPlough (E := E) (p := 1) (w := 0) ht 1 nl_1 0 nl_0 (by omega)) cs_X9_70 dX9_writesSegment_44 (tw_o ht) rfl rfl rfl (Nat.le_of_ble_eq_true rfl) (Nat.le_of_ble_eq_true rfl) (Nat.le_of_ble_eq_true rfl) (Nat.le_of_ble_eq_true rfl) (fun v H28 hq hz => ?_) (fun _ _ _ h9 _ _ => h9.elim)
      obtain ⟨rfl, hq⟩ := hq
      rw [hq]
      change Go E Z 2 H26 (0) (0) 47 [(0, .ref m), (1, .int x_j)] [.int (f0 21)]
      refine f_iload_n K dX9_writesSegment_47 rfl ?_
      refine f_icmp_ne (tgt := 57) K dX9_writesSegment_48 (by decide) (fun c_48 => ?_) (fun c_48 => ?_)
      · exact f_retV K X rfl dX9_writesSegment_57 (Nat.le_of_ble_eq_true rfl) (Nat.le_of_ble_eq_true rfl) (⟨rfl, by rw [ows, owc_f (fun z => c_48 (z.trans h_j.symm)), owc_t (c_32.trans h_j), owc_t (Int32.not_le.mp c_16)]; rw [upd_upd] at ht; rw [upd_upd] at ht; exact ht, hk⟩)
      · refine f_aload_n K dX9_writesSegment_51 rfl ?_
        refine f_bipush (v := 62) K dX9_writesSegment_52 rfl ?_
        refine f_invV (As := [.int 62]) (rest := []) K (tm_writes (E := E)  ht 62 hol27 (by omega)) cs_X9_389 dX9_writesSegment_54 (tw_o ht) rfl rfl rfl (Nat.le_of_ble_eq_true rfl) (Nat.le_of_ble_eq_true rfl) (Nat.le_of_ble_eq_true rfl) (Nat.le_of_ble_eq_true rfl) (fun v H30 hq hz => ?_) (fun _ _ _ h9 _ _ => h9.elim)
        obtain ⟨rfl, ht, hk1⟩ := hq
        have hk := hk.tr hk1
        have ht : twAt E H30 m ad (upd (upd (upd (upd sc 21 (nI (own (fo, k) ((f0 (25 + 3 * j)).toNatClampNeg)).2)) 21 (nI (((own (fo, k) (f0 (25 + 3 * j)).toNatClampNeg).2) + 1))) 21 (nI (((own (fo, k) (f0 (25 + 3 * j)).toNatClampNeg).2 + 1) + 1))) 21 (nI ((((own (fo, k) (f0 (25 + 3 * j)).toNatClampNeg).2 + 1) + 1) + 1))) f0 f1 f2 f3 f4 fb ft (upd (upd (upd ((own (fo, k) ((f0 (25 + 3 * j)).toNatClampNeg)).1) ((own (fo, k) (f0 (25 + 3 * j)).toNatClampNeg).2) 42) ((own (fo, k) (f0 (25 + 3 * j)).toNatClampNeg).2 + 1) 60) (((own (fo, k) (f0 (25 + 3 * j)).toNatClampNeg).2 + 1) + 1) 62) := ht
        change Go E Z 2 H30 (0) (0) 57 [(0, .ref m), (1, .int x_j)] []
        have hol31 := show (upd (upd (upd (upd sc 21 (nI (own (fo, k) ((f0 (25 + 3 * j)).toNatClampNeg)).2)) 21 (nI (((own (fo, k) (f0 (25 + 3 * j)).toNatClampNeg).2) + 1))) 21 (nI (((own (fo, k) (f0 (25 + 3 * j)).toNatClampNeg).2 + 1) + 1))) 21 (nI ((((own (fo, k) (f0 (25 + 3 * j)).toNatClampNeg).2 + 1) + 1) + 1))) 21 = _ from rfl
        exact f_retV K X rfl dX9_writesSegment_57 (Nat.le_of_ble_eq_true rfl) (Nat.le_of_ble_eq_true rfl) (⟨rfl, by rw [ows, owc_t (c_48.trans h_j), owc_t (c_32.trans h_j), owc_t (Int32.not_le.mp c_16)]; rw [upd_upd] at ht; rw [upd_upd] at ht; rw [upd_upd] at ht; exact ht, hk⟩)
/-- formatRoad()I -/
theorem tm_formatRoad {E : fE} {H : Heap} {m : Nat} {ad : Nat → Nat} {sc f0 f1 f2 f3 f4 fb ft fo : Row} (ht : twAt E H m ad sc f0 f1 f2 f3 f4 fb ft fo)  {n t : Nat} (ok : okr n t f0) : fM E yX9_formatRoad prog_17_method_146_code 2 (some .int) 4 0 0 [.ref m] H (fun r_ H' => r_ = some (.int (nI (owf f0 fo n).2)) ∧ twAt E H' m ad (upd (upd sc 6 0) 21 (nI (owf f0 fo n).2)) f0 f1 f2 f3 f4 fb ft ((owf f0 fo n).1) ∧ twK m ad H H') noX := by
  refine f_start (own := "SnowPassModel") (nm := "formatRoad") (lv := [(0, .ref m)]) pn_X9 rfl rfl (Nat.le_of_ble_eq_true rfl) rfl (fun Z K X => ?_)
  have hk := twK.rf (m := m) (ad := ad) (H := H)
  refine f_aload_n K dX9_formatRoad_0 rfl ?_
  refine f_iconst (v := 0) K dX9_formatRoad_1 rfl ?_
  refine f_put K fp_X9_55_X9 dX9_formatRoad_2 (tw_o ht) (tw_lo ht) (Nat.le_of_ble_eq_true rfl) rfl rfl (fun H1 hU ho => ?_)
  have ht := tw_put (sc' := (upd sc 6 0)) ht hU ho rfl
  have hk := hk.put hU
  refine f_aload_n K dX9_formatRoad_5 rfl ?_
  refine f_iconst (v := 0) K dX9_formatRoad_6 rfl ?_
  refine f_put K fp_X9_386_X9 dX9_formatRoad_7 (tw_o ht) (tw_lo ht) (Nat.le_of_ble_eq_true rfl) rfl rfl (fun H2 hU ho => ?_)
  have ht := tw_put (sc' := (upd (upd sc 6 0) 21 0)) ht hU ho rfl
  have hk := hk.put hU
  refine f_iconst (v := 0) K dX9_formatRoad_10 rfl ?_
  refine f_istore_n (lv' := [(1, .int 0), (0, .ref m)]) K dX9_formatRoad_11 (by decide) rfl ?_
  have loop : ∀ (d i : Nat) (x_i : Int32) (G : Heap), x_i = nI i → i + d = n → twAt E G m ad (upd (upd sc 6 0) 21 (nI (owf f0 fo i).2)) f0 f1 f2 f3 f4 fb ft (owf f0 fo i).1 → twK m ad H G → Go E Z 2 G (0) (0) 12 [(1, .int x_i), (0, .ref m)] [] := by
    intro d
    induction d with
    | zero =>
      intro i x_i G h_i hd ht hk
      have how := owf_le f0 fo i
      have hb9 := ok.1
      have hol0 := show (upd (upd sc 6 0) 21 (nI (owf f0 fo i).2)) 21 = _ from rfl
      have hiu : i = n := by omega
      rw [hiu] at ht
      refine f_iload_n K dX9_formatRoad_12 rfl ?_
      refine f_aload_n K dX9_formatRoad_13 rfl ?_
      refine f_get (v := .ref (ad 0)) K fl_X9_7_X9 dX9_formatRoad_14 (tw_o ht) rfl ?_
      refine f_iconst (v := 0) K dX9_formatRoad_17 rfl ?_
      refine f_iald (j := 0) K dX9_formatRoad_18 (tw_a0 ht) nl_0 (by decide) (by decide) ?_
      refine f_icmp_ge (tgt := 43) K dX9_formatRoad_19 (by decide) (fun c_19 => ?_) (fun c_19 => ?_)
      · refine f_aload_n K dX9_formatRoad_43 rfl ?_
        refine f_get (v := .int (nI (owf f0 fo n).2)) K fl_X9_386_X9 dX9_formatRoad_44 (tw_o ht) rfl ?_
        exact f_retI K X (Or.inl rfl) dX9_formatRoad_47 (Nat.le_of_ble_eq_true rfl) (Nat.le_of_ble_eq_true rfl) (⟨rfl, ht, hk⟩)
      · exact absurd (by rw [h_i, ok.n]; exact nI_le (by omega) (by omega)) c_19
    | succ d ih =>
      intro i x_i G h_i hd ht hk
      have how := owf_le f0 fo i
      have hb9 := ok.1
      have hol0 := show (upd (upd sc 6 0) 21 (nI (owf f0 fo i).2)) 21 = _ from rfl
      refine f_iload_n K dX9_formatRoad_12 rfl ?_
      refine f_aload_n K dX9_formatRoad_13 rfl ?_
      refine f_get (v := .ref (ad 0)) K fl_X9_7_X9 dX9_formatRoad_14 (tw_o ht) rfl ?_
      refine f_iconst (v := 0) K dX9_formatRoad_17 rfl ?_
      refine f_iald (j := 0) K dX9_formatRoad_18 (tw_a0 ht) nl_0 (by decide) (by decide) ?_
      refine f_icmp_ge (tgt := 43) K dX9_formatRoad_19 (by decide) (fun c_19 => ?_) (fun c_19 => ?_)
      · exact absurd c_19 (by rw [h_i, ok.n]; exact nI_ge (by omega) (by omega))
      · refine f_iload_n K dX9_formatRoad_22 rfl ?_
        refine f_if_le (tgt := 32) K dX9_formatRoad_23 (by decide) (fun c_23 => ?_) (fun c_23 => ?_)
        · refine f_aload_n K dX9_formatRoad_32 rfl ?_
          refine f_iload_n K dX9_formatRoad_33 rfl ?_
          refine f_invV (As := [.int x_i]) (rest := []) K (tm_writesSegment (E := E) (j := i) ht x_i h_i ok (by omega) hol0 (by omega)) cs_X9_395 dX9_formatRoad_34 (tw_o ht) rfl rfl rfl (Nat.le_of_ble_eq_true rfl) (Nat.le_of_ble_eq_true rfl) (Nat.le_of_ble_eq_true rfl) (Nat.le_of_ble_eq_true rfl) (fun v H6 hq hz => ?_) (fun _ _ _ h9 _ _ => h9.elim)
          obtain ⟨rfl, ht, hk1⟩ := hq
          have hk := hk.tr hk1
          have ht : twAt E H6 m ad (upd (upd (upd sc 6 0) 21 (nI (owf f0 fo i).2)) 21 (nI (ows f0 (((owf f0 fo i).1), ((owf f0 fo i).2)) i).2)) f0 f1 f2 f3 f4 fb ft ((ows f0 (((owf f0 fo i).1), ((owf f0 fo i).2)) i).1) := ht
          change Go E Z 2 H6 (0) (0) 37 [(1, .int x_i), (0, .ref m)] []
          refine f_iinc (v := x_i + 1) (lv' := [(1, .int (x_i + 1)), (0, .ref m)]) K dX9_formatRoad_37 rfl rfl (by decide) rfl ?_
          refine f_goto (tgt := 12) K dX9_formatRoad_40 (by decide) ?_
          have e : owf f0 fo (i + 1) = ows f0 (owf f0 fo i) i := by rw [owf, owc_f (show ¬ 0 < i from fun z => absurd c_23 (by rw [h_i]; exact nI_nle z (by omega)))]
          rw [upd_upd] at ht
          exact ih ((i + 1)) _ _ (nia h_i nl_1) (by omega) (by rw [e]; exact ht) hk
        · refine f_aload_n K dX9_formatRoad_26 rfl ?_
          refine f_bipush (v := 32) K dX9_formatRoad_27 rfl ?_
          refine f_invV (As := [.int 32]) (rest := []) K (tm_writes (E := E)  ht 32 hol0 (by omega)) cs_X9_389 dX9_formatRoad_29 (tw_o ht) rfl rfl rfl (Nat.le_of_ble_eq_true rfl) (Nat.le_of_ble_eq_true rfl) (Nat.le_of_ble_eq_true rfl) (Nat.le_of_ble_eq_true rfl) (fun v H8 hq hz => ?_) (fun _ _ _ h9 _ _ => h9.elim)
          obtain ⟨rfl, ht, hk1⟩ := hq
          have hk := hk.tr hk1
          have ht : twAt E H8 m ad (upd (upd (upd sc 6 0) 21 (nI (owf f0 fo i).2)) 21 (nI (((owf f0 fo i).2) + 1))) f0 f1 f2 f3 f4 fb ft (upd ((owf f0 fo i).1) ((owf f0 fo i).2) 32) := ht
          change Go E Z 2 H8 (0) (0) 32 [(1, .int x_i), (0, .ref m)] []
          have hol9 := show (upd (upd (upd sc 6 0) 21 (nI (owf f0 fo i).2)) 21 (nI (((owf f0 fo i).2) + 1))) 21 = _ from rfl
          refine f_aload_n K dX9_formatRoad_32 rfl ?_
          refine f_iload_n K dX9_formatRoad_33 rfl ?_
          refine f_invV (As := [.int x_i]) (rest := []) K (tm_writesSegment (E := E) (j := i) ht x_i h_i ok (by omega) hol9 (by omega)) cs_X9_395 dX9_formatRoad_34 (tw_o ht) rfl rfl rfl (Nat.le_of_ble_eq_true rfl) (Nat.le_of_ble_eq_true rfl) (Nat.le_of_ble_eq_true rfl) (Nat.le_of_ble_eq_true rfl) (fun v H10 hq hz => ?_) (fun _ _ _ h9 _ _ => h9.elim)
          obtain ⟨rfl, ht, hk1⟩ := hq
          have hk := hk.tr hk1
          have ht : twAt E H10 m ad (upd (upd (upd (upd sc 6 0) 21 (nI (owf f0 fo i).2)) 21 (nI (((owf f0 fo i).2) + 1))) 21 (nI (ows f0 ((upd ((owf f0 fo i).1) ((owf f0 fo i).2) 32), ((owf f0 fo i).2 + 1)) i).2)) f0 f1 f2 f3 f4 fb ft ((ows f0 ((upd ((owf f0 fo i).1) ((owf f0 fo i).2) 32), ((owf f0 fo i).2 + 1)) i).1) := ht
          change Go E Z 2 H10 (0) (0) 37 [(1, .int x_i), (0, .ref m)] []
          refine f_iinc (v := x_i + 1) (lv' := [(1, .int (x_i + 1)), (0, .ref m)]) K dX9_formatRoad_37 rfl rfl (by decide) rfl ?_
          refine f_goto (tgt := 12) K dX9_formatRoad_40 (by decide) ?_
          have e : owf f0 fo (i + 1) = ows f0 (ow (owf f0 fo i) 32) i := by rw [owf, owc_t (show 0 < i from (Nat.eq_zero_or_pos i).elim (fun z => absurd (by rw [h_i, z]; decide) c_23) id)]
          rw [upd_upd] at ht
          rw [upd_upd] at ht
          exact ih ((i + 1)) _ _ (nia h_i nl_1) (by omega) (by rw [e]; exact ht) hk
  exact loop (n) 0 _ _ nl_0 (by omega) ht hk
/-- outputByte(I)I -/
theorem tm_outputByte {E : fE} {H : Heap} {m : Nat} {ad : Nat → Nat} {sc f0 f1 f2 f3 f4 fb ft fo : Row} (ht : twAt E H m ad sc f0 f1 f2 f3 f4 fb ft fo) (x : Int32) {k : Nat} (hol : sc 21 = nI k) (hk9 : k ≤ 160) : fM E yX9_outputByte prog_17_method_147_code 2 (some .int) 2 0 0 [.ref m, .int x] H (fun r_ H' => r_ = some (.int (if 0 ≤ x ∧ x ≤ sc 21 - 1 then fo x.toNatClampNeg else -1)) ∧ twAt E H' m ad (upd sc 6 0) f0 f1 f2 f3 f4 fb ft fo ∧ twK m ad H H') noX := by
  refine f_start (own := "SnowPassModel") (nm := "outputByte") (lv := [(0, .ref m), (1, .int x)]) pn_X9 rfl rfl (Nat.le_of_ble_eq_true rfl) rfl (fun Z K X => ?_)
  have hk := twK.rf (m := m) (ad := ad) (H := H)
  refine f_aload_n K dX9_outputByte_0 rfl ?_
  refine f_iconst (v := 0) K dX9_outputByte_1 rfl ?_
  refine f_put K fp_X9_55_X9 dX9_outputByte_2 (tw_o ht) (tw_lo ht) (Nat.le_of_ble_eq_true rfl) rfl rfl (fun H1 hU ho => ?_)
  have ht := tw_put (sc' := (upd sc 6 0)) ht hU ho rfl
  have hk := hk.put hU
  refine f_iload_n K dX9_outputByte_5 rfl ?_
  refine f_i2l (v := x.toInt64) K dX9_outputByte_6 rfl ?_
  refine f_lconst (v := 0) K dX9_outputByte_7 rfl ?_
  refine f_aload_n K dX9_outputByte_8 rfl ?_
  refine f_get (v := .int (sc 21)) K fl_X9_386_X9 dX9_outputByte_9 (tw_o ht) rfl ?_
  refine f_iconst (v := 1) K dX9_outputByte_12 rfl ?_
  refine f_isub K dX9_outputByte_13 ?_
  refine f_i2l (v := ((sc 21) - 1).toInt64) K dX9_outputByte_14 rfl ?_
  refine f_invS (As := [.long x.toInt64, .long 0, .long (((sc 21) - 1).toInt64)]) (rest := []) K (tm_in (E := E)  x x.toInt64 (by rfl) 0 0 (by rfl) ((sc 21) - 1) (((sc 21) - 1).toInt64) (by rfl)) cs_X9_62 dX9_outputByte_15 rfl rfl (Nat.le_of_ble_eq_true rfl) (Nat.le_of_ble_eq_true rfl) (Nat.le_of_ble_eq_true rfl) (Nat.le_of_ble_eq_true rfl) (fun v H2 hq hz => ?_) (fun _ _ _ h9 _ _ => h9.elim)
  obtain ⟨rfl, hq⟩ := hq
  rw [hq]
  change Go E Z 2 H1 (0) (0) 18 [(0, .ref m), (1, .int x)] [.int (bI (0 ≤ x ∧ x ≤ ((sc 21) - 1)))]
  refine f_if_eqB (tgt := 30) K dX9_outputByte_18 (by decide) (fun c_18 => ?_) (fun c_18 => ?_)
  · refine f_iconst (v := (-1)) K dX9_outputByte_30 rfl ?_
    exact f_retI K X (Or.inl rfl) dX9_outputByte_31 (Nat.le_of_ble_eq_true rfl) (Nat.le_of_ble_eq_true rfl) (⟨rI (if_neg c_18).symm, ht, hk⟩)
  · obtain ⟨hx, hxn⟩ := seg_in hol (by omega) c_18
    refine f_aload_n K dX9_outputByte_21 rfl ?_
    refine f_get (v := .ref (ad 20)) K fl_X9_35_X9 dX9_outputByte_22 (tw_o ht) rfl ?_
    refine f_iload_n K dX9_outputByte_25 rfl ?_
    refine f_iald (j := x.toNatClampNeg) K dX9_outputByte_26 (tw_a20 ht) hx (by omega) (by decide) ?_
    refine f_goto (tgt := 31) K dX9_outputByte_27 (by decide) ?_
    exact f_retI K X (Or.inl rfl) dX9_outputByte_31 (Nat.le_of_ble_eq_true rfl) (Nat.le_of_ble_eq_true rfl) (⟨rI (if_pos c_18).symm, ht, hk⟩)
/-- a word's four signs behind place l -/
def fr4 (f : Row) (l : Nat) (v : Int32) : Row := upd (upd (upd (upd f l ((v >>> (24 &&& 31)) &&& 255)) (l + 1) ((v >>> (16 &&& 31)) &&& 255)) (l + 2) ((v >>> (8 &&& 31)) &&& 255)) (l + 3) ((v >>> (0 &&& 31)) &&& 255)
def fr20 (f : Row) (l : Nat) (a b c d e : Int32) : Row := fr4 (fr4 (fr4 (fr4 (fr4 f l a) (l + 4) b) (l + 8) c) (l + 12) d) (l + 16) e
/-- four(I)V -/
theorem tm_four {E : fE} {H : Heap} {m : Nat} {ad : Nat → Nat} {sc f0 f1 f2 f3 f4 fb ft fo : Row} (ht : twAt E H m ad sc f0 f1 f2 f3 f4 fb ft fo) (v : Int32) {l : Nat} (hl : sc 10 = nI l) (hl2 : l + 4 ≤ 700) : fM E yX9_four prog_17_method_48_code 3 none 1 0 0 [.ref m, .int v] H (fun r_ H' => r_ = none ∧ twAt E H' m ad (upd sc 10 (nI (l + 4))) f0 f1 f2 f3 f4 (fr4 fb l v) ft fo ∧ twK m ad H H') noX := by
  refine f_start (own := "SnowPassModel") (nm := "four") (lv := [(0, .ref m), (1, .int v)]) pn_X9 rfl rfl (Nat.le_of_ble_eq_true rfl) rfl (fun Z K X => ?_)
  have hk := twK.rf (m := m) (ad := ad) (H := H)
  refine f_bipush (v := 24) K dX9_four_0 rfl ?_
  refine f_istore_n (lv' := [(2, .int 24), (0, .ref m), (1, .int v)]) K dX9_four_2 (by decide) rfl ?_
  refine f_iload_n K dX9_four_3 rfl ?_
  refine f_if_lt (tgt := 39) K dX9_four_4 (by decide) (fun c_4 => ?_) (fun c_4 => ?_)
  · exact absurd c_4 (by decide)
  · refine f_aload_n K dX9_four_7 rfl ?_
    refine f_get (v := .ref (ad 9)) K fl_X9_25_X9 dX9_four_8 (tw_o ht) rfl ?_
    refine f_aload_n K dX9_four_11 rfl ?_
    refine f_get (v := .int (sc 10)) K fl_X9_50_X9 dX9_four_12 (tw_o ht) rfl ?_
    refine f_iload_n K dX9_four_15 rfl ?_
    refine f_iload_n K dX9_four_16 rfl ?_
    refine f_ishr (v := v >>> (24 &&& 31)) K dX9_four_17 rfl ?_
    refine f_sipush (v := 255) K dX9_four_18 rfl ?_
    refine f_iand K dX9_four_21 ?_
    refine f_iast (j := l) K dX9_four_22 (tw_a9 ht) hl (by omega) (by decide) (tw_lo9 ht) (fun H2 hU ho => ?_)
    have hk := hk.st (j := 9) (by decide) hU
    have ht := tw_st9 ht hU ho
    refine f_aload_n K dX9_four_23 rfl ?_
    refine f_dup K dX9_four_24 rfl ?_
    refine f_get (v := .int (sc 10)) K fl_X9_50_X9 dX9_four_25 (tw_o ht) rfl ?_
    refine f_iconst (v := 1) K dX9_four_28 rfl ?_
    refine f_iadd K dX9_four_29 ?_
    refine Go.fst (congrArg Value.int ((nia hl nl_1) : (sc 10) + 1 = nI (l + 1))) ?_
    refine f_put K fp_X9_50_X9 dX9_four_30 (tw_o ht) (tw_lo ht) (Nat.le_of_ble_eq_true rfl) rfl rfl (fun H3 hU ho => ?_)
    have ht := tw_put (sc' := (upd sc 10 (nI (l + 1)))) ht hU ho rfl
    have hk := hk.put hU
    refine f_iinc (v := 16) (lv' := [(2, .int 16), (0, .ref m), (1, .int v)]) K dX9_four_33 rfl rfl (by decide) rfl ?_
    refine f_goto (tgt := 3) K dX9_four_36 (by decide) ?_
    refine f_iload_n K dX9_four_3 rfl ?_
    refine f_if_lt (tgt := 39) K dX9_four_4 (by decide) (fun c_4_1 => ?_) (fun c_4_1 => ?_)
    · exact absurd c_4_1 (by decide)
    · refine f_aload_n K dX9_four_7 rfl ?_
      refine f_get (v := .ref (ad 9)) K fl_X9_25_X9 dX9_four_8 (tw_o ht) rfl ?_
      refine f_aload_n K dX9_four_11 rfl ?_
      refine f_get (v := .int (nI (l + 1))) K fl_X9_50_X9 dX9_four_12 (tw_o ht) rfl ?_
      refine f_iload_n K dX9_four_15 rfl ?_
      refine f_iload_n K dX9_four_16 rfl ?_
      refine f_ishr (v := v >>> (16 &&& 31)) K dX9_four_17 rfl ?_
      refine f_sipush (v := 255) K dX9_four_18 rfl ?_
      refine f_iand K dX9_four_21 ?_
      refine f_iast (j := (l + 1)) K dX9_four_22 (tw_a9 ht) rfl (by omega) (by decide) (tw_lo9 ht) (fun H5 hU ho => ?_)
      have hk := hk.st (j := 9) (by decide) hU
      have ht := tw_st9 ht hU ho
      refine f_aload_n K dX9_four_23 rfl ?_
      refine f_dup K dX9_four_24 rfl ?_
      refine f_get (v := .int (nI (l + 1))) K fl_X9_50_X9 dX9_four_25 (tw_o ht) rfl ?_
      refine f_iconst (v := 1) K dX9_four_28 rfl ?_
      refine f_iadd K dX9_four_29 ?_
      refine Go.fst (congrArg Value.int ((nia rfl nl_1) : (nI (l + 1)) + 1 = nI ((l + 1) + 1))) ?_
      refine f_put K fp_X9_50_X9 dX9_four_30 (tw_o ht) (tw_lo ht) (Nat.le_of_ble_eq_true rfl) rfl rfl (fun H6 hU ho => ?_)
      have ht := tw_put (sc' := (upd (upd sc 10 (nI (l + 1))) 10 (nI ((l + 1) + 1)))) ht hU ho rfl
      have hk := hk.put hU
      rw [upd_upd] at ht
      refine f_iinc (v := 8) (lv' := [(2, .int 8), (0, .ref m), (1, .int v)]) K dX9_four_33 rfl rfl (by decide) rfl ?_
      refine f_goto (tgt := 3) K dX9_four_36 (by decide) ?_
      refine f_iload_n K dX9_four_3 rfl ?_
      refine f_if_lt (tgt := 39) K dX9_four_4 (by decide) (fun c_4_2 => ?_) (fun c_4_2 => ?_)
      · exact absurd c_4_2 (by decide)
      · refine f_aload_n K dX9_four_7 rfl ?_
        refine f_get (v := .ref (ad 9)) K fl_X9_25_X9 dX9_four_8 (tw_o ht) rfl ?_
        refine f_aload_n K dX9_four_11 rfl ?_
        refine f_get (v := .int (nI ((l + 1) + 1))) K fl_X9_50_X9 dX9_four_12 (tw_o ht) rfl ?_
        refine f_iload_n K dX9_four_15 rfl ?_
        refine f_iload_n K dX9_four_16 rfl ?_
        refine f_ishr (v := v >>> (8 &&& 31)) K dX9_four_17 rfl ?_
        refine f_sipush (v := 255) K dX9_four_18 rfl ?_
        refine f_iand K dX9_four_21 ?_
        refine f_iast (j := ((l + 1) + 1)) K dX9_four_22 (tw_a9 ht) rfl (by omega) (by decide) (tw_lo9 ht) (fun H8 hU ho => ?_)
        have hk := hk.st (j := 9) (by decide) hU
        have ht := tw_st9 ht hU ho
        refine f_aload_n K dX9_four_23 rfl ?_
        refine f_dup K dX9_four_24 rfl ?_
        refine f_get (v := .int (nI ((l + 1) + 1))) K fl_X9_50_X9 dX9_four_25 (tw_o ht) rfl ?_
        refine f_iconst (v := 1) K dX9_four_28 rfl ?_
        refine f_iadd K dX9_four_29 ?_
        refine Go.fst (congrArg Value.int ((nia rfl nl_1) : (nI ((l + 1) + 1)) + 1 = nI (((l + 1) + 1) + 1))) ?_
        refine f_put K fp_X9_50_X9 dX9_four_30 (tw_o ht) (tw_lo ht) (Nat.le_of_ble_eq_true rfl) rfl rfl (fun H9 hU ho => ?_)
        have ht := tw_put (sc' := (upd (upd sc 10 (nI ((l + 1) + 1))) 10 (nI (((l + 1) + 1) + 1)))) ht hU ho rfl
        have hk := hk.put hU
        rw [upd_upd] at ht
        refine f_iinc (v := 0) (lv' := [(2, .int 0), (0, .ref m), (1, .int v)]) K dX9_four_33 rfl rfl (by decide) rfl ?_
        refine f_goto (tgt := 3) K dX9_four_36 (by decide) ?_
        refine f_iload_n K dX9_four_3 rfl ?_
        refine f_if_lt (tgt := 39) K dX9_four_4 (by decide) (fun c_4_3 => ?_) (fun c_4_3 => ?_)
        · exact absurd c_4_3 (by decide)
        · refine f_aload_n K dX9_four_7 rfl ?_
          refine f_get (v := .ref (ad 9)) K fl_X9_25_X9 dX9_four_8 (tw_o ht) rfl ?_
          refine f_aload_n K dX9_four_11 rfl ?_
          refine f_get (v := .int (nI (((l + 1) + 1) + 1))) K fl_X9_50_X9 dX9_four_12 (tw_o ht) rfl ?_
          refine f_iload_n K dX9_four_15 rfl ?_
          refine f_iload_n K dX9_four_16 rfl ?_
          refine f_ishr (v := v >>> (0 &&& 31)) K dX9_four_17 rfl ?_
          refine f_sipush (v := 255) K dX9_four_18 rfl ?_
          refine f_iand K dX9_four_21 ?_
          refine f_iast (j := (((l + 1) + 1) + 1)) K dX9_four_22 (tw_a9 ht) rfl (by omega) (by decide) (tw_lo9 ht) (fun H11 hU ho => ?_)
          have hk := hk.st (j := 9) (by decide) hU
          have ht := tw_st9 ht hU ho
          refine f_aload_n K dX9_four_23 rfl ?_
          refine f_dup K dX9_four_24 rfl ?_
          refine f_get (v := .int (nI (((l + 1) + 1) + 1))) K fl_X9_50_X9 dX9_four_25 (tw_o ht) rfl ?_
          refine f_iconst (v := 1) K dX9_four_28 rfl ?_
          refine f_iadd K dX9_four_29 ?_
          refine Go.fst (congrArg Value.int ((nia rfl nl_1) : (nI (((l + 1) + 1) + 1)) + 1 = nI ((((l + 1) + 1) + 1) + 1))) ?_
          refine f_put K fp_X9_50_X9 dX9_four_30 (tw_o ht) (tw_lo ht) (Nat.le_of_ble_eq_true rfl) rfl rfl (fun H12 hU ho => ?_)
          have ht := tw_put (sc' := (upd (upd sc 10 (nI (((l + 1) + 1) + 1))) 10 (nI ((((l + 1) + 1) + 1) + 1)))) ht hU ho rfl
          have hk := hk.put hU
          rw [upd_upd] at ht
          refine f_iinc (v := (-8)) (lv' := [(2, .int (-8)), (0, .ref m), (1, .int v)]) K dX9_four_33 rfl rfl (by decide) rfl ?_
          refine f_goto (tgt := 3) K dX9_four_36 (by decide) ?_
          refine f_iload_n K dX9_four_3 rfl ?_
          refine f_if_lt (tgt := 39) K dX9_four_4 (by decide) (fun c_4_4 => ?_) (fun c_4_4 => ?_)
          · exact f_retV K X rfl dX9_four_39 (Nat.le_of_ble_eq_true rfl) (Nat.le_of_ble_eq_true rfl) (⟨rfl, ht, hk⟩)
          · exact absurd c_4_4 (by decide)
/-- append(IIIII)I -/
theorem tm_append {E : fE} {H : Heap} {m : Nat} {ad : Nat → Nat} {sc f0 f1 f2 f3 f4 fb ft fo : Row} (ht : twAt E H m ad sc f0 f1 f2 f3 f4 fb ft fo) (a : Int32) (b : Int32) (c : Int32) (d : Int32) (e : Int32) {l : Nat} (hl : sc 10 = nI l) (hl2 : l ≤ 700) : fM E yX9_append prog_17_method_49_code 6 (some .int) 2 0 0 [.ref m, .int a, .int b, .int c, .int d, .int e] H (fun r_ H' => r_ = some (.int (if l + 20 ≤ 700 then nI (l + 20) else 0)) ∧ twAt E H' m ad (if l + 20 ≤ 700 then upd (upd sc 6 0) 10 (nI (l + 20)) else upd sc 6 1) f0 f1 f2 f3 f4 (if l + 20 ≤ 700 then fr20 fb l a b c d e else fb) ft fo ∧ twK m ad H H') noX := by
  refine f_start (own := "SnowPassModel") (nm := "append") (lv := [(0, .ref m), (1, .int a), (2, .int b), (3, .int c), (4, .int d), (5, .int e)]) pn_X9 rfl rfl (Nat.le_of_ble_eq_true rfl) rfl (fun Z K X => ?_)
  have hk := twK.rf (m := m) (ad := ad) (H := H)
  refine f_aload_n K dX9_append_0 rfl ?_
  refine f_aload_n K dX9_append_1 rfl ?_
  refine f_get (v := .int (sc 10)) K fl_X9_50_X9 dX9_append_2 (tw_o ht) rfl ?_
  refine f_bipush (v := 20) K dX9_append_5 rfl ?_
  refine f_iadd K dX9_append_7 ?_
  refine f_sipush (v := 700) K dX9_append_8 rfl ?_
  refine f_icmp_gt (tgt := 18) K dX9_append_11 (by decide) (fun c_11 => ?_) (fun c_11 => ?_)
  · have hP : ¬ l + 20 ≤ 700 := by
        intro z
        rw [show sc 10 + 20 = nI (l + 20) from nia hl nl_20] at c_11
        exact nI_nlt (a := 700) (b := l + 20) z (by decide) c_11
    refine f_iconst (v := 0) K dX9_append_18 rfl ?_
    refine f_invV (As := [.int 0]) (rest := []) K (tm_passes (E := E)  ht False) cs_X9_164 dX9_append_19 (tw_o ht) rfl rfl rfl (Nat.le_of_ble_eq_true rfl) (Nat.le_of_ble_eq_true rfl) (Nat.le_of_ble_eq_true rfl) (Nat.le_of_ble_eq_true rfl) (fun v H2 hq hz => ?_) (fun _ _ _ h9 _ _ => h9.elim)
    obtain ⟨rfl, ht, hk1⟩ := hq
    have hk := hk.tr hk1
    have ht : twAt E H2 m ad (upd sc 6 (if False then 0 else 1)) f0 f1 f2 f3 f4 fb ft fo := ht
    change Go E Z 6 H2 (0) (0) 22 [(0, .ref m), (1, .int a), (2, .int b), (3, .int c), (4, .int d), (5, .int e)] [.int (bI False)]
    refine f_if_neB (tgt := 27) K dX9_append_22 (by decide) (fun c_22 => ?_) (fun c_22 => ?_)
    · exact absurd c_22 id
    · refine f_iconst (v := 0) K dX9_append_25 rfl ?_
      exact f_retI K X (Or.inl rfl) dX9_append_26 (Nat.le_of_ble_eq_true rfl) (Nat.le_of_ble_eq_true rfl) (⟨rI (if_neg hP).symm, by rw [if_neg hP, if_neg hP]; exact ht, hk⟩)
  · have hP : l + 20 ≤ 700 := by
        rcases Nat.lt_or_ge 700 (l + 20) with z | z
        · rw [show sc 10 + 20 = nI (l + 20) from nia hl nl_20] at c_11
          exact absurd (nI_lt (a := 700) (b := l + 20) z (by omega)) c_11
        · exact z
    refine f_iconst (v := 1) K dX9_append_14 rfl ?_
    refine f_goto (tgt := 19) K dX9_append_15 (by decide) ?_
    refine f_invV (As := [.int 1]) (rest := []) K (tm_passes (E := E)  ht True) cs_X9_164 dX9_append_19 (tw_o ht) rfl rfl rfl (Nat.le_of_ble_eq_true rfl) (Nat.le_of_ble_eq_true rfl) (Nat.le_of_ble_eq_true rfl) (Nat.le_of_ble_eq_true rfl) (fun v H5 hq hz => ?_) (fun _ _ _ h9 _ _ => h9.elim)
    obtain ⟨rfl, ht, hk1⟩ := hq
    have hk := hk.tr hk1
    have ht : twAt E H5 m ad (upd sc 6 (if True then 0 else 1)) f0 f1 f2 f3 f4 fb ft fo := ht
    change Go E Z 6 H5 (0) (0) 22 [(0, .ref m), (1, .int a), (2, .int b), (3, .int c), (4, .int d), (5, .int e)] [.int (bI True)]
    refine f_if_neB (tgt := 27) K dX9_append_22 (by decide) (fun c_22 => ?_) (fun c_22 => ?_)
    · refine f_aload_n K dX9_append_27 rfl ?_
      refine f_iload_n K dX9_append_28 rfl ?_
      refine f_invV (As := [.int a]) (rest := []) K (tm_four (E := E)  ht a hl (by omega)) cs_X9_168 dX9_append_29 (tw_o ht) rfl rfl rfl (Nat.le_of_ble_eq_true rfl) (Nat.le_of_ble_eq_true rfl) (Nat.le_of_ble_eq_true rfl) (Nat.le_of_ble_eq_true rfl) (fun v H8 hq hz => ?_) (fun _ _ _ h9 _ _ => h9.elim)
      obtain ⟨rfl, ht, hk1⟩ := hq
      have hk := hk.tr hk1
      have ht : twAt E H8 m ad (upd (upd sc 6 (if True then 0 else 1)) 10 (nI (l + 4))) f0 f1 f2 f3 f4 (fr4 fb l a) ft fo := ht
      change Go E Z 6 H8 (0) (0) 32 [(0, .ref m), (1, .int a), (2, .int b), (3, .int c), (4, .int d), (5, .int e)] []
      have ht : twAt E H8 m ad (upd (upd sc 6 (if True then 0 else 1)) 10 (nI (l + 4))) f0 f1 f2 f3 f4 (fr4 fb l a) ft fo := ht
      have hl1 := show (upd (upd sc 6 (if True then 0 else 1)) 10 (nI (l + 4))) 10 = _ from rfl
      refine f_aload_n K dX9_append_32 rfl ?_
      refine f_iload_n K dX9_append_33 rfl ?_
      refine f_invV (As := [.int b]) (rest := []) K (tm_four (E := E)  ht b hl1 (by omega)) cs_X9_168 dX9_append_34 (tw_o ht) rfl rfl rfl (Nat.le_of_ble_eq_true rfl) (Nat.le_of_ble_eq_true rfl) (Nat.le_of_ble_eq_true rfl) (Nat.le_of_ble_eq_true rfl) (fun v H10 hq hz => ?_) (fun _ _ _ h9 _ _ => h9.elim)
      obtain ⟨rfl, ht, hk1⟩ := hq
      have hk := hk.tr hk1
      have ht : twAt E H10 m ad (upd (upd (upd sc 6 (if True then 0 else 1)) 10 (nI (l + 4))) 10 (nI ((l + 4) + 4))) f0 f1 f2 f3 f4 (fr4 (fr4 fb l a) (l + 4) b) ft fo := ht
      change Go E Z 6 H10 (0) (0) 37 [(0, .ref m), (1, .int a), (2, .int b), (3, .int c), (4, .int d), (5, .int e)] []
      rw [upd_upd] at ht
      have ht : twAt E H10 m ad (upd (upd sc 6 (if True then 0 else 1)) 10 (nI (l + 8))) f0 f1 f2 f3 f4 (fr4 (fr4 fb l a) (l + 4) b) ft fo := ht
      have hl2 := show (upd (upd sc 6 (if True then 0 else 1)) 10 (nI (l + 8))) 10 = _ from rfl
      refine f_aload_n K dX9_append_37 rfl ?_
      refine f_iload_n K dX9_append_38 rfl ?_
      refine f_invV (As := [.int c]) (rest := []) K (tm_four (E := E)  ht c hl2 (by omega)) cs_X9_168 dX9_append_39 (tw_o ht) rfl rfl rfl (Nat.le_of_ble_eq_true rfl) (Nat.le_of_ble_eq_true rfl) (Nat.le_of_ble_eq_true rfl) (Nat.le_of_ble_eq_true rfl) (fun v H12 hq hz => ?_) (fun _ _ _ h9 _ _ => h9.elim)
      obtain ⟨rfl, ht, hk1⟩ := hq
      have hk := hk.tr hk1
      have ht : twAt E H12 m ad (upd (upd (upd sc 6 (if True then 0 else 1)) 10 (nI (l + 8))) 10 (nI ((l + 8) + 4))) f0 f1 f2 f3 f4 (fr4 (fr4 (fr4 fb l a) (l + 4) b) (l + 8) c) ft fo := ht
      change Go E Z 6 H12 (0) (0) 42 [(0, .ref m), (1, .int a), (2, .int b), (3, .int c), (4, .int d), (5, .int e)] []
      rw [upd_upd] at ht
      have ht : twAt E H12 m ad (upd (upd sc 6 (if True then 0 else 1)) 10 (nI (l + 12))) f0 f1 f2 f3 f4 (fr4 (fr4 (fr4 fb l a) (l + 4) b) (l + 8) c) ft fo := ht
      have hl3 := show (upd (upd sc 6 (if True then 0 else 1)) 10 (nI (l + 12))) 10 = _ from rfl
      refine f_aload_n K dX9_append_42 rfl ?_
      refine f_iload K dX9_append_43 rfl ?_
      refine f_invV (As := [.int d]) (rest := []) K (tm_four (E := E)  ht d hl3 (by omega)) cs_X9_168 dX9_append_45 (tw_o ht) rfl rfl rfl (Nat.le_of_ble_eq_true rfl) (Nat.le_of_ble_eq_true rfl) (Nat.le_of_ble_eq_true rfl) (Nat.le_of_ble_eq_true rfl) (fun v H14 hq hz => ?_) (fun _ _ _ h9 _ _ => h9.elim)
      obtain ⟨rfl, ht, hk1⟩ := hq
      have hk := hk.tr hk1
      have ht : twAt E H14 m ad (upd (upd (upd sc 6 (if True then 0 else 1)) 10 (nI (l + 12))) 10 (nI ((l + 12) + 4))) f0 f1 f2 f3 f4 (fr4 (fr4 (fr4 (fr4 fb l a) (l + 4) b) (l + 8) c) (l + 12) d) ft fo := ht
      change Go E Z 6 H14 (0) (0) 48 [(0, .ref m), (1, .int a), (2, .int b), (3, .int c), (4, .int d), (5, .int e)] []
      rw [upd_upd] at ht
      have ht : twAt E H14 m ad (upd (upd sc 6 (if True then 0 else 1)) 10 (nI (l + 16))) f0 f1 f2 f3 f4 (fr4 (fr4 (fr4 (fr4 fb l a) (l + 4) b) (l + 8) c) (l + 12) d) ft fo := ht
      have hl4 := show (upd (upd sc 6 (if True then 0 else 1)) 10 (nI (l + 16))) 10 = _ from rfl
      refine f_aload_n K dX9_append_48 rfl ?_
      refine f_iload K dX9_append_49 rfl ?_
      refine f_invV (As := [.int e]) (rest := []) K (tm_four (E := E)  ht e hl4 (by omega)) cs_X9_168 dX9_append_51 (tw_o ht) rfl rfl rfl (Nat.le_of_ble_eq_true rfl) (Nat.le_of_ble_eq_true rfl) (Nat.le_of_ble_eq_true rfl) (Nat.le_of_ble_eq_true rfl) (fun v H16 hq hz => ?_) (fun _ _ _ h9 _ _ => h9.elim)
      obtain ⟨rfl, ht, hk1⟩ := hq
      have hk := hk.tr hk1
      have ht : twAt E H16 m ad (upd (upd (upd sc 6 (if True then 0 else 1)) 10 (nI (l + 16))) 10 (nI ((l + 16) + 4))) f0 f1 f2 f3 f4 (fr4 (fr4 (fr4 (fr4 (fr4 fb l a) (l + 4) b) (l + 8) c) (l + 12) d) (l + 16) e) ft fo := ht
      change Go E Z 6 H16 (0) (0) 54 [(0, .ref m), (1, .int a), (2, .int b), (3, .int c), (4, .int d), (5, .int e)] []
      rw [upd_upd] at ht
      have ht : twAt E H16 m ad (upd (upd sc 6 (if True then 0 else 1)) 10 (nI (l + 20))) f0 f1 f2 f3 f4 (fr4 (fr4 (fr4 (fr4 (fr4 fb l a) (l + 4) b) (l + 8) c) (l + 12) d) (l + 16) e) ft fo := ht
      have hl5 := show (upd (upd sc 6 (if True then 0 else 1)) 10 (nI (l + 20))) 10 = _ from rfl
      refine f_aload_n K dX9_append_54 rfl ?_
      refine f_get (v := .int (nI (l + 20))) K fl_X9_50_X9 dX9_append_55 (tw_o ht) rfl ?_
      exact f_retI K X (Or.inl rfl) dX9_append_58 (Nat.le_of_ble_eq_true rfl) (Nat.le_of_ble_eq_true rfl) (⟨rI (if_pos hP).symm, by rw [if_pos hP, if_pos hP]; exact ht, hk⟩)
    · exact absurd trivial c_22
/-- truncate(I)I -/
theorem tm_truncate {E : fE} {H : Heap} {m : Nat} {ad : Nat → Nat} {sc f0 f1 f2 f3 f4 fb ft fo : Row} (ht : twAt E H m ad sc f0 f1 f2 f3 f4 fb ft fo) (x : Int32)  : fM E yX9_truncate prog_17_method_50_code 2 (some .int) 2 0 0 [.ref m, .int x] H (fun r_ H' => r_ = some (.int (if 0 ≤ x ∧ x ≤ sc 10 then x else 0)) ∧ twAt E H' m ad (if 0 ≤ x ∧ x ≤ sc 10 then upd (upd sc 6 0) 10 x else upd sc 6 1) f0 f1 f2 f3 f4 fb ft fo ∧ twK m ad H H') noX := by
  refine f_start (own := "SnowPassModel") (nm := "truncate") (lv := [(0, .ref m), (1, .int x)]) pn_X9 rfl rfl (Nat.le_of_ble_eq_true rfl) rfl (fun Z K X => ?_)
  have hk := twK.rf (m := m) (ad := ad) (H := H)
  refine f_aload_n K dX9_truncate_0 rfl ?_
  refine f_iload_n K dX9_truncate_1 rfl ?_
  refine f_i2l (v := x.toInt64) K dX9_truncate_2 rfl ?_
  refine f_lconst (v := 0) K dX9_truncate_3 rfl ?_
  refine f_aload_n K dX9_truncate_4 rfl ?_
  refine f_get (v := .int (sc 10)) K fl_X9_50_X9 dX9_truncate_5 (tw_o ht) rfl ?_
  refine f_i2l (v := (sc 10).toInt64) K dX9_truncate_8 rfl ?_
  refine f_invS (As := [.long x.toInt64, .long 0, .long ((sc 10).toInt64)]) (rest := [.ref m]) K (tm_in (E := E)  x x.toInt64 (by rfl) 0 0 (by rfl) (sc 10) ((sc 10).toInt64) (by rfl)) cs_X9_62 dX9_truncate_9 rfl rfl (Nat.le_of_ble_eq_true rfl) (Nat.le_of_ble_eq_true rfl) (Nat.le_of_ble_eq_true rfl) (Nat.le_of_ble_eq_true rfl) (fun v H1 hq hz => ?_) (fun _ _ _ h9 _ _ => h9.elim)
  obtain ⟨rfl, hq⟩ := hq
  rw [hq]
  change Go E Z 2 H (0) (0) 12 [(0, .ref m), (1, .int x)] [.int (bI (0 ≤ x ∧ x ≤ (sc 10))), .ref m]
  refine f_invV (As := [.int (bI (0 ≤ x ∧ x ≤ (sc 10)))]) (rest := []) K (tm_passes (E := E)  ht (0 ≤ x ∧ x ≤ (sc 10))) cs_X9_164 dX9_truncate_12 (tw_o ht) rfl rfl rfl (Nat.le_of_ble_eq_true rfl) (Nat.le_of_ble_eq_true rfl) (Nat.le_of_ble_eq_true rfl) (Nat.le_of_ble_eq_true rfl) (fun v H2 hq hz => ?_) (fun _ _ _ h9 _ _ => h9.elim)
  obtain ⟨rfl, ht, hk1⟩ := hq
  have hk := hk.tr hk1
  have ht : twAt E H2 m ad (upd sc 6 (if (0 ≤ x ∧ x ≤ (sc 10)) then 0 else 1)) f0 f1 f2 f3 f4 fb ft fo := ht
  change Go E Z 2 H2 (0) (0) 15 [(0, .ref m), (1, .int x)] [.int (bI (0 ≤ x ∧ x ≤ (sc 10)))]
  refine f_if_neB (tgt := 20) K dX9_truncate_15 (by decide) (fun c_15 => ?_) (fun c_15 => ?_)
  · rw [if_pos c_15] at ht
    refine f_aload_n K dX9_truncate_20 rfl ?_
    refine f_iload_n K dX9_truncate_21 rfl ?_
    refine f_put K fp_X9_50_X9 dX9_truncate_22 (tw_o ht) (tw_lo ht) (Nat.le_of_ble_eq_true rfl) rfl rfl (fun H5 hU ho => ?_)
    have ht := tw_put (sc' := (upd (upd sc 6 0) 10 x)) ht hU ho rfl
    have hk := hk.put hU
    refine f_iload_n K dX9_truncate_25 rfl ?_
    exact f_retI K X (Or.inl rfl) dX9_truncate_26 (Nat.le_of_ble_eq_true rfl) (Nat.le_of_ble_eq_true rfl) (⟨rI (if_pos c_15).symm, by rw [if_pos c_15]; exact ht, hk⟩)
  · rw [if_neg c_15] at ht
    refine f_iconst (v := 0) K dX9_truncate_18 rfl ?_
    exact f_retI K X (Or.inl rfl) dX9_truncate_19 (Nat.le_of_ble_eq_true rfl) (Nat.le_of_ble_eq_true rfl) (⟨rI (if_neg c_15).symm, by rw [if_neg c_15]; exact ht, hk⟩)
/-- how many of the d segments from k on, towards the summit, are not clear -/
def sp_unw (f : Row) (p : Nat) : Nat → Nat → Int32 → Int32
  | 0, _, a => a
  | d + 1, k, a => sp_unw f p d (if p = 0 then k + 1 else k - 1) (a + bI (¬ sp_clear f k))
def sp_uncl (f : Row) (n t p : Nat) : Int32 := if p = 0 then sp_unw f 0 (t + 1) 0 0 else sp_unw f 1 (n - t) (n - 1) 0
theorem sp_unw_t {f : Row} {p d k : Nat} {a : Int32} (c : sp_clear f k) : sp_unw f p (d + 1) k a = sp_unw f p d (if p = 0 then k + 1 else k - 1) (a + bI False) := by
  show sp_unw f p d _ (a + bI (¬ sp_clear f k)) = _
  rw [bI_f (fun z => z c), bI_f (id : ¬ False)]
theorem sp_unw_f {f : Row} {p d k : Nat} {a : Int32} (c : ¬ sp_clear f k) : sp_unw f p (d + 1) k a = sp_unw f p d (if p = 0 then k + 1 else k - 1) (a + bI True) := by
  show sp_unw f p d _ (a + bI (¬ sp_clear f k)) = _
  rw [bI_t c, bI_t trivial]
theorem side01 {x : Int32} (h : 0 ≤ x ∧ x ≤ 1) : x = nI 0 ∨ x = nI 1 := by
  obtain ⟨h1, h2⟩ := seg_in2 (z := 1) (n := 1) rfl (by decide) h
  rw [h1]
  rcases (by omega : x.toNatClampNeg = 0 ∨ x.toNatClampNeg = 1) with e | e <;> rw [e]
  · exact .inl rfl
  · exact .inr rfl
/-- unclearedOnSide(I)I -/
theorem tm_unclearedOnSide {E : fE} {H : Heap} {m : Nat} {ad : Nat → Nat} {sc f0 f1 f2 f3 f4 fb ft fo : Row} (ht : twAt E H m ad sc f0 f1 f2 f3 f4 fb ft fo) (x : Int32) {n t : Nat} (ok : okr n t f0) : fM E yX9_unclearedOnSide prog_17_method_99_code 5 (some .int) 3 0 0 [.ref m, .int x] H (fun r_ H' => r_ = some (.int (if 0 ≤ x ∧ x ≤ 1 then sp_uncl f0 n t x.toNatClampNeg else 0)) ∧ twAt E H' m ad (upd sc 6 (if 0 ≤ x ∧ x ≤ 1 then 0 else 1)) f0 f1 f2 f3 f4 fb ft fo ∧ twK m ad H H') noX := by
  refine f_start (own := "SnowPassModel") (nm := "unclearedOnSide") (lv := [(0, .ref m), (1, .int x)]) pn_X9 rfl rfl (Nat.le_of_ble_eq_true rfl) rfl (fun Z K X => ?_)
  have hk := twK.rf (m := m) (ad := ad) (H := H)
  refine f_aload_n K dX9_unclearedOnSide_0 rfl ?_
  refine f_iload_n K dX9_unclearedOnSide_1 rfl ?_
  refine f_invS (As := [.int x]) (rest := [.ref m]) K (tm_isSide (E := E)  x) cs_X9_342 dX9_unclearedOnSide_2 rfl rfl (Nat.le_of_ble_eq_true rfl) (Nat.le_of_ble_eq_true rfl) (Nat.le_of_ble_eq_true rfl) (Nat.le_of_ble_eq_true rfl) (fun v H1 hq hz => ?_) (fun _ _ _ h9 _ _ => h9.elim)
  obtain ⟨rfl, hq⟩ := hq
  rw [hq]
  change Go E Z 5 H (0) (0) 5 [(0, .ref m), (1, .int x)] [.int (bI (0 ≤ x ∧ x ≤ 1)), .ref m]
  refine f_invV (As := [.int (bI (0 ≤ x ∧ x ≤ 1))]) (rest := []) K (tm_passes (E := E)  ht (0 ≤ x ∧ x ≤ 1)) cs_X9_164 dX9_unclearedOnSide_5 (tw_o ht) rfl rfl rfl (Nat.le_of_ble_eq_true rfl) (Nat.le_of_ble_eq_true rfl) (Nat.le_of_ble_eq_true rfl) (Nat.le_of_ble_eq_true rfl) (fun v H2 hq hz => ?_) (fun _ _ _ h9 _ _ => h9.elim)
  obtain ⟨rfl, ht, hk1⟩ := hq
  have hk := hk.tr hk1
  have ht : twAt E H2 m ad (upd sc 6 (if (0 ≤ x ∧ x ≤ 1) then 0 else 1)) f0 f1 f2 f3 f4 fb ft fo := ht
  change Go E Z 5 H2 (0) (0) 8 [(0, .ref m), (1, .int x)] [.int (bI (0 ≤ x ∧ x ≤ 1))]
  refine f_if_neB (tgt := 13) K dX9_unclearedOnSide_8 (by decide) (fun c_8 => ?_) (fun c_8 => ?_)
  · have hb9 := ok.1; have ht1 := ok.t
    rcases side01 c_8 with hx | hx
    · have he : f0 1 + sp_step 0 = nI (t + 1) := sb_p ht1
      have hxc : x.toNatClampNeg = 0 := by rw [hx]; rfl
      refine f_iconst (v := 0) K dX9_unclearedOnSide_13 rfl ?_
      refine f_istore_n (lv' := [(2, .int 0), (0, .ref m), (1, .int x)]) K dX9_unclearedOnSide_14 (by decide) rfl ?_
      refine f_aload_n K dX9_unclearedOnSide_15 rfl ?_
      refine f_get (v := .ref (ad 0)) K fl_X9_7_X9 dX9_unclearedOnSide_16 (tw_o ht) rfl ?_
      refine f_iconst (v := 1) K dX9_unclearedOnSide_19 rfl ?_
      refine f_iald (j := 1) K dX9_unclearedOnSide_20 (tw_a0 ht) nl_1 (by decide) (by decide) ?_
      refine f_iload_n K dX9_unclearedOnSide_21 rfl ?_
      refine f_invS (As := [.int x]) (rest := [.int (f0 1)]) K (tm_stepOf (E := E) (p := 0) x hx (by omega)) cs_X9_84 dX9_unclearedOnSide_22 rfl rfl (Nat.le_of_ble_eq_true rfl) (Nat.le_of_ble_eq_true rfl) (Nat.le_of_ble_eq_true rfl) (Nat.le_of_ble_eq_true rfl) (fun v H5 hq hz => ?_) (fun _ _ _ h9 _ _ => h9.elim)
      obtain ⟨rfl, hq⟩ := hq
      rw [hq]
      change Go E Z 5 H2 (0) (0) 25 [(2, .int 0), (0, .ref m), (1, .int x)] [.int (sp_step 0), .int (f0 1)]
      refine f_iadd K dX9_unclearedOnSide_25 ?_
      refine f_istore_n (lv' := [(3, .int ((f0 1) + (sp_step 0))), (2, .int 0), (0, .ref m), (1, .int x)]) K dX9_unclearedOnSide_26 (by decide) rfl ?_
      refine f_aload_n K dX9_unclearedOnSide_27 rfl ?_
      refine f_iload_n K dX9_unclearedOnSide_28 rfl ?_
      refine f_invV (As := [.int x]) (rest := []) K (tm_valleyOf (E := E) (p := 0) ht x hx ok.n (by omega) (by omega)) cs_X9_76 dX9_unclearedOnSide_29 (tw_o ht) rfl rfl rfl (Nat.le_of_ble_eq_true rfl) (Nat.le_of_ble_eq_true rfl) (Nat.le_of_ble_eq_true rfl) (Nat.le_of_ble_eq_true rfl) (fun v H6 hq hz => ?_) (fun _ _ _ h9 _ _ => h9.elim)
      obtain ⟨rfl, hq⟩ := hq
      rw [hq]
      change Go E Z 5 H2 (0) (0) 32 [(3, .int ((f0 1) + (sp_step 0))), (2, .int 0), (0, .ref m), (1, .int x)] [.int (nI (if 0 = 0 then 0 else n - 1))]
      refine f_istore (lv' := [(4, .int (nI (if 0 = 0 then 0 else n - 1))), (3, .int ((f0 1) + (sp_step 0))), (2, .int 0), (0, .ref m), (1, .int x)]) K dX9_unclearedOnSide_32 (by decide) rfl ?_
      have loop : ∀ (d k : Nat) (x_s x_a : Int32), x_s = nI k → k + d = t + 1 → k ≤ n → sp_uncl f0 n t 0 = sp_unw f0 0 d k x_a → Go E Z 5 H2 (0) (0) 34 [(4, .int x_s), (3, .int ((f0 1) + (sp_step 0))), (2, .int x_a), (0, .ref m), (1, .int x)] [] := by
        intro d
        induction d with
        | zero =>
          intro k x_s x_a h_k hd hkn hu
          refine f_iload K dX9_unclearedOnSide_34 rfl ?_
          refine f_iload_n K dX9_unclearedOnSide_36 rfl ?_
          refine f_icmp_eq (tgt := 72) K dX9_unclearedOnSide_37 (by decide) (fun c_37 => ?_) (fun c_37 => ?_)
          · refine f_iload_n K dX9_unclearedOnSide_72 rfl ?_
            exact f_retI K X (Or.inl rfl) dX9_unclearedOnSide_73 (Nat.le_of_ble_eq_true rfl) (Nat.le_of_ble_eq_true rfl) (⟨rI (by rw [if_pos c_8, hxc]; exact hu.symm), ht, hk⟩)
          · exact absurd (h_k.trans ((congrArg nI (by omega)).trans he.symm)) c_37
        | succ d ih =>
          intro k x_s x_a h_k hd hkn hu
          refine f_iload K dX9_unclearedOnSide_34 rfl ?_
          refine f_iload_n K dX9_unclearedOnSide_36 rfl ?_
          refine f_icmp_eq (tgt := 72) K dX9_unclearedOnSide_37 (by decide) (fun c_37 => ?_) (fun c_37 => ?_)
          · exact absurd ((nI_eq (by omega) (by omega)).mp (h_k.symm.trans (c_37.trans he))) (by omega)
          · refine f_iload_n K dX9_unclearedOnSide_40 rfl ?_
            refine f_aload_n K dX9_unclearedOnSide_41 rfl ?_
            refine f_iload K dX9_unclearedOnSide_42 rfl ?_
            refine f_invV (As := [.int x_s]) (rest := [.int x_a]) K (tm_isClearNow (E := E) (k := k) ht x_s h_k (by omega)) cs_X9_80 dX9_unclearedOnSide_44 (tw_o ht) rfl rfl rfl (Nat.le_of_ble_eq_true rfl) (Nat.le_of_ble_eq_true rfl) (Nat.le_of_ble_eq_true rfl) (Nat.le_of_ble_eq_true rfl) (fun v H9 hq hz => ?_) (fun _ _ _ h9 _ _ => h9.elim)
            obtain ⟨rfl, hq⟩ := hq
            rw [hq]
            change Go E Z 5 H2 (0) (0) 47 [(4, .int x_s), (3, .int ((f0 1) + (sp_step 0))), (2, .int x_a), (0, .ref m), (1, .int x)] [.int (bI (sp_clear f0 k)), .int x_a]
            refine f_if_neB (tgt := 54) K dX9_unclearedOnSide_47 (by decide) (fun c_47 => ?_) (fun c_47 => ?_)
            · refine f_iconst (v := 0) K dX9_unclearedOnSide_54 rfl ?_
              refine f_invS (As := [.int 0]) (rest := [.int x_a]) K (tm_truth (E := E)  False) cs_X9_335 dX9_unclearedOnSide_55 rfl rfl (Nat.le_of_ble_eq_true rfl) (Nat.le_of_ble_eq_true rfl) (Nat.le_of_ble_eq_true rfl) (Nat.le_of_ble_eq_true rfl) (fun v H11 hq hz => ?_) (fun _ _ _ h9 _ _ => h9.elim)
              obtain ⟨rfl, hq⟩ := hq
              rw [hq]
              change Go E Z 5 H2 (0) (0) 58 [(4, .int x_s), (3, .int ((f0 1) + (sp_step 0))), (2, .int x_a), (0, .ref m), (1, .int x)] [.int (bI False), .int x_a]
              refine f_iadd K dX9_unclearedOnSide_58 ?_
              refine f_istore_n (lv' := [(2, .int (x_a + (bI False))), (4, .int x_s), (3, .int ((f0 1) + (sp_step 0))), (0, .ref m), (1, .int x)]) K dX9_unclearedOnSide_59 (by decide) rfl ?_
              refine f_iload K dX9_unclearedOnSide_60 rfl ?_
              refine f_iload_n K dX9_unclearedOnSide_62 rfl ?_
              refine f_invS (As := [.int x]) (rest := [.int x_s]) K (tm_stepOf (E := E) (p := 0) x hx (by omega)) cs_X9_84 dX9_unclearedOnSide_63 rfl rfl (Nat.le_of_ble_eq_true rfl) (Nat.le_of_ble_eq_true rfl) (Nat.le_of_ble_eq_true rfl) (Nat.le_of_ble_eq_true rfl) (fun v H12 hq hz => ?_) (fun _ _ _ h9 _ _ => h9.elim)
              obtain ⟨rfl, hq⟩ := hq
              rw [hq]
              change Go E Z 5 H2 (0) (0) 66 [(2, .int (x_a + (bI False))), (4, .int x_s), (3, .int ((f0 1) + (sp_step 0))), (0, .ref m), (1, .int x)] [.int (sp_step 0), .int x_s]
              refine f_iadd K dX9_unclearedOnSide_66 ?_
              refine f_istore (lv' := [(4, .int (x_s + (sp_step 0))), (2, .int (x_a + (bI False))), (3, .int ((f0 1) + (sp_step 0))), (0, .ref m), (1, .int x)]) K dX9_unclearedOnSide_67 (by decide) rfl ?_
              refine f_goto (tgt := 34) K dX9_unclearedOnSide_69 (by decide) ?_
              refine Go.subQ (lv' := [(4, .int (x_s + (sp_step 0))), (3, .int ((f0 1) + (sp_step 0))), (2, .int (x_a + (bI False))), (0, .ref m), (1, .int x)]) (List.forall_mem_cons.mpr ⟨rfl, (List.forall_mem_cons.mpr ⟨rfl, (List.forall_mem_cons.mpr ⟨rfl, (List.forall_mem_cons.mpr ⟨rfl, (List.forall_mem_cons.mpr ⟨rfl, (fun _ h9 => absurd h9 List.not_mem_nil)⟩)⟩)⟩)⟩)⟩) ?_
              exact ih (k + 1) _ _ (sb_p h_k) (by omega) (by omega) (hu.trans (sp_unw_t c_47))
            · refine f_iconst (v := 1) K dX9_unclearedOnSide_50 rfl ?_
              refine f_goto (tgt := 55) K dX9_unclearedOnSide_51 (by decide) ?_
              refine f_invS (As := [.int 1]) (rest := [.int x_a]) K (tm_truth (E := E)  True) cs_X9_335 dX9_unclearedOnSide_55 rfl rfl (Nat.le_of_ble_eq_true rfl) (Nat.le_of_ble_eq_true rfl) (Nat.le_of_ble_eq_true rfl) (Nat.le_of_ble_eq_true rfl) (fun v H13 hq hz => ?_) (fun _ _ _ h9 _ _ => h9.elim)
              obtain ⟨rfl, hq⟩ := hq
              rw [hq]
              change Go E Z 5 H2 (0) (0) 58 [(4, .int x_s), (3, .int ((f0 1) + (sp_step 0))), (2, .int x_a), (0, .ref m), (1, .int x)] [.int (bI True), .int x_a]
              refine f_iadd K dX9_unclearedOnSide_58 ?_
              refine f_istore_n (lv' := [(2, .int (x_a + (bI True))), (4, .int x_s), (3, .int ((f0 1) + (sp_step 0))), (0, .ref m), (1, .int x)]) K dX9_unclearedOnSide_59 (by decide) rfl ?_
              refine f_iload K dX9_unclearedOnSide_60 rfl ?_
              refine f_iload_n K dX9_unclearedOnSide_62 rfl ?_
              refine f_invS (As := [.int x]) (rest := [.int x_s]) K (tm_stepOf (E := E) (p := 0) x hx (by omega)) cs_X9_84 dX9_unclearedOnSide_63 rfl rfl (Nat.le_of_ble_eq_true rfl) (Nat.le_of_ble_eq_true rfl) (Nat.le_of_ble_eq_true rfl) (Nat.le_of_ble_eq_true rfl) (fun v H14 hq hz => ?_) (fun _ _ _ h9 _ _ => h9.elim)
              obtain ⟨rfl, hq⟩ := hq
              rw [hq]
              change Go E Z 5 H2 (0) (0) 66 [(2, .int (x_a + (bI True))), (4, .int x_s), (3, .int ((f0 1) + (sp_step 0))), (0, .ref m), (1, .int x)] [.int (sp_step 0), .int x_s]
              refine f_iadd K dX9_unclearedOnSide_66 ?_
              refine f_istore (lv' := [(4, .int (x_s + (sp_step 0))), (2, .int (x_a + (bI True))), (3, .int ((f0 1) + (sp_step 0))), (0, .ref m), (1, .int x)]) K dX9_unclearedOnSide_67 (by decide) rfl ?_
              refine f_goto (tgt := 34) K dX9_unclearedOnSide_69 (by decide) ?_
              refine Go.subQ (lv' := [(4, .int (x_s + (sp_step 0))), (3, .int ((f0 1) + (sp_step 0))), (2, .int (x_a + (bI True))), (0, .ref m), (1, .int x)]) (List.forall_mem_cons.mpr ⟨rfl, (List.forall_mem_cons.mpr ⟨rfl, (List.forall_mem_cons.mpr ⟨rfl, (List.forall_mem_cons.mpr ⟨rfl, (List.forall_mem_cons.mpr ⟨rfl, (fun _ h9 => absurd h9 List.not_mem_nil)⟩)⟩)⟩)⟩)⟩) ?_
              exact ih (k + 1) _ _ (sb_p h_k) (by omega) (by omega) (hu.trans (sp_unw_f c_47))
      exact loop (t + 1) 0 _ 0 rfl (by omega) (by omega) rfl
    · have he : f0 1 + sp_step 1 = nI (t - 1) := sb_m ht1 hb9.2.2.1
      have hxc : x.toNatClampNeg = 1 := by rw [hx]; rfl
      refine f_iconst (v := 0) K dX9_unclearedOnSide_13 rfl ?_
      refine f_istore_n (lv' := [(2, .int 0), (0, .ref m), (1, .int x)]) K dX9_unclearedOnSide_14 (by decide) rfl ?_
      refine f_aload_n K dX9_unclearedOnSide_15 rfl ?_
      refine f_get (v := .ref (ad 0)) K fl_X9_7_X9 dX9_unclearedOnSide_16 (tw_o ht) rfl ?_
      refine f_iconst (v := 1) K dX9_unclearedOnSide_19 rfl ?_
      refine f_iald (j := 1) K dX9_unclearedOnSide_20 (tw_a0 ht) nl_1 (by decide) (by decide) ?_
      refine f_iload_n K dX9_unclearedOnSide_21 rfl ?_
      refine f_invS (As := [.int x]) (rest := [.int (f0 1)]) K (tm_stepOf (E := E) (p := 1) x hx (by omega)) cs_X9_84 dX9_unclearedOnSide_22 rfl rfl (Nat.le_of_ble_eq_true rfl) (Nat.le_of_ble_eq_true rfl) (Nat.le_of_ble_eq_true rfl) (Nat.le_of_ble_eq_true rfl) (fun v H15 hq hz => ?_) (fun _ _ _ h9 _ _ => h9.elim)
      obtain ⟨rfl, hq⟩ := hq
      rw [hq]
      change Go E Z 5 H2 (0) (0) 25 [(2, .int 0), (0, .ref m), (1, .int x)] [.int (sp_step 1), .int (f0 1)]
      refine f_iadd K dX9_unclearedOnSide_25 ?_
      refine f_istore_n (lv' := [(3, .int ((f0 1) + (sp_step 1))), (2, .int 0), (0, .ref m), (1, .int x)]) K dX9_unclearedOnSide_26 (by decide) rfl ?_
      refine f_aload_n K dX9_unclearedOnSide_27 rfl ?_
      refine f_iload_n K dX9_unclearedOnSide_28 rfl ?_
      refine f_invV (As := [.int x]) (rest := []) K (tm_valleyOf (E := E) (p := 1) ht x hx ok.n (by omega) (by omega)) cs_X9_76 dX9_unclearedOnSide_29 (tw_o ht) rfl rfl rfl (Nat.le_of_ble_eq_true rfl) (Nat.le_of_ble_eq_true rfl) (Nat.le_of_ble_eq_true rfl) (Nat.le_of_ble_eq_true rfl) (fun v H16 hq hz => ?_) (fun _ _ _ h9 _ _ => h9.elim)
      obtain ⟨rfl, hq⟩ := hq
      rw [hq]
      change Go E Z 5 H2 (0) (0) 32 [(3, .int ((f0 1) + (sp_step 1))), (2, .int 0), (0, .ref m), (1, .int x)] [.int (nI (if 1 = 0 then 0 else n - 1))]
      refine f_istore (lv' := [(4, .int (nI (if 1 = 0 then 0 else n - 1))), (3, .int ((f0 1) + (sp_step 1))), (2, .int 0), (0, .ref m), (1, .int x)]) K dX9_unclearedOnSide_32 (by decide) rfl ?_
      have loop : ∀ (d k : Nat) (x_s x_a : Int32), x_s = nI k → k + 1 = t + d → k ≤ n → sp_uncl f0 n t 1 = sp_unw f0 1 d k x_a → Go E Z 5 H2 (0) (0) 34 [(4, .int x_s), (3, .int ((f0 1) + (sp_step 1))), (2, .int x_a), (0, .ref m), (1, .int x)] [] := by
        intro d
        induction d with
        | zero =>
          intro k x_s x_a h_k hd hkn hu
          refine f_iload K dX9_unclearedOnSide_34 rfl ?_
          refine f_iload_n K dX9_unclearedOnSide_36 rfl ?_
          refine f_icmp_eq (tgt := 72) K dX9_unclearedOnSide_37 (by decide) (fun c_37 => ?_) (fun c_37 => ?_)
          · refine f_iload_n K dX9_unclearedOnSide_72 rfl ?_
            exact f_retI K X (Or.inl rfl) dX9_unclearedOnSide_73 (Nat.le_of_ble_eq_true rfl) (Nat.le_of_ble_eq_true rfl) (⟨rI (by rw [if_pos c_8, hxc]; exact hu.symm), ht, hk⟩)
          · exact absurd (h_k.trans ((congrArg nI (by omega)).trans he.symm)) c_37
        | succ d ih =>
          intro k x_s x_a h_k hd hkn hu
          refine f_iload K dX9_unclearedOnSide_34 rfl ?_
          refine f_iload_n K dX9_unclearedOnSide_36 rfl ?_
          refine f_icmp_eq (tgt := 72) K dX9_unclearedOnSide_37 (by decide) (fun c_37 => ?_) (fun c_37 => ?_)
          · exact absurd ((nI_eq (by omega) (by omega)).mp (h_k.symm.trans (c_37.trans he))) (by omega)
          · refine f_iload_n K dX9_unclearedOnSide_40 rfl ?_
            refine f_aload_n K dX9_unclearedOnSide_41 rfl ?_
            refine f_iload K dX9_unclearedOnSide_42 rfl ?_
            refine f_invV (As := [.int x_s]) (rest := [.int x_a]) K (tm_isClearNow (E := E) (k := k) ht x_s h_k (by omega)) cs_X9_80 dX9_unclearedOnSide_44 (tw_o ht) rfl rfl rfl (Nat.le_of_ble_eq_true rfl) (Nat.le_of_ble_eq_true rfl) (Nat.le_of_ble_eq_true rfl) (Nat.le_of_ble_eq_true rfl) (fun v H19 hq hz => ?_) (fun _ _ _ h9 _ _ => h9.elim)
            obtain ⟨rfl, hq⟩ := hq
            rw [hq]
            change Go E Z 5 H2 (0) (0) 47 [(4, .int x_s), (3, .int ((f0 1) + (sp_step 1))), (2, .int x_a), (0, .ref m), (1, .int x)] [.int (bI (sp_clear f0 k)), .int x_a]
            refine f_if_neB (tgt := 54) K dX9_unclearedOnSide_47 (by decide) (fun c_47 => ?_) (fun c_47 => ?_)
            · refine f_iconst (v := 0) K dX9_unclearedOnSide_54 rfl ?_
              refine f_invS (As := [.int 0]) (rest := [.int x_a]) K (tm_truth (E := E)  False) cs_X9_335 dX9_unclearedOnSide_55 rfl rfl (Nat.le_of_ble_eq_true rfl) (Nat.le_of_ble_eq_true rfl) (Nat.le_of_ble_eq_true rfl) (Nat.le_of_ble_eq_true rfl) (fun v H21 hq hz => ?_) (fun _ _ _ h9 _ _ => h9.elim)
              obtain ⟨rfl, hq⟩ := hq
              rw [hq]
              change Go E Z 5 H2 (0) (0) 58 [(4, .int x_s), (3, .int ((f0 1) + (sp_step 1))), (2, .int x_a), (0, .ref m), (1, .int x)] [.int (bI False), .int x_a]
              refine f_iadd K dX9_unclearedOnSide_58 ?_
              refine f_istore_n (lv' := [(2, .int (x_a + (bI False))), (4, .int x_s), (3, .int ((f0 1) + (sp_step 1))), (0, .ref m), (1, .int x)]) K dX9_unclearedOnSide_59 (by decide) rfl ?_
              refine f_iload K dX9_unclearedOnSide_60 rfl ?_
              refine f_iload_n K dX9_unclearedOnSide_62 rfl ?_
              refine f_invS (As := [.int x]) (rest := [.int x_s]) K (tm_stepOf (E := E) (p := 1) x hx (by omega)) cs_X9_84 dX9_unclearedOnSide_63 rfl rfl (Nat.le_of_ble_eq_true rfl) (Nat.le_of_ble_eq_true rfl) (Nat.le_of_ble_eq_true rfl) (Nat.le_of_ble_eq_true rfl) (fun v H22 hq hz => ?_) (fun _ _ _ h9 _ _ => h9.elim)
              obtain ⟨rfl, hq⟩ := hq
              rw [hq]
              change Go E Z 5 H2 (0) (0) 66 [(2, .int (x_a + (bI False))), (4, .int x_s), (3, .int ((f0 1) + (sp_step 1))), (0, .ref m), (1, .int x)] [.int (sp_step 1), .int x_s]
              refine f_iadd K dX9_unclearedOnSide_66 ?_
              refine f_istore (lv' := [(4, .int (x_s + (sp_step 1))), (2, .int (x_a + (bI False))), (3, .int ((f0 1) + (sp_step 1))), (0, .ref m), (1, .int x)]) K dX9_unclearedOnSide_67 (by decide) rfl ?_
              refine f_goto (tgt := 34) K dX9_unclearedOnSide_69 (by decide) ?_
              refine Go.subQ (lv' := [(4, .int (x_s + (sp_step 1))), (3, .int ((f0 1) + (sp_step 1))), (2, .int (x_a + (bI False))), (0, .ref m), (1, .int x)]) (List.forall_mem_cons.mpr ⟨rfl, (List.forall_mem_cons.mpr ⟨rfl, (List.forall_mem_cons.mpr ⟨rfl, (List.forall_mem_cons.mpr ⟨rfl, (List.forall_mem_cons.mpr ⟨rfl, (fun _ h9 => absurd h9 List.not_mem_nil)⟩)⟩)⟩)⟩)⟩) ?_
              exact ih (k - 1) _ _ (sb_m h_k (by omega)) (by omega) (by omega) (hu.trans (sp_unw_t c_47))
            · refine f_iconst (v := 1) K dX9_unclearedOnSide_50 rfl ?_
              refine f_goto (tgt := 55) K dX9_unclearedOnSide_51 (by decide) ?_
              refine f_invS (As := [.int 1]) (rest := [.int x_a]) K (tm_truth (E := E)  True) cs_X9_335 dX9_unclearedOnSide_55 rfl rfl (Nat.le_of_ble_eq_true rfl) (Nat.le_of_ble_eq_true rfl) (Nat.le_of_ble_eq_true rfl) (Nat.le_of_ble_eq_true rfl) (fun v H23 hq hz => ?_) (fun _ _ _ h9 _ _ => h9.elim)
              obtain ⟨rfl, hq⟩ := hq
              rw [hq]
              change Go E Z 5 H2 (0) (0) 58 [(4, .int x_s), (3, .int ((f0 1) + (sp_step 1))), (2, .int x_a), (0, .ref m), (1, .int x)] [.int (bI True), .int x_a]
              refine f_iadd K dX9_unclearedOnSide_58 ?_
              refine f_istore_n (lv' := [(2, .int (x_a + (bI True))), (4, .int x_s), (3, .int ((f0 1) + (sp_step 1))), (0, .ref m), (1, .int x)]) K dX9_unclearedOnSide_59 (by decide) rfl ?_
              refine f_iload K dX9_unclearedOnSide_60 rfl ?_
              refine f_iload_n K dX9_unclearedOnSide_62 rfl ?_
              refine f_invS (As := [.int x]) (rest := [.int x_s]) K (tm_stepOf (E := E) (p := 1) x hx (by omega)) cs_X9_84 dX9_unclearedOnSide_63 rfl rfl (Nat.le_of_ble_eq_true rfl) (Nat.le_of_ble_eq_true rfl) (Nat.le_of_ble_eq_true rfl) (Nat.le_of_ble_eq_true rfl) (fun v H24 hq hz => ?_) (fun _ _ _ h9 _ _ => h9.elim)
              obtain ⟨rfl, hq⟩ := hq
              rw [hq]
              change Go E Z 5 H2 (0) (0) 66 [(2, .int (x_a + (bI True))), (4, .int x_s), (3, .int ((f0 1) + (sp_step 1))), (0, .ref m), (1, .int x)] [.int (sp_step 1), .int x_s]
              refine f_iadd K dX9_unclearedOnSide_66 ?_
              refine f_istore (lv' := [(4, .int (x_s + (sp_step 1))), (2, .int (x_a + (bI True))), (3, .int ((f0 1) + (sp_step 1))), (0, .ref m), (1, .int x)]) K dX9_unclearedOnSide_67 (by decide) rfl ?_
              refine f_goto (tgt := 34) K dX9_unclearedOnSide_69 (by decide) ?_
              refine Go.subQ (lv' := [(4, .int (x_s + (sp_step 1))), (3, .int ((f0 1) + (sp_step 1))), (2, .int (x_a + (bI True))), (0, .ref m), (1, .int x)]) (List.forall_mem_cons.mpr ⟨rfl, (List.forall_mem_cons.mpr ⟨rfl, (List.forall_mem_cons.mpr ⟨rfl, (List.forall_mem_cons.mpr ⟨rfl, (List.forall_mem_cons.mpr ⟨rfl, (fun _ h9 => absurd h9 List.not_mem_nil)⟩)⟩)⟩)⟩)⟩) ?_
              exact ih (k - 1) _ _ (sb_m h_k (by omega)) (by omega) (by omega) (hu.trans (sp_unw_f c_47))
      exact loop (n - t) (n - 1) _ 0 rfl (by omega) (by omega) rfl
  · refine f_iconst (v := 0) K dX9_unclearedOnSide_11 rfl ?_
    exact f_retI K X (Or.inl rfl) dX9_unclearedOnSide_12 (Nat.le_of_ble_eq_true rfl) (Nat.le_of_ble_eq_true rfl) (⟨rI (if_neg c_8).symm, ht, hk⟩)
/-- meanDepth()D -/
theorem tm_meanDepth {E : fE} {H : Heap} {m : Nat} {ad : Nat → Nat} {sc f0 f1 f2 f3 f4 fb ft fo : Row} (ht : twAt E H m ad sc f0 f1 f2 f3 f4 fb ft fo)  {n : Nat} (hn : f0 0 = nI n) (h2 : n ≤ 20) (hnan : vf_n64 (FP.ddiv (FP.i2d (sp_sum f0 n)) (FP.i2d (f0 0)))) : fM E yX9_meanDepth prog_17_method_128_code 1 (some .double) 3 0 0 [.ref m] H (fun r_ H' => r_ = some (.double (FP.ddiv (FP.i2d (sp_sum f0 n)) (FP.i2d (f0 0)))) ∧ twAt E H' m ad (upd sc 6 0) f0 f1 f2 f3 f4 fb ft fo ∧ twK m ad H H') noX := by
  refine f_start (own := "SnowPassModel") (nm := "meanDepth") (lv := [(0, .ref m)]) pn_X9 rfl rfl (Nat.le_of_ble_eq_true rfl) rfl (fun Z K X => ?_)
  have hk := twK.rf (m := m) (ad := ad) (H := H)
  refine f_aload_n K dX9_meanDepth_0 rfl ?_
  refine f_iconst (v := 0) K dX9_meanDepth_1 rfl ?_
  refine f_put K fp_X9_55_X9 dX9_meanDepth_2 (tw_o ht) (tw_lo ht) (Nat.le_of_ble_eq_true rfl) rfl rfl (fun H1 hU ho => ?_)
  have ht := tw_put (sc' := (upd sc 6 0)) ht hU ho rfl
  have hk := hk.put hU
  refine f_aload_n K dX9_meanDepth_5 rfl ?_
  refine f_invV (As := []) (rest := []) K (tm_depths (E := E)  ht hn (by omega)) cs_X9_266 dX9_meanDepth_6 (tw_o ht) rfl rfl rfl (Nat.le_of_ble_eq_true rfl) (Nat.le_of_ble_eq_true rfl) (Nat.le_of_ble_eq_true rfl) (Nat.le_of_ble_eq_true rfl) (fun v H2 hq hz => ?_) (fun _ _ _ h9 _ _ => h9.elim)
  obtain ⟨rfl, hq⟩ := hq
  rw [hq]
  change Go E Z 1 H1 (0) (0) 9 [(0, .ref m)] [.int (sp_sum f0 n)]
  refine f_i2d K dX9_meanDepth_9 ?_
  refine f_aload_n K dX9_meanDepth_10 rfl ?_
  refine f_get (v := .ref (ad 0)) K fl_X9_7_X9 dX9_meanDepth_11 (tw_o ht) rfl ?_
  refine f_iconst (v := 0) K dX9_meanDepth_14 rfl ?_
  refine f_iald (j := 0) K dX9_meanDepth_15 (tw_a0 ht) nl_0 (by decide) (by decide) ?_
  refine f_i2d K dX9_meanDepth_16 ?_
  refine f_ddiv K dX9_meanDepth_17 hnan ?_
  exact f_retD K X dX9_meanDepth_18 (Nat.le_of_ble_eq_true rfl) (Nat.le_of_ble_eq_true rfl) (⟨rfl, ht, hk⟩)
/-- clearShare()F -/
theorem tm_clearShare {E : fE} {H : Heap} {m : Nat} {ad : Nat → Nat} {sc f0 f1 f2 f3 f4 fb ft fo : Row} (ht : twAt E H m ad sc f0 f1 f2 f3 f4 fb ft fo)  {n : Nat} (hn : f0 0 = nI n) (h2 : n ≤ 20) (hnan : vf_n32 (FP.fdiv (FP.i2f (sp_clears f0 n)) (FP.i2f (f0 0)))) : fM E yX9_clearShare prog_17_method_129_code 1 (some .float) 4 0 0 [.ref m] H (fun r_ H' => r_ = some (.float (FP.fdiv (FP.i2f (sp_clears f0 n)) (FP.i2f (f0 0)))) ∧ twAt E H' m ad (upd sc 6 0) f0 f1 f2 f3 f4 fb ft fo ∧ twK m ad H H') noX := by
  refine f_start (own := "SnowPassModel") (nm := "clearShare") (lv := [(0, .ref m)]) pn_X9 rfl rfl (Nat.le_of_ble_eq_true rfl) rfl (fun Z K X => ?_)
  have hk := twK.rf (m := m) (ad := ad) (H := H)
  refine f_aload_n K dX9_clearShare_0 rfl ?_
  refine f_iconst (v := 0) K dX9_clearShare_1 rfl ?_
  refine f_put K fp_X9_55_X9 dX9_clearShare_2 (tw_o ht) (tw_lo ht) (Nat.le_of_ble_eq_true rfl) rfl rfl (fun H1 hU ho => ?_)
  have ht := tw_put (sc' := (upd sc 6 0)) ht hU ho rfl
  have hk := hk.put hU
  refine f_aload_n K dX9_clearShare_5 rfl ?_
  refine f_invV (As := []) (rest := []) K (tm_clears (E := E)  ht hn (by omega)) cs_X9_339 dX9_clearShare_6 (tw_o ht) rfl rfl rfl (Nat.le_of_ble_eq_true rfl) (Nat.le_of_ble_eq_true rfl) (Nat.le_of_ble_eq_true rfl) (Nat.le_of_ble_eq_true rfl) (fun v H2 hq hz => ?_) (fun _ _ _ h9 _ _ => h9.elim)
  obtain ⟨rfl, hq⟩ := hq
  rw [hq]
  change Go E Z 1 H1 (0) (0) 9 [(0, .ref m)] [.int (sp_clears f0 n)]
  refine f_i2f K dX9_clearShare_9 ?_
  refine f_aload_n K dX9_clearShare_10 rfl ?_
  refine f_get (v := .ref (ad 0)) K fl_X9_7_X9 dX9_clearShare_11 (tw_o ht) rfl ?_
  refine f_iconst (v := 0) K dX9_clearShare_14 rfl ?_
  refine f_iald (j := 0) K dX9_clearShare_15 (tw_a0 ht) nl_0 (by decide) (by decide) ?_
  refine f_i2f K dX9_clearShare_16 ?_
  refine f_fdiv K dX9_clearShare_17 hnan ?_
  exact f_retF K X dX9_clearShare_18 (Nat.le_of_ble_eq_true rfl) (Nat.le_of_ble_eq_true rfl) (⟨rfl, ht, hk⟩)
