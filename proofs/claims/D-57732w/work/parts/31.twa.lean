/-! TWIN 2: contracts, an hour -/
set_option maxRecDepth 100000
set_option maxHeartbeats 400000
theorem nl_0 : (0 : Int32) = nI 0 := rfl
theorem nl_1 : (1 : Int32) = nI 1 := rfl
theorem nl_2 : (2 : Int32) = nI 2 := rfl
theorem nl_3 : (3 : Int32) = nI 3 := rfl
theorem nl_4 : (4 : Int32) = nI 4 := rfl
theorem nl_5 : (5 : Int32) = nI 5 := rfl
theorem nl_6 : (6 : Int32) = nI 6 := rfl
theorem nl_7 : (7 : Int32) = nI 7 := rfl
theorem nl_9 : (9 : Int32) = nI 9 := rfl
theorem nl_10 : (10 : Int32) = nI 10 := rfl
theorem nl_11 : (11 : Int32) = nI 11 := rfl
theorem nl_12 : (12 : Int32) = nI 12 := rfl
theorem nl_15 : (15 : Int32) = nI 15 := rfl
theorem nl_17 : (17 : Int32) = nI 17 := rfl
theorem nl_18 : (18 : Int32) = nI 18 := rfl
theorem nl_20 : (20 : Int32) = nI 20 := rfl
theorem nl_24 : (24 : Int32) = nI 24 := rfl
theorem nl_25 : (25 : Int32) = nI 25 := rfl
theorem nl_85 : (85 : Int32) = nI 85 := rfl
theorem nl_123 : (123 : Int32) = nI 123 := rfl
theorem nl_125 : (125 : Int32) = nI 125 := rfl
theorem nl_127 : (127 : Int32) = nI 127 := rfl
theorem nl_999 : (999 : Int32) = nI 999 := rfl
theorem fp_X9_55_X9 {nm : String} : FLp "SnowPassModel" 55 8 6 .int nm := ⟨RX9, TX9, 22, "SnowPassModel", tyX9, rfl, in_X9, by decide, Or.inl rfl, tyX9_ok, nmX9, by decide +kernel, Or.inl ⟨q3411, Or.inl rfl⟩⟩
theorem fl_X9_55_X9 : FL "SnowPassModel" 55 8 6 := ⟨RX9, TX9, 22, "SnowPassModel", rfl, in_X9, by decide, Or.inl rfl, Or.inl q3411⟩
theorem fl_X9_7_X9 : FL "SnowPassModel" 7 8 0 := ⟨RX9, TX9, 22, "SnowPassModel", rfl, in_X9, by decide, Or.inl rfl, Or.inl q3405⟩
theorem cs_X9_62 : CSS "SnowPassModel" 62 yX9_in prog_17_method_3_code 6 (some .boolean) 3 := ⟨⟨by decide +kernel, by decide +kernel, by decide +kernel⟩, q3323, q3324, q161, q3325, by decide⟩
theorem cs_X9_66 : CSV "SnowPassModel" 66 yX9_of prog_17_method_10_code 3 (some .int) 2 := ⟨⟨by decide +kernel, by decide +kernel, by decide +kernel⟩, q3401, q3403, qs70, q161, q3404, by decide⟩
theorem cs_X9_70 : CSV "SnowPassModel" 70 yX9_ofPlough prog_17_method_12_code 3 (some .int) 2 := ⟨⟨by decide +kernel, by decide +kernel, by decide +kernel⟩, q3569, q3571, qs87, q161, q3572, by decide⟩
theorem cs_X9_73 : CSV "SnowPassModel" 73 yX9_deepest prog_17_method_20_code 3 (some .int) 0 := ⟨⟨by decide +kernel, by decide +kernel, by decide +kernel⟩, q3577, q3579, qs89, q161, q3580, by decide⟩
theorem cs_X9_76 : CSV "SnowPassModel" 76 yX9_valleyOf prog_17_method_24_code 2 (some .int) 1 := ⟨⟨by decide +kernel, by decide +kernel, by decide +kernel⟩, q3350, q3352, qs58, q161, q3353, by decide⟩
theorem cs_X9_87 : CSV "SnowPassModel" 87 yX9_putsPlough prog_17_method_13_code 4 none 3 := ⟨⟨by decide +kernel, by decide +kernel, by decide +kernel⟩, q3354, q3356, qs59, q161, q3357, by decide⟩
theorem cs_X9_80 : CSV "SnowPassModel" 80 yX9_isClearNow prog_17_method_17_code 2 (some .boolean) 1 := ⟨⟨by decide +kernel, by decide +kernel, by decide +kernel⟩, q3593, q3595, qs93, q161, q3596, by decide⟩
theorem cs_X9_84 : CSS "SnowPassModel" 84 yX9_stepOf prog_17_method_23_code 1 (some .int) 1 := ⟨⟨by decide +kernel, by decide +kernel, by decide +kernel⟩, q3597, q3598, q161, q3599, by decide⟩
theorem cs_X9_91 : CSV "SnowPassModel" 91 yX9_enters prog_17_method_25_code 3 none 1 := ⟨⟨by decide +kernel, by decide +kernel, by decide +kernel⟩, q3585, q3587, qs91, q161, q3588, by decide⟩
theorem cs_X9_95 : CSV "SnowPassModel" 95 yX9_isOpenNow prog_17_method_19_code 1 (some .boolean) 0 := ⟨⟨by decide +kernel, by decide +kernel, by decide +kernel⟩, q3565, q3567, qs86, q161, q3568, by decide⟩
theorem cs_X9_107 : CSV "SnowPassModel" 107 yX9_signs prog_17_method_27_code 2 none 1 := ⟨⟨by decide +kernel, by decide +kernel, by decide +kernel⟩, q3604, q3606, qs95, q161, q3607, by decide⟩
theorem cs_X9_104 : CSV "SnowPassModel" 104 yX9_puts prog_17_method_11_code 4 none 3 := ⟨⟨by decide +kernel, by decide +kernel, by decide +kernel⟩, q3367, q3369, qs62, q161, q3370, by decide⟩
theorem cs_X9_110 : CSV "SnowPassModel" 110 yX9_isNightNow prog_17_method_18_code 2 (some .boolean) 0 := ⟨⟨by decide +kernel, by decide +kernel, by decide +kernel⟩, q3561, q3563, qs85, q161, q3564, by decide⟩
theorem cs_X9_113 : CSV "SnowPassModel" 113 yX9_sendsBack prog_17_method_26_code 3 none 1 := ⟨⟨by decide +kernel, by decide +kernel, by decide +kernel⟩, q3589, q3591, qs92, q161, q3592, by decide⟩
theorem cs_X9_116 : CSV "SnowPassModel" 116 yX9_cartAt prog_17_method_14_code 4 (some .int) 3 := ⟨⟨by decide +kernel, by decide +kernel, by decide +kernel⟩, q3616, q3618, qs98, q161, q3619, by decide⟩
theorem cs_X9_120 : CSV "SnowPassModel" 120 yX9_depthNow prog_17_method_21_code 1 (some .int) 0 := ⟨⟨by decide +kernel, by decide +kernel, by decide +kernel⟩, q3573, q3575, qs88, q161, q3576, by decide⟩
theorem cs_X9_123 : CSV "SnowPassModel" 123 yX9_mayCross prog_17_method_32_code 3 (some .boolean) 2 := ⟨⟨by decide +kernel, by decide +kernel, by decide +kernel⟩, q3612, q3614, qs97, q161, q3615, by decide⟩
theorem cs_X9_127 : CSV "SnowPassModel" 127 yX9_cartGoes prog_17_method_33_code 5 none 2 := ⟨⟨by decide +kernel, by decide +kernel, by decide +kernel⟩, q3620, q3622, qs99, q161, q3623, by decide⟩
theorem cs_X9_140 : CSV "SnowPassModel" 140 yX9_works prog_17_method_28_code 4 none 1 := ⟨⟨by decide +kernel, by decide +kernel, by decide +kernel⟩, q3600, q3602, qs94, q161, q3603, by decide⟩
theorem cs_X9_143 : CSV "SnowPassModel" 143 yX9_crosses prog_17_method_34_code 2 none 1 := ⟨⟨by decide +kernel, by decide +kernel, by decide +kernel⟩, q3608, q3610, qs96, q161, q3611, by decide⟩
theorem cs_X9_137 : CSV "SnowPassModel" 137 yX9_closes prog_17_method_31_code 1 none 0 := ⟨⟨by decide +kernel, by decide +kernel, by decide +kernel⟩, q3581, q3583, qs90, q161, q3584, by decide⟩
theorem cs_X9_134 : CSV "SnowPassModel" 134 yX9_snows prog_17_method_29_code 3 none 1 := ⟨⟨by decide +kernel, by decide +kernel, by decide +kernel⟩, q3557, q3559, qs84, q161, q3560, by decide⟩
theorem cs_X9_131 : CSV "SnowPassModel" 131 yX9_melts prog_17_method_30_code 3 none 1 := ⟨⟨by decide +kernel, by decide +kernel, by decide +kernel⟩, q3552, q3554, qs83, q161, q3555, by decide⟩
theorem cs_X9_146 : CSV "SnowPassModel" 146 yX9_hourOnce prog_17_method_35_code 2 none 0 := ⟨⟨by decide +kernel, by decide +kernel, by decide +kernel⟩, q3548, q3550, qs82, q161, q3551, by decide⟩
theorem pn_X9 : plainName RX9 = true := by decide +kernel
theorem i64_le {a b : Int32} : a.toInt64 ≤ b.toInt64 ↔ a ≤ b := by rw [Int64.le_iff_toInt_le, Int32.le_iff_toInt_le, Int32.toInt_toInt64, Int32.toInt_toInt64]
theorem i64_nlt {a b : Int32} : ¬ lg_cmp a.toInt64 b.toInt64 < 0 ↔ b ≤ a := by rw [lg_cmp_lt, Int64.not_lt, i64_le]
theorem i64_ngt {a b : Int32} : ¬ 0 < lg_cmp a.toInt64 b.toInt64 ↔ a ≤ b := by rw [lg_cmp_gt, Int64.not_lt, i64_le]
theorem rI1 {P : Prop} [Decidable P] (h : P) : some (Value.int 1) = some (Value.int (bI P)) := by rw [bI_t h]
theorem rI0 {P : Prop} [Decidable P] (h : ¬ P) : some (Value.int 0) = some (Value.int (bI P)) := by rw [bI_f h]
theorem rI {x y : Int32} (h : x = y) : some (Value.int x) = some (Value.int y) := by rw [h]
theorem nz {x : Int32} {p : Nat} (h : x = nI p) (hp : p < 2147483648) : x = 0 ↔ p = 0 := by
  rw [h]
  exact nI_eq (b := 0) hp (by decide)
/-- a place from 0 to n - 1 -/
theorem seg_in {x y : Int32} {n : Nat} (hy : y = nI n) (hn : n ≤ 1000) (h : 0 ≤ x ∧ x ≤ y - 1) : x = nI x.toNatClampNeg ∧ x.toNatClampNeg < n := by
  have h0 : ¬ x < 0 := Int32.not_lt.mpr h.1
  obtain ⟨j, hj, rfl⟩ := nI_of h0
  rw [nI_clamp hj]
  refine ⟨rfl, ?_⟩
  cases n with
  | zero =>
    have h2 := h.2
    rw [hy] at h2
    have h3 : nI j ≤ -1 := h2
    exact absurd (Int32.le_trans h.1 h3) (by decide)
  | succ n =>
    have h2 := h.2
    rw [hy, nI_pred] at h2
    have := (nI_leI hj (by omega)).mp h2
    omega
theorem seg_in2 {x z : Int32} {n : Nat} (hz : z = nI n) (hn : n ≤ 2000) (h : 0 ≤ x ∧ x ≤ z) : x = nI x.toNatClampNeg ∧ x.toNatClampNeg ≤ n := by
  have h0 : ¬ x < 0 := Int32.not_lt.mpr h.1
  obtain ⟨j, hj, rfl⟩ := nI_of h0
  rw [nI_clamp hj]
  refine ⟨rfl, ?_⟩
  have h2 := h.2
  rw [hz] at h2
  exact (nI_leI hj (by omega)).mp h2
/-- in(JJJ)Z -/
theorem tm_in {E : fE} {H : Heap} (a : Int32) (l_a : Int64) (h_a : l_a = a.toInt64) (b : Int32) (l_b : Int64) (h_b : l_b = b.toInt64) (c : Int32) (l_c : Int64) (h_c : l_c = c.toInt64)  : fM E yX9_in prog_17_method_3_code 6 (some .boolean) 1 0 0 [.long l_a, .long l_b, .long l_c] H (fun r_ H' => r_ = some (.int (bI (b ≤ a ∧ a ≤ c))) ∧ H' = H) noX := by
  refine f_start (own := "SnowPassModel") (nm := "in") (lv := [(0, .long l_a), (2, .long l_b), (4, .long l_c)]) pn_X9 rfl rfl (Nat.le_of_ble_eq_true rfl) rfl (fun Z K X => ?_)
  subst h_a; subst h_b; subst h_c
  refine f_lload_n K dX9_in_0 rfl ?_
  refine f_lload_n K dX9_in_1 rfl ?_
  refine f_lcmp K dX9_in_2 ?_
  refine f_if_lt (tgt := 17) K dX9_in_3 (by decide) (fun c_3 => ?_) (fun c_3 => ?_)
  · refine f_iconst (v := 0) K dX9_in_17 rfl ?_
    exact f_retI K X (Or.inr ⟨rfl, Or.inl rfl⟩) dX9_in_18 (Nat.le_of_ble_eq_true rfl) (Nat.le_of_ble_eq_true rfl) (⟨rI0 (fun h => i64_nlt.mpr h.1 c_3), rfl⟩)
  · refine f_lload_n K dX9_in_6 rfl ?_
    refine f_lload K dX9_in_7 rfl ?_
    refine f_lcmp K dX9_in_9 ?_
    refine f_if_gt (tgt := 17) K dX9_in_10 (by decide) (fun c_10 => ?_) (fun c_10 => ?_)
    · refine f_iconst (v := 0) K dX9_in_17 rfl ?_
      exact f_retI K X (Or.inr ⟨rfl, Or.inl rfl⟩) dX9_in_18 (Nat.le_of_ble_eq_true rfl) (Nat.le_of_ble_eq_true rfl) (⟨rI0 (fun h => i64_ngt.mpr h.2 c_10), rfl⟩)
    · refine f_iconst (v := 1) K dX9_in_13 rfl ?_
      refine f_goto (tgt := 18) K dX9_in_14 (by decide) ?_
      exact f_retI K X (Or.inr ⟨rfl, Or.inr rfl⟩) dX9_in_18 (Nat.le_of_ble_eq_true rfl) (Nat.le_of_ble_eq_true rfl) (⟨rI1 ⟨i64_nlt.mp c_3, i64_ngt.mp c_10⟩, rfl⟩)
/-- truth(Z)I -/
theorem tm_truth {E : fE} {H : Heap} (P : Prop) [Decidable P]  : fM E yX9_truth prog_17_method_4_code 1 (some .int) 1 0 0 [.int (bI P)] H (fun r_ H' => r_ = some (.int (bI P)) ∧ H' = H) noX := by
  refine f_start (own := "SnowPassModel") (nm := "truth") (lv := [(0, .int (bI P))]) pn_X9 rfl rfl (Nat.le_of_ble_eq_true rfl) rfl (fun Z K X => ?_)
  refine f_iload_n K dX9_truth_0 rfl ?_
  refine f_if_eqB (tgt := 8) K dX9_truth_1 (by decide) (fun c_1 => ?_) (fun c_1 => ?_)
  · refine f_iconst (v := 0) K dX9_truth_8 rfl ?_
    exact f_retI K X (Or.inl rfl) dX9_truth_9 (Nat.le_of_ble_eq_true rfl) (Nat.le_of_ble_eq_true rfl) (⟨rI (bI_f c_1).symm, rfl⟩)
  · refine f_iconst (v := 1) K dX9_truth_4 rfl ?_
    refine f_goto (tgt := 9) K dX9_truth_5 (by decide) ?_
    exact f_retI K X (Or.inl rfl) dX9_truth_9 (Nat.le_of_ble_eq_true rfl) (Nat.le_of_ble_eq_true rfl) (⟨rI (bI_t c_1).symm, rfl⟩)
/-- passes(Z)Z -/
theorem tm_passes {E : fE} {H : Heap} {m : Nat} {ad : Nat → Nat} {sc f0 f1 f2 f3 f4 fb ft fo : Row} (ht : twAt E H m ad sc f0 f1 f2 f3 f4 fb ft fo) (P : Prop) [Decidable P]  : fM E yX9_passes prog_17_method_5_code 2 (some .boolean) 1 0 0 [.ref m, .int (bI P)] H (fun r_ H' => r_ = some (.int (bI P)) ∧ twAt E H' m ad (upd sc 6 (if P then 0 else 1)) f0 f1 f2 f3 f4 fb ft fo ∧ twK m ad H H') noX := by
  refine f_start (own := "SnowPassModel") (nm := "passes") (lv := [(0, .ref m), (1, .int (bI P))]) pn_X9 rfl rfl (Nat.le_of_ble_eq_true rfl) rfl (fun Z K X => ?_)
  have hk := twK.rf (m := m) (ad := ad) (H := H)
  refine f_aload_n K dX9_passes_0 rfl ?_
  refine f_iload_n K dX9_passes_1 rfl ?_
  refine f_if_eqB (tgt := 9) K dX9_passes_2 (by decide) (fun c_2 => ?_) (fun c_2 => ?_)
  · refine f_iconst (v := 1) K dX9_passes_9 rfl ?_
    refine f_put K fp_X9_55_X9 dX9_passes_10 (tw_o ht) (tw_lo ht) (Nat.le_of_ble_eq_true rfl) rfl rfl (fun H2 hU ho => ?_)
    have ht := tw_put (sc' := (upd sc 6 1)) ht hU ho rfl
    have hk := hk.put hU
    refine f_iload_n K dX9_passes_13 rfl ?_
    exact f_retI K X (Or.inr ⟨rfl, bI_01⟩) dX9_passes_14 (Nat.le_of_ble_eq_true rfl) (Nat.le_of_ble_eq_true rfl) (⟨rfl, by first | exact ht | (simp only [c_2, not_true_eq_false, not_false_eq_true, if_true, if_false, true_and, and_true, false_and, and_false]; exact ht), hk⟩)
  · refine f_iconst (v := 0) K dX9_passes_5 rfl ?_
    refine f_goto (tgt := 10) K dX9_passes_6 (by decide) ?_
    refine f_put K fp_X9_55_X9 dX9_passes_10 (tw_o ht) (tw_lo ht) (Nat.le_of_ble_eq_true rfl) rfl rfl (fun H3 hU ho => ?_)
    have ht := tw_put (sc' := (upd sc 6 0)) ht hU ho rfl
    have hk := hk.put hU
    refine f_iload_n K dX9_passes_13 rfl ?_
    exact f_retI K X (Or.inr ⟨rfl, bI_01⟩) dX9_passes_14 (Nat.le_of_ble_eq_true rfl) (Nat.le_of_ble_eq_true rfl) (⟨rfl, by first | exact ht | (simp only [c_2, not_true_eq_false, not_false_eq_true, if_true, if_false, true_and, and_true, false_and, and_false]; exact ht), hk⟩)
/-- passesBoth(ZZ)Z -/
theorem tm_passesBoth {E : fE} {H : Heap} {m : Nat} {ad : Nat → Nat} {sc f0 f1 f2 f3 f4 fb ft fo : Row} (ht : twAt E H m ad sc f0 f1 f2 f3 f4 fb ft fo) (P : Prop) [Decidable P] (Q : Prop) [Decidable Q]  : fM E yX9_passesBoth prog_17_method_6_code 3 (some .boolean) 1 0 0 [.ref m, .int (bI P), .int (bI Q)] H (fun r_ H' => r_ = some (.int (bI (P ∧ Q))) ∧ twAt E H' m ad (upd sc 6 (if P then (if Q then 0 else 2) else 1)) f0 f1 f2 f3 f4 fb ft fo ∧ twK m ad H H') noX := by
  refine f_start (own := "SnowPassModel") (nm := "passesBoth") (lv := [(0, .ref m), (1, .int (bI P)), (2, .int (bI Q))]) pn_X9 rfl rfl (Nat.le_of_ble_eq_true rfl) rfl (fun Z K X => ?_)
  have hk := twK.rf (m := m) (ad := ad) (H := H)
  refine f_aload_n K dX9_passesBoth_0 rfl ?_
  refine f_iload_n K dX9_passesBoth_1 rfl ?_
  refine f_if_neB (tgt := 9) K dX9_passesBoth_2 (by decide) (fun c_2 => ?_) (fun c_2 => ?_)
  · refine f_iload_n K dX9_passesBoth_9 rfl ?_
    refine f_if_neB (tgt := 17) K dX9_passesBoth_10 (by decide) (fun c_10 => ?_) (fun c_10 => ?_)
    · refine f_iconst (v := 0) K dX9_passesBoth_17 rfl ?_
      refine f_put K fp_X9_55_X9 dX9_passesBoth_18 (tw_o ht) (tw_lo ht) (Nat.le_of_ble_eq_true rfl) rfl rfl (fun H3 hU ho => ?_)
      have ht := tw_put (sc' := (upd sc 6 0)) ht hU ho rfl
      have hk := hk.put hU
      refine f_aload_n K dX9_passesBoth_21 rfl ?_
      refine f_get (v := .int 0) K fl_X9_55_X9 dX9_passesBoth_22 (tw_o ht) rfl ?_
      refine f_if_ne (tgt := 32) K dX9_passesBoth_25 (by decide) (fun c_25 => ?_) (fun c_25 => ?_)
      · exact absurd c_25 (by decide)
      · refine f_iconst (v := 1) K dX9_passesBoth_28 rfl ?_
        refine f_goto (tgt := 33) K dX9_passesBoth_29 (by decide) ?_
        exact f_retI K X (Or.inr ⟨rfl, Or.inr rfl⟩) dX9_passesBoth_33 (Nat.le_of_ble_eq_true rfl) (Nat.le_of_ble_eq_true rfl) (⟨rI1 ⟨Classical.not_not.mp (fun n => by simp_all), by simp_all⟩, by first | exact ht | (simp only [c_2, c_10, c_25, not_true_eq_false, not_false_eq_true, if_true, if_false, true_and, and_true, false_and, and_false]; exact ht), hk⟩)
    · refine f_iconst (v := 2) K dX9_passesBoth_13 rfl ?_
      refine f_goto (tgt := 18) K dX9_passesBoth_14 (by decide) ?_
      refine f_put K fp_X9_55_X9 dX9_passesBoth_18 (tw_o ht) (tw_lo ht) (Nat.le_of_ble_eq_true rfl) rfl rfl (fun H5 hU ho => ?_)
      have ht := tw_put (sc' := (upd sc 6 2)) ht hU ho rfl
      have hk := hk.put hU
      refine f_aload_n K dX9_passesBoth_21 rfl ?_
      refine f_get (v := .int 2) K fl_X9_55_X9 dX9_passesBoth_22 (tw_o ht) rfl ?_
      refine f_if_ne (tgt := 32) K dX9_passesBoth_25 (by decide) (fun c_25 => ?_) (fun c_25 => ?_)
      · refine f_iconst (v := 0) K dX9_passesBoth_32 rfl ?_
        exact f_retI K X (Or.inr ⟨rfl, Or.inl rfl⟩) dX9_passesBoth_33 (Nat.le_of_ble_eq_true rfl) (Nat.le_of_ble_eq_true rfl) (⟨rI0 (by simp_all), by first | exact ht | (simp only [c_2, c_10, c_25, not_true_eq_false, not_false_eq_true, if_true, if_false, true_and, and_true, false_and, and_false]; exact ht), hk⟩)
      · exact absurd c_25 (by decide)
  · refine f_iconst (v := 1) K dX9_passesBoth_5 rfl ?_
    refine f_goto (tgt := 18) K dX9_passesBoth_6 (by decide) ?_
    refine f_put K fp_X9_55_X9 dX9_passesBoth_18 (tw_o ht) (tw_lo ht) (Nat.le_of_ble_eq_true rfl) rfl rfl (fun H7 hU ho => ?_)
    have ht := tw_put (sc' := (upd sc 6 1)) ht hU ho rfl
    have hk := hk.put hU
    refine f_aload_n K dX9_passesBoth_21 rfl ?_
    refine f_get (v := .int 1) K fl_X9_55_X9 dX9_passesBoth_22 (tw_o ht) rfl ?_
    refine f_if_ne (tgt := 32) K dX9_passesBoth_25 (by decide) (fun c_25 => ?_) (fun c_25 => ?_)
    · refine f_iconst (v := 0) K dX9_passesBoth_32 rfl ?_
      exact f_retI K X (Or.inr ⟨rfl, Or.inl rfl⟩) dX9_passesBoth_33 (Nat.le_of_ble_eq_true rfl) (Nat.le_of_ble_eq_true rfl) (⟨rI0 (by simp_all), by first | exact ht | (simp only [c_2, c_25, not_true_eq_false, not_false_eq_true, if_true, if_false, true_and, and_true, false_and, and_false]; exact ht), hk⟩)
    · exact absurd c_25 (by decide)
/-- of(II)I -/
theorem tm_of {E : fE} {H : Heap} {m : Nat} {ad : Nat → Nat} {sc f0 f1 f2 f3 f4 fb ft fo : Row} (ht : twAt E H m ad sc f0 f1 f2 f3 f4 fb ft fo) (x_k : Int32) {k : Nat} (h_k : x_k = nI k) (x_w : Int32) {w : Nat} (h_w : x_w = nI w)  (h : 25 + 3 * k + w < 167) : fM E yX9_of prog_17_method_10_code 3 (some .int) 1 0 0 [.ref m, .int x_k, .int x_w] H (fun r_ H' => r_ = some (.int (f0 (25 + 3 * k + w))) ∧ H' = H) noX := by
  refine f_start (own := "SnowPassModel") (nm := "of") (lv := [(0, .ref m), (1, .int x_k), (2, .int x_w)]) pn_X9 rfl rfl (Nat.le_of_ble_eq_true rfl) rfl (fun Z K X => ?_)
  refine f_aload_n K dX9_of_0 rfl ?_
  refine f_get (v := .ref (ad 0)) K fl_X9_7_X9 dX9_of_1 (tw_o ht) rfl ?_
  refine f_bipush (v := 25) K dX9_of_4 rfl ?_
  refine f_iconst (v := 3) K dX9_of_6 rfl ?_
  refine f_iload_n K dX9_of_7 rfl ?_
  refine f_imul K dX9_of_8 ?_
  refine f_iadd K dX9_of_9 ?_
  refine f_iload_n K dX9_of_10 rfl ?_
  refine f_iadd K dX9_of_11 ?_
  refine f_iald (j := ((25 + (3 * k)) + w)) K dX9_of_12 (tw_a0 ht) (nia (nia nl_25 (nim nl_3 h_k)) h_w) (by omega) (by decide) ?_
  exact f_retI K X (Or.inl rfl) dX9_of_13 (Nat.le_of_ble_eq_true rfl) (Nat.le_of_ble_eq_true rfl) (⟨rfl, rfl⟩)
/-- puts(III)V -/
theorem tm_puts {E : fE} {H : Heap} {m : Nat} {ad : Nat → Nat} {sc f0 f1 f2 f3 f4 fb ft fo : Row} (ht : twAt E H m ad sc f0 f1 f2 f3 f4 fb ft fo) (x_k : Int32) {k : Nat} (h_k : x_k = nI k) (x_w : Int32) {w : Nat} (h_w : x_w = nI w) (v : Int32)  (h : 25 + 3 * k + w < 167) : fM E yX9_puts prog_17_method_11_code 4 none 1 0 0 [.ref m, .int x_k, .int x_w, .int v] H (fun r_ H' => r_ = none ∧ twAt E H' m ad sc (upd f0 (25 + 3 * k + w) v) f1 f2 f3 f4 fb ft fo ∧ twK m ad H H') noX := by
  refine f_start (own := "SnowPassModel") (nm := "puts") (lv := [(0, .ref m), (1, .int x_k), (2, .int x_w), (3, .int v)]) pn_X9 rfl rfl (Nat.le_of_ble_eq_true rfl) rfl (fun Z K X => ?_)
  have hk := twK.rf (m := m) (ad := ad) (H := H)
  refine f_aload_n K dX9_puts_0 rfl ?_
  refine f_get (v := .ref (ad 0)) K fl_X9_7_X9 dX9_puts_1 (tw_o ht) rfl ?_
  refine f_bipush (v := 25) K dX9_puts_4 rfl ?_
  refine f_iconst (v := 3) K dX9_puts_6 rfl ?_
  refine f_iload_n K dX9_puts_7 rfl ?_
  refine f_imul K dX9_puts_8 ?_
  refine f_iadd K dX9_puts_9 ?_
  refine f_iload_n K dX9_puts_10 rfl ?_
  refine f_iadd K dX9_puts_11 ?_
  refine f_iload_n K dX9_puts_12 rfl ?_
  refine f_iast (j := ((25 + (3 * k)) + w)) K dX9_puts_13 (tw_a0 ht) (nia (nia nl_25 (nim nl_3 h_k)) h_w) (by omega) (by decide) (tw_lo0 ht) (fun H1 hU ho => ?_)
  have hk := hk.st (j := 0) (by decide) hU
  have ht := tw_st0 ht hU ho
  exact f_retV K X rfl dX9_puts_14 (Nat.le_of_ble_eq_true rfl) (Nat.le_of_ble_eq_true rfl) (⟨rfl, ht, hk⟩)
/-- ofPlough(II)I -/
theorem tm_ofPlough {E : fE} {H : Heap} {m : Nat} {ad : Nat → Nat} {sc f0 f1 f2 f3 f4 fb ft fo : Row} (ht : twAt E H m ad sc f0 f1 f2 f3 f4 fb ft fo) (x_p : Int32) {p : Nat} (h_p : x_p = nI p) (x_w : Int32) {w : Nat} (h_w : x_w = nI w)  (h : 17 + 4 * p + w < 167) : fM E yX9_ofPlough prog_17_method_12_code 3 (some .int) 1 0 0 [.ref m, .int x_p, .int x_w] H (fun r_ H' => r_ = some (.int (f0 (17 + 4 * p + w))) ∧ H' = H) noX := by
  refine f_start (own := "SnowPassModel") (nm := "ofPlough") (lv := [(0, .ref m), (1, .int x_p), (2, .int x_w)]) pn_X9 rfl rfl (Nat.le_of_ble_eq_true rfl) rfl (fun Z K X => ?_)
  refine f_aload_n K dX9_ofPlough_0 rfl ?_
  refine f_get (v := .ref (ad 0)) K fl_X9_7_X9 dX9_ofPlough_1 (tw_o ht) rfl ?_
  refine f_bipush (v := 17) K dX9_ofPlough_4 rfl ?_
  refine f_iconst (v := 4) K dX9_ofPlough_6 rfl ?_
  refine f_iload_n K dX9_ofPlough_7 rfl ?_
  refine f_imul K dX9_ofPlough_8 ?_
  refine f_iadd K dX9_ofPlough_9 ?_
  refine f_iload_n K dX9_ofPlough_10 rfl ?_
  refine f_iadd K dX9_ofPlough_11 ?_
  refine f_iald (j := ((17 + (4 * p)) + w)) K dX9_ofPlough_12 (tw_a0 ht) (nia (nia nl_17 (nim nl_4 h_p)) h_w) (by omega) (by decide) ?_
  exact f_retI K X (Or.inl rfl) dX9_ofPlough_13 (Nat.le_of_ble_eq_true rfl) (Nat.le_of_ble_eq_true rfl) (⟨rfl, rfl⟩)
/-- putsPlough(III)V -/
theorem tm_putsPlough {E : fE} {H : Heap} {m : Nat} {ad : Nat → Nat} {sc f0 f1 f2 f3 f4 fb ft fo : Row} (ht : twAt E H m ad sc f0 f1 f2 f3 f4 fb ft fo) (x_p : Int32) {p : Nat} (h_p : x_p = nI p) (x_w : Int32) {w : Nat} (h_w : x_w = nI w) (v : Int32)  (h : 17 + 4 * p + w < 167) : fM E yX9_putsPlough prog_17_method_13_code 4 none 1 0 0 [.ref m, .int x_p, .int x_w, .int v] H (fun r_ H' => r_ = none ∧ twAt E H' m ad sc (upd f0 (17 + 4 * p + w) v) f1 f2 f3 f4 fb ft fo ∧ twK m ad H H') noX := by
  refine f_start (own := "SnowPassModel") (nm := "putsPlough") (lv := [(0, .ref m), (1, .int x_p), (2, .int x_w), (3, .int v)]) pn_X9 rfl rfl (Nat.le_of_ble_eq_true rfl) rfl (fun Z K X => ?_)
  have hk := twK.rf (m := m) (ad := ad) (H := H)
  refine f_aload_n K dX9_putsPlough_0 rfl ?_
  refine f_get (v := .ref (ad 0)) K fl_X9_7_X9 dX9_putsPlough_1 (tw_o ht) rfl ?_
  refine f_bipush (v := 17) K dX9_putsPlough_4 rfl ?_
  refine f_iconst (v := 4) K dX9_putsPlough_6 rfl ?_
  refine f_iload_n K dX9_putsPlough_7 rfl ?_
  refine f_imul K dX9_putsPlough_8 ?_
  refine f_iadd K dX9_putsPlough_9 ?_
  refine f_iload_n K dX9_putsPlough_10 rfl ?_
  refine f_iadd K dX9_putsPlough_11 ?_
  refine f_iload_n K dX9_putsPlough_12 rfl ?_
  refine f_iast (j := ((17 + (4 * p)) + w)) K dX9_putsPlough_13 (tw_a0 ht) (nia (nia nl_17 (nim nl_4 h_p)) h_w) (by omega) (by decide) (tw_lo0 ht) (fun H1 hU ho => ?_)
  have hk := hk.st (j := 0) (by decide) hU
  have ht := tw_st0 ht hU ho
  exact f_retV K X rfl dX9_putsPlough_14 (Nat.le_of_ble_eq_true rfl) (Nat.le_of_ble_eq_true rfl) (⟨rfl, ht, hk⟩)
/-- cartAt(III)I -/
theorem tm_cartAt {E : fE} {H : Heap} {m : Nat} {ad : Nat → Nat} {sc f0 f1 f2 f3 f4 fb ft fo : Row} (ht : twAt E H m ad sc f0 f1 f2 f3 f4 fb ft fo) (x_s : Int32) {s : Nat} (h_s : x_s = nI s) (x_i : Int32) {i : Nat} (h_i : x_i = nI i) (x_w : Int32) {w : Nat} (h_w : x_w = nI w)  (h : 127 + 2 * (10 * s + i) + w < 167) : fM E yX9_cartAt prog_17_method_14_code 4 (some .int) 1 0 0 [.ref m, .int x_s, .int x_i, .int x_w] H (fun r_ H' => r_ = some (.int (f0 (127 + 2 * (10 * s + i) + w))) ∧ H' = H) noX := by
  refine f_start (own := "SnowPassModel") (nm := "cartAt") (lv := [(0, .ref m), (1, .int x_s), (2, .int x_i), (3, .int x_w)]) pn_X9 rfl rfl (Nat.le_of_ble_eq_true rfl) rfl (fun Z K X => ?_)
  refine f_aload_n K dX9_cartAt_0 rfl ?_
  refine f_get (v := .ref (ad 0)) K fl_X9_7_X9 dX9_cartAt_1 (tw_o ht) rfl ?_
  refine f_bipush (v := 127) K dX9_cartAt_4 rfl ?_
  refine f_iconst (v := 2) K dX9_cartAt_6 rfl ?_
  refine f_bipush (v := 10) K dX9_cartAt_7 rfl ?_
  refine f_iload_n K dX9_cartAt_9 rfl ?_
  refine f_imul K dX9_cartAt_10 ?_
  refine f_iload_n K dX9_cartAt_11 rfl ?_
  refine f_iadd K dX9_cartAt_12 ?_
  refine f_imul K dX9_cartAt_13 ?_
  refine f_iadd K dX9_cartAt_14 ?_
  refine f_iload_n K dX9_cartAt_15 rfl ?_
  refine f_iadd K dX9_cartAt_16 ?_
  refine f_iald (j := ((127 + (2 * ((10 * s) + i))) + w)) K dX9_cartAt_17 (tw_a0 ht) (nia (nia nl_127 (nim nl_2 (nia (nim nl_10 h_s) h_i))) h_w) (by omega) (by decide) ?_
  exact f_retI K X (Or.inl rfl) dX9_cartAt_18 (Nat.le_of_ble_eq_true rfl) (Nat.le_of_ble_eq_true rfl) (⟨rfl, rfl⟩)
/-- isSegment(I)Z -/
theorem tm_isSegment {E : fE} {H : Heap} {m : Nat} {ad : Nat → Nat} {sc f0 f1 f2 f3 f4 fb ft fo : Row} (ht : twAt E H m ad sc f0 f1 f2 f3 f4 fb ft fo) (x : Int32)  : fM E yX9_isSegment prog_17_method_15_code 2 (some .boolean) 2 0 0 [.ref m, .int x] H (fun r_ H' => r_ = some (.int (bI (0 ≤ x ∧ x ≤ f0 0 - 1))) ∧ H' = H) noX := by
  refine f_start (own := "SnowPassModel") (nm := "isSegment") (lv := [(0, .ref m), (1, .int x)]) pn_X9 rfl rfl (Nat.le_of_ble_eq_true rfl) rfl (fun Z K X => ?_)
  refine f_iload_n K dX9_isSegment_0 rfl ?_
  refine f_i2l (v := x.toInt64) K dX9_isSegment_1 rfl ?_
  refine f_lconst (v := 0) K dX9_isSegment_2 rfl ?_
  refine f_aload_n K dX9_isSegment_3 rfl ?_
  refine f_get (v := .ref (ad 0)) K fl_X9_7_X9 dX9_isSegment_4 (tw_o ht) rfl ?_
  refine f_iconst (v := 0) K dX9_isSegment_7 rfl ?_
  refine f_iald (j := 0) K dX9_isSegment_8 (tw_a0 ht) nl_0 (by decide) (by decide) ?_
  refine f_iconst (v := 1) K dX9_isSegment_9 rfl ?_
  refine f_isub K dX9_isSegment_10 ?_
  refine f_i2l (v := ((f0 0) - 1).toInt64) K dX9_isSegment_11 rfl ?_
  refine f_invS (As := [.long x.toInt64, .long 0, .long (((f0 0) - 1).toInt64)]) (rest := []) K (tm_in (E := E)  x x.toInt64 (by rfl) 0 0 (by rfl) ((f0 0) - 1) (((f0 0) - 1).toInt64) (by rfl)) cs_X9_62 dX9_isSegment_12 rfl rfl (Nat.le_of_ble_eq_true rfl) (Nat.le_of_ble_eq_true rfl) (Nat.le_of_ble_eq_true rfl) (Nat.le_of_ble_eq_true rfl) (fun v H1 hq hz => ?_) (fun _ _ _ h9 _ _ => h9.elim)
  obtain ⟨rfl, hq⟩ := hq
  rw [hq]
  change Go E Z 2 H (0) (0) 15 [(0, .ref m), (1, .int x)] [.int (bI (0 ≤ x ∧ x ≤ ((f0 0) - 1)))]
  exact f_retI K X (Or.inr ⟨rfl, bI_01⟩) dX9_isSegment_15 (Nat.le_of_ble_eq_true rfl) (Nat.le_of_ble_eq_true rfl) (⟨rfl, rfl⟩)
/-- isSide(I)Z -/
theorem tm_isSide {E : fE} {H : Heap} (x : Int32)  : fM E yX9_isSide prog_17_method_16_code 1 (some .boolean) 2 0 0 [.int x] H (fun r_ H' => r_ = some (.int (bI (0 ≤ x ∧ x ≤ 1))) ∧ H' = H) noX := by
  refine f_start (own := "SnowPassModel") (nm := "isSide") (lv := [(0, .int x)]) pn_X9 rfl rfl (Nat.le_of_ble_eq_true rfl) rfl (fun Z K X => ?_)
  refine f_iload_n K dX9_isSide_0 rfl ?_
  refine f_i2l (v := x.toInt64) K dX9_isSide_1 rfl ?_
  refine f_lconst (v := 0) K dX9_isSide_2 rfl ?_
  refine f_lconst (v := 1) K dX9_isSide_3 rfl ?_
  refine f_invS (As := [.long x.toInt64, .long 0, .long 1]) (rest := []) K (tm_in (E := E)  x x.toInt64 (by rfl) 0 0 (by rfl) 1 1 (by rfl)) cs_X9_62 dX9_isSide_4 rfl rfl (Nat.le_of_ble_eq_true rfl) (Nat.le_of_ble_eq_true rfl) (Nat.le_of_ble_eq_true rfl) (Nat.le_of_ble_eq_true rfl) (fun v H1 hq hz => ?_) (fun _ _ _ h9 _ _ => h9.elim)
  obtain ⟨rfl, hq⟩ := hq
  rw [hq]
  change Go E Z 1 H (0) (0) 7 [(0, .int x)] [.int (bI (0 ≤ x ∧ x ≤ 1))]
  exact f_retI K X (Or.inr ⟨rfl, bI_01⟩) dX9_isSide_7 (Nat.le_of_ble_eq_true rfl) (Nat.le_of_ble_eq_true rfl) (⟨rfl, rfl⟩)
/-- areHours(I)Z -/
theorem tm_areHours {E : fE} {H : Heap} (x : Int32)  : fM E yX9_areHours prog_17_method_109_code 1 (some .boolean) 2 0 0 [.int x] H (fun r_ H' => r_ = some (.int (bI (0 ≤ x ∧ x ≤ 240))) ∧ H' = H) noX := by
  refine f_start (own := "SnowPassModel") (nm := "areHours") (lv := [(0, .int x)]) pn_X9 rfl rfl (Nat.le_of_ble_eq_true rfl) rfl (fun Z K X => ?_)
  refine f_iload_n K dX9_areHours_0 rfl ?_
  refine f_i2l (v := x.toInt64) K dX9_areHours_1 rfl ?_
  refine f_lconst (v := 0) K dX9_areHours_2 rfl ?_
  refine f_ldc2 (v := 240) K q3793 dX9_areHours_3 ?_
  refine f_invS (As := [.long x.toInt64, .long 0, .long 240]) (rest := []) K (tm_in (E := E)  x x.toInt64 (by rfl) 0 0 (by rfl) 240 240 (by rfl)) cs_X9_62 dX9_areHours_6 rfl rfl (Nat.le_of_ble_eq_true rfl) (Nat.le_of_ble_eq_true rfl) (Nat.le_of_ble_eq_true rfl) (Nat.le_of_ble_eq_true rfl) (fun v H1 hq hz => ?_) (fun _ _ _ h9 _ _ => h9.elim)
  obtain ⟨rfl, hq⟩ := hq
  rw [hq]
  change Go E Z 1 H (0) (0) 9 [(0, .int x)] [.int (bI (0 ≤ x ∧ x ≤ 240))]
  exact f_retI K X (Or.inr ⟨rfl, bI_01⟩) dX9_areHours_9 (Nat.le_of_ble_eq_true rfl) (Nat.le_of_ble_eq_true rfl) (⟨rfl, rfl⟩)
/-- stepOf(I)I -/
theorem tm_stepOf {E : fE} {H : Heap} (x_p : Int32) {p : Nat} (h_p : x_p = nI p)  (h : p < 2) : fM E yX9_stepOf prog_17_method_23_code 1 (some .int) 1 0 0 [.int x_p] H (fun r_ H' => r_ = some (.int (sp_step p)) ∧ H' = H) noX := by
  refine f_start (own := "SnowPassModel") (nm := "stepOf") (lv := [(0, .int x_p)]) pn_X9 rfl rfl (Nat.le_of_ble_eq_true rfl) rfl (fun Z K X => ?_)
  refine f_iload_n K dX9_stepOf_0 rfl ?_
  refine f_if_ne (tgt := 8) K dX9_stepOf_1 (by decide) (fun c_1 => ?_) (fun c_1 => ?_)
  · refine f_iconst (v := (-1)) K dX9_stepOf_8 rfl ?_
    exact f_retI K X (Or.inl rfl) dX9_stepOf_9 (Nat.le_of_ble_eq_true rfl) (Nat.le_of_ble_eq_true rfl) (⟨rI (if_neg (fun e => c_1 ((nz h_p (by omega)).mpr e))).symm, rfl⟩)
  · refine f_iconst (v := 1) K dX9_stepOf_4 rfl ?_
    refine f_goto (tgt := 9) K dX9_stepOf_5 (by decide) ?_
    exact f_retI K X (Or.inl rfl) dX9_stepOf_9 (Nat.le_of_ble_eq_true rfl) (Nat.le_of_ble_eq_true rfl) (⟨rI (if_pos ((nz h_p (by omega)).mp c_1)).symm, rfl⟩)
theorem sp_deep_le (f : Row) : ∀ k, sp_deep f k ≤ k
  | 0 => Nat.le_refl _
  | k + 1 => by
    simp only [sp_deep]
    have := sp_deep_le f k
    split <;> omega
theorem sp_deep_t {f : Row} {i : Nat} (h1 : 1 ≤ i) (c : f (25 + 3 * sp_deep f (i - 1)) < f (25 + 3 * i)) : sp_deep f (i + 1 - 1) = i := by
  obtain ⟨k, rfl⟩ : ∃ k, i = k + 1 := ⟨i - 1, by omega⟩
  exact if_pos c
theorem sp_deep_f {f : Row} {i : Nat} (h1 : 1 ≤ i) (c : ¬ f (25 + 3 * sp_deep f (i - 1)) < f (25 + 3 * i)) : sp_deep f (i + 1 - 1) = sp_deep f (i - 1) := by
  obtain ⟨k, rfl⟩ : ∃ k, i = k + 1 := ⟨i - 1, by omega⟩
  exact if_neg c
/-- isClearNow(I)Z -/
theorem tm_isClearNow {E : fE} {H : Heap} {m : Nat} {ad : Nat → Nat} {sc f0 f1 f2 f3 f4 fb ft fo : Row} (ht : twAt E H m ad sc f0 f1 f2 f3 f4 fb ft fo) (x_k : Int32) {k : Nat} (h_k : x_k = nI k)  (h : k < 47) : fM E yX9_isClearNow prog_17_method_17_code 2 (some .boolean) 2 0 0 [.ref m, .int x_k] H (fun r_ H' => r_ = some (.int (bI (sp_clear f0 k))) ∧ H' = H) noX := by
  refine f_start (own := "SnowPassModel") (nm := "isClearNow") (lv := [(0, .ref m), (1, .int x_k)]) pn_X9 rfl rfl (Nat.le_of_ble_eq_true rfl) rfl (fun Z K X => ?_)
  refine f_aload_n K dX9_isClearNow_0 rfl ?_
  refine f_iload_n K dX9_isClearNow_1 rfl ?_
  refine f_iconst (v := 0) K dX9_isClearNow_2 rfl ?_
  refine f_invV (As := [.int x_k, .int 0]) (rest := []) K (tm_of (E := E) (k := k) (w := 0) ht x_k h_k 0 nl_0 (by omega)) cs_X9_66 dX9_isClearNow_3 (tw_o ht) rfl rfl rfl (Nat.le_of_ble_eq_true rfl) (Nat.le_of_ble_eq_true rfl) (Nat.le_of_ble_eq_true rfl) (Nat.le_of_ble_eq_true rfl) (fun v H1 hq hz => ?_) (fun _ _ _ h9 _ _ => h9.elim)
  obtain ⟨rfl, hq⟩ := hq
  rw [hq]
  change Go E Z 2 H (0) (0) 6 [(0, .ref m), (1, .int x_k)] [.int (f0 (25 + 3 * k))]
  refine f_aload_n K dX9_isClearNow_6 rfl ?_
  refine f_get (v := .ref (ad 0)) K fl_X9_7_X9 dX9_isClearNow_7 (tw_o ht) rfl ?_
  refine f_iconst (v := 2) K dX9_isClearNow_10 rfl ?_
  refine f_iald (j := 2) K dX9_isClearNow_11 (tw_a0 ht) nl_2 (by decide) (by decide) ?_
  refine f_icmp_gt (tgt := 19) K dX9_isClearNow_12 (by decide) (fun c_12 => ?_) (fun c_12 => ?_)
  · refine f_iconst (v := 0) K dX9_isClearNow_19 rfl ?_
    exact f_retI K X (Or.inr ⟨rfl, Or.inl rfl⟩) dX9_isClearNow_20 (Nat.le_of_ble_eq_true rfl) (Nat.le_of_ble_eq_true rfl) (⟨rI0 (Int32.not_le.mpr c_12), rfl⟩)
  · refine f_iconst (v := 1) K dX9_isClearNow_15 rfl ?_
    refine f_goto (tgt := 20) K dX9_isClearNow_16 (by decide) ?_
    exact f_retI K X (Or.inr ⟨rfl, Or.inr rfl⟩) dX9_isClearNow_20 (Nat.le_of_ble_eq_true rfl) (Nat.le_of_ble_eq_true rfl) (⟨rI1 (Int32.not_lt.mp c_12), rfl⟩)
/-- isNightNow()Z -/
theorem tm_isNightNow {E : fE} {H : Heap} {m : Nat} {ad : Nat → Nat} {sc f0 f1 f2 f3 f4 fb ft fo : Row} (ht : twAt E H m ad sc f0 f1 f2 f3 f4 fb ft fo)   : fM E yX9_isNightNow prog_17_method_18_code 2 (some .boolean) 1 0 0 [.ref m] H (fun r_ H' => r_ = some (.int (bI (sp_night f0))) ∧ H' = H) noX := by
  refine f_start (own := "SnowPassModel") (nm := "isNightNow") (lv := [(0, .ref m)]) pn_X9 rfl rfl (Nat.le_of_ble_eq_true rfl) rfl (fun Z K X => ?_)
  refine f_aload_n K dX9_isNightNow_0 rfl ?_
  refine f_get (v := .ref (ad 0)) K fl_X9_7_X9 dX9_isNightNow_1 (tw_o ht) rfl ?_
  refine f_bipush (v := 7) K dX9_isNightNow_4 rfl ?_
  refine f_iald (j := 7) K dX9_isNightNow_6 (tw_a0 ht) nl_7 (by decide) (by decide) ?_
  refine f_bipush (v := 24) K dX9_isNightNow_7 rfl ?_
  refine f_irem K dX9_isNightNow_9 (by decide) ?_
  refine f_istore_n (lv' := [(1, .int ((f0 7) - (f0 7) / 24 * 24)), (0, .ref m)]) K dX9_isNightNow_10 (by decide) rfl ?_
  refine f_iload_n K dX9_isNightNow_11 rfl ?_
  refine f_bipush (v := 18) K dX9_isNightNow_12 rfl ?_
  refine f_icmp_ge (tgt := 22) K dX9_isNightNow_14 (by decide) (fun c_14 => ?_) (fun c_14 => ?_)
  · refine f_iconst (v := 1) K dX9_isNightNow_22 rfl ?_
    refine f_goto (tgt := 27) K dX9_isNightNow_23 (by decide) ?_
    exact f_retI K X (Or.inr ⟨rfl, Or.inr rfl⟩) dX9_isNightNow_27 (Nat.le_of_ble_eq_true rfl) (Nat.le_of_ble_eq_true rfl) (⟨rI1 (by unfold sp_night; grind), rfl⟩)
  · refine f_iload_n K dX9_isNightNow_17 rfl ?_
    refine f_iconst (v := 5) K dX9_isNightNow_18 rfl ?_
    refine f_icmp_gt (tgt := 26) K dX9_isNightNow_19 (by decide) (fun c_19 => ?_) (fun c_19 => ?_)
    · refine f_iconst (v := 0) K dX9_isNightNow_26 rfl ?_
      exact f_retI K X (Or.inr ⟨rfl, Or.inl rfl⟩) dX9_isNightNow_27 (Nat.le_of_ble_eq_true rfl) (Nat.le_of_ble_eq_true rfl) (⟨rI0 (by unfold sp_night; grind), rfl⟩)
    · refine f_iconst (v := 1) K dX9_isNightNow_22 rfl ?_
      refine f_goto (tgt := 27) K dX9_isNightNow_23 (by decide) ?_
      exact f_retI K X (Or.inr ⟨rfl, Or.inr rfl⟩) dX9_isNightNow_27 (Nat.le_of_ble_eq_true rfl) (Nat.le_of_ble_eq_true rfl) (⟨rI1 (by unfold sp_night; grind), rfl⟩)
/-- isOpenNow()Z -/
theorem tm_isOpenNow {E : fE} {H : Heap} {m : Nat} {ad : Nat → Nat} {sc f0 f1 f2 f3 f4 fb ft fo : Row} (ht : twAt E H m ad sc f0 f1 f2 f3 f4 fb ft fo)   : fM E yX9_isOpenNow prog_17_method_19_code 1 (some .boolean) 2 0 0 [.ref m] H (fun r_ H' => r_ = some (.int (bI (sp_open f0))) ∧ H' = H) noX := by
  refine f_start (own := "SnowPassModel") (nm := "isOpenNow") (lv := [(0, .ref m)]) pn_X9 rfl rfl (Nat.le_of_ble_eq_true rfl) rfl (fun Z K X => ?_)
  refine f_aload_n K dX9_isOpenNow_0 rfl ?_
  refine f_iconst (v := 0) K dX9_isOpenNow_1 rfl ?_
  refine f_iconst (v := 3) K dX9_isOpenNow_2 rfl ?_
  refine f_invV (As := [.int 0, .int 3]) (rest := []) K (tm_ofPlough (E := E) (p := 0) (w := 3) ht 0 nl_0 3 nl_3 (by omega)) cs_X9_70 dX9_isOpenNow_3 (tw_o ht) rfl rfl rfl (Nat.le_of_ble_eq_true rfl) (Nat.le_of_ble_eq_true rfl) (Nat.le_of_ble_eq_true rfl) (Nat.le_of_ble_eq_true rfl) (fun v H1 hq hz => ?_) (fun _ _ _ h9 _ _ => h9.elim)
  obtain ⟨rfl, hq⟩ := hq
  rw [hq]
  change Go E Z 1 H (0) (0) 6 [(0, .ref m)] [.int (f0 20)]
  refine f_iconst (v := 1) K dX9_isOpenNow_6 rfl ?_
  refine f_icmp_ne (tgt := 24) K dX9_isOpenNow_7 (by decide) (fun c_7 => ?_) (fun c_7 => ?_)
  · refine f_iconst (v := 0) K dX9_isOpenNow_24 rfl ?_
    exact f_retI K X (Or.inr ⟨rfl, Or.inl rfl⟩) dX9_isOpenNow_25 (Nat.le_of_ble_eq_true rfl) (Nat.le_of_ble_eq_true rfl) (⟨rI0 (by unfold sp_open; grind), rfl⟩)
  · refine f_aload_n K dX9_isOpenNow_10 rfl ?_
    refine f_iconst (v := 1) K dX9_isOpenNow_11 rfl ?_
    refine f_iconst (v := 3) K dX9_isOpenNow_12 rfl ?_
    refine f_invV (As := [.int 1, .int 3]) (rest := []) K (tm_ofPlough (E := E) (p := 1) (w := 3) ht 1 nl_1 3 nl_3 (by omega)) cs_X9_70 dX9_isOpenNow_13 (tw_o ht) rfl rfl rfl (Nat.le_of_ble_eq_true rfl) (Nat.le_of_ble_eq_true rfl) (Nat.le_of_ble_eq_true rfl) (Nat.le_of_ble_eq_true rfl) (fun v H3 hq hz => ?_) (fun _ _ _ h9 _ _ => h9.elim)
    obtain ⟨rfl, hq⟩ := hq
    rw [hq]
    change Go E Z 1 H (0) (0) 16 [(0, .ref m)] [.int (f0 24)]
    refine f_iconst (v := 1) K dX9_isOpenNow_16 rfl ?_
    refine f_icmp_ne (tgt := 24) K dX9_isOpenNow_17 (by decide) (fun c_17 => ?_) (fun c_17 => ?_)
    · refine f_iconst (v := 0) K dX9_isOpenNow_24 rfl ?_
      exact f_retI K X (Or.inr ⟨rfl, Or.inl rfl⟩) dX9_isOpenNow_25 (Nat.le_of_ble_eq_true rfl) (Nat.le_of_ble_eq_true rfl) (⟨rI0 (by unfold sp_open; grind), rfl⟩)
    · refine f_iconst (v := 1) K dX9_isOpenNow_20 rfl ?_
      refine f_goto (tgt := 25) K dX9_isOpenNow_21 (by decide) ?_
      exact f_retI K X (Or.inr ⟨rfl, Or.inr rfl⟩) dX9_isOpenNow_25 (Nat.le_of_ble_eq_true rfl) (Nat.le_of_ble_eq_true rfl) (⟨rI1 (by unfold sp_open; grind), rfl⟩)
/-- deepest()I -/
theorem tm_deepest {E : fE} {H : Heap} {m : Nat} {ad : Nat → Nat} {sc f0 f1 f2 f3 f4 fb ft fo : Row} (ht : twAt E H m ad sc f0 f1 f2 f3 f4 fb ft fo)  {n : Nat} (hn : f0 0 = nI n) (h1 : 1 ≤ n) (h2 : n ≤ 20) : fM E yX9_deepest prog_17_method_20_code 3 (some .int) 2 0 0 [.ref m] H (fun r_ H' => r_ = some (.int (nI (sp_deep f0 (n - 1)))) ∧ H' = H) noX := by
  refine f_start (own := "SnowPassModel") (nm := "deepest") (lv := [(0, .ref m)]) pn_X9 rfl rfl (Nat.le_of_ble_eq_true rfl) rfl (fun Z K X => ?_)
  refine f_iconst (v := 0) K dX9_deepest_0 rfl ?_
  refine f_istore_n (lv' := [(1, .int 0), (0, .ref m)]) K dX9_deepest_1 (by decide) rfl ?_
  refine f_iconst (v := 1) K dX9_deepest_2 rfl ?_
  refine f_istore_n (lv' := [(2, .int 1), (1, .int 0), (0, .ref m)]) K dX9_deepest_3 (by decide) rfl ?_
  have loop : ∀ (d i : Nat) (x_i : Int32) (x_b : Int32) (G : Heap), x_i = nI i → i + d = n → x_b = nI (sp_deep f0 (i - 1)) → 1 ≤ i → Go E Z 3 H (0) (0) 4 [(2, .int x_i), (1, .int x_b), (0, .ref m)] [] := by
    intro d
    induction d with
    | zero =>
      intro i x_i x_b G h_i hd h_x_b hi1
      have hle := sp_deep_le f0 (i - 1)
      refine f_iload_n K dX9_deepest_4 rfl ?_
      refine f_aload_n K dX9_deepest_5 rfl ?_
      refine f_get (v := .ref (ad 0)) K fl_X9_7_X9 dX9_deepest_6 (tw_o ht) rfl ?_
      refine f_iconst (v := 0) K dX9_deepest_9 rfl ?_
      refine f_iald (j := 0) K dX9_deepest_10 (tw_a0 ht) nl_0 (by decide) (by decide) ?_
      refine f_icmp_ge (tgt := 41) K dX9_deepest_11 (by decide) (fun c_11 => ?_) (fun c_11 => ?_)
      · refine f_iload_n K dX9_deepest_41 rfl ?_
        exact f_retI K X (Or.inl rfl) dX9_deepest_42 (Nat.le_of_ble_eq_true rfl) (Nat.le_of_ble_eq_true rfl) (⟨by rw [h_x_b, show i = n by omega], rfl⟩)
      · exact absurd (by rw [h_i, hn]; exact nI_le (by omega) (by omega)) c_11
    | succ d ih =>
      intro i x_i x_b G h_i hd h_x_b hi1
      have hle := sp_deep_le f0 (i - 1)
      refine f_iload_n K dX9_deepest_4 rfl ?_
      refine f_aload_n K dX9_deepest_5 rfl ?_
      refine f_get (v := .ref (ad 0)) K fl_X9_7_X9 dX9_deepest_6 (tw_o ht) rfl ?_
      refine f_iconst (v := 0) K dX9_deepest_9 rfl ?_
      refine f_iald (j := 0) K dX9_deepest_10 (tw_a0 ht) nl_0 (by decide) (by decide) ?_
      refine f_icmp_ge (tgt := 41) K dX9_deepest_11 (by decide) (fun c_11 => ?_) (fun c_11 => ?_)
      · exact absurd c_11 (by rw [h_i, hn]; exact nI_ge (by omega) (by omega))
      · refine f_aload_n K dX9_deepest_14 rfl ?_
        refine f_iload_n K dX9_deepest_15 rfl ?_
        refine f_iconst (v := 0) K dX9_deepest_16 rfl ?_
        refine f_invV (As := [.int x_i, .int 0]) (rest := []) K (tm_of (E := E) (k := i) (w := 0) ht x_i h_i 0 nl_0 (by omega)) cs_X9_66 dX9_deepest_17 (tw_o ht) rfl rfl rfl (Nat.le_of_ble_eq_true rfl) (Nat.le_of_ble_eq_true rfl) (Nat.le_of_ble_eq_true rfl) (Nat.le_of_ble_eq_true rfl) (fun v H3 hq hz => ?_) (fun _ _ _ h9 _ _ => h9.elim)
        obtain ⟨rfl, hq⟩ := hq
        rw [hq]
        change Go E Z 3 H (0) (0) 20 [(2, .int x_i), (1, .int x_b), (0, .ref m)] [.int (f0 (25 + 3 * i))]
        refine f_aload_n K dX9_deepest_20 rfl ?_
        refine f_iload_n K dX9_deepest_21 rfl ?_
        refine f_iconst (v := 0) K dX9_deepest_22 rfl ?_
        refine f_invV (As := [.int x_b, .int 0]) (rest := [.int (f0 (25 + 3 * i))]) K (tm_of (E := E) (k := (sp_deep f0 (i - 1))) (w := 0) ht x_b h_x_b 0 nl_0 (by omega)) cs_X9_66 dX9_deepest_23 (tw_o ht) rfl rfl rfl (Nat.le_of_ble_eq_true rfl) (Nat.le_of_ble_eq_true rfl) (Nat.le_of_ble_eq_true rfl) (Nat.le_of_ble_eq_true rfl) (fun v H4 hq hz => ?_) (fun _ _ _ h9 _ _ => h9.elim)
        obtain ⟨rfl, hq⟩ := hq
        rw [hq]
        change Go E Z 3 H (0) (0) 26 [(2, .int x_i), (1, .int x_b), (0, .ref m)] [.int (f0 (25 + 3 * (sp_deep f0 (i - 1)) + 0)), .int (f0 (25 + 3 * i))]
        refine f_icmp_le (tgt := 33) K dX9_deepest_26 (by decide) (fun c_26 => ?_) (fun c_26 => ?_)
        · refine f_iload_n K dX9_deepest_33 rfl ?_
          refine f_istore_n (lv' := [(1, .int x_b), (2, .int x_i), (0, .ref m)]) K dX9_deepest_34 (by decide) rfl ?_
          refine f_iinc (v := x_i + 1) (lv' := [(2, .int (x_i + 1)), (1, .int x_b), (0, .ref m)]) K dX9_deepest_35 rfl rfl (by decide) rfl ?_
          refine f_goto (tgt := 4) K dX9_deepest_38 (by decide) ?_
          exact ih ((i + 1)) _ x_b H (nia h_i nl_1) (by omega) (by rw [sp_deep_f hi1 (Int32.not_lt.mpr c_26)]; exact h_x_b) (by omega)
        · refine f_iload_n K dX9_deepest_29 rfl ?_
          refine f_goto (tgt := 34) K dX9_deepest_30 (by decide) ?_
          refine f_istore_n (lv' := [(1, .int x_i), (2, .int x_i), (0, .ref m)]) K dX9_deepest_34 (by decide) rfl ?_
          refine f_iinc (v := x_i + 1) (lv' := [(2, .int (x_i + 1)), (1, .int x_i), (0, .ref m)]) K dX9_deepest_35 rfl rfl (by decide) rfl ?_
          refine f_goto (tgt := 4) K dX9_deepest_38 (by decide) ?_
          exact ih ((i + 1)) _ x_i H (nia h_i nl_1) (by omega) (by rw [sp_deep_t hi1 (Int32.not_le.mp c_26)]; exact h_i) (by omega)
  exact loop (n - 1) 1 _ _ H nl_1 (by omega) rfl (Nat.le_refl 1)
/-- depthNow()I -/
theorem tm_depthNow {E : fE} {H : Heap} {m : Nat} {ad : Nat → Nat} {sc f0 f1 f2 f3 f4 fb ft fo : Row} (ht : twAt E H m ad sc f0 f1 f2 f3 f4 fb ft fo)  {n : Nat} (hn : f0 0 = nI n) (h1 : 1 ≤ n) (h2 : n ≤ 20) : fM E yX9_depthNow prog_17_method_21_code 1 (some .int) 3 0 0 [.ref m] H (fun r_ H' => r_ = some (.int (f0 (25 + 3 * sp_deep f0 (n - 1)))) ∧ H' = H) noX := by
  refine f_start (own := "SnowPassModel") (nm := "depthNow") (lv := [(0, .ref m)]) pn_X9 rfl rfl (Nat.le_of_ble_eq_true rfl) rfl (fun Z K X => ?_)
  have hle := sp_deep_le f0 (n - 1)
  refine f_aload_n K dX9_depthNow_0 rfl ?_
  refine f_aload_n K dX9_depthNow_1 rfl ?_
  refine f_invV (As := []) (rest := [.ref m]) K (tm_deepest (E := E)  ht hn (by omega) (by omega)) cs_X9_73 dX9_depthNow_2 (tw_o ht) rfl rfl rfl (Nat.le_of_ble_eq_true rfl) (Nat.le_of_ble_eq_true rfl) (Nat.le_of_ble_eq_true rfl) (Nat.le_of_ble_eq_true rfl) (fun v H1 hq hz => ?_) (fun _ _ _ h9 _ _ => h9.elim)
  obtain ⟨rfl, hq⟩ := hq
  rw [hq]
  change Go E Z 1 H (0) (0) 5 [(0, .ref m)] [.int (nI (sp_deep f0 (n - 1))), .ref m]
  refine f_iconst (v := 0) K dX9_depthNow_5 rfl ?_
  refine f_invV (As := [.int (nI (sp_deep f0 (n - 1))), .int 0]) (rest := []) K (tm_of (E := E) (k := sp_deep f0 (n - 1)) (w := 0) ht (nI (sp_deep f0 (n - 1))) rfl 0 nl_0 (by omega)) cs_X9_66 dX9_depthNow_6 (tw_o ht) rfl rfl rfl (Nat.le_of_ble_eq_true rfl) (Nat.le_of_ble_eq_true rfl) (Nat.le_of_ble_eq_true rfl) (Nat.le_of_ble_eq_true rfl) (fun v H2 hq hz => ?_) (fun _ _ _ h9 _ _ => h9.elim)
  obtain ⟨rfl, hq⟩ := hq
  rw [hq]
  change Go E Z 1 H (0) (0) 9 [(0, .ref m)] [.int (f0 (25 + 3 * (sp_deep f0 (n - 1)) + 0))]
  exact f_retI K X (Or.inl rfl) dX9_depthNow_9 (Nat.le_of_ble_eq_true rfl) (Nat.le_of_ble_eq_true rfl) (⟨rfl, rfl⟩)
/-- depths()I -/
theorem tm_depths {E : fE} {H : Heap} {m : Nat} {ad : Nat → Nat} {sc f0 f1 f2 f3 f4 fb ft fo : Row} (ht : twAt E H m ad sc f0 f1 f2 f3 f4 fb ft fo)  {n : Nat} (hn : f0 0 = nI n) (h2 : n ≤ 20) : fM E yX9_depths prog_17_method_22_code 3 (some .int) 2 0 0 [.ref m] H (fun r_ H' => r_ = some (.int (sp_sum f0 n)) ∧ H' = H) noX := by
  refine f_start (own := "SnowPassModel") (nm := "depths") (lv := [(0, .ref m)]) pn_X9 rfl rfl (Nat.le_of_ble_eq_true rfl) rfl (fun Z K X => ?_)
  refine f_iconst (v := 0) K dX9_depths_0 rfl ?_
  refine f_istore_n (lv' := [(1, .int 0), (0, .ref m)]) K dX9_depths_1 (by decide) rfl ?_
  refine f_iconst (v := 0) K dX9_depths_2 rfl ?_
  refine f_istore_n (lv' := [(2, .int 0), (1, .int 0), (0, .ref m)]) K dX9_depths_3 (by decide) rfl ?_
  have loop : ∀ (d i : Nat) (x_i : Int32) (x_b : Int32) (G : Heap), x_i = nI i → i + d = n → x_b = sp_sum f0 i → Go E Z 3 H (0) (0) 4 [(2, .int x_i), (1, .int x_b), (0, .ref m)] [] := by
    intro d
    induction d with
    | zero =>
      intro i x_i x_b G h_i hd h_x_b
      refine f_iload_n K dX9_depths_4 rfl ?_
      refine f_aload_n K dX9_depths_5 rfl ?_
      refine f_get (v := .ref (ad 0)) K fl_X9_7_X9 dX9_depths_6 (tw_o ht) rfl ?_
      refine f_iconst (v := 0) K dX9_depths_9 rfl ?_
      refine f_iald (j := 0) K dX9_depths_10 (tw_a0 ht) nl_0 (by decide) (by decide) ?_
      refine f_icmp_ge (tgt := 29) K dX9_depths_11 (by decide) (fun c_11 => ?_) (fun c_11 => ?_)
      · refine f_iload_n K dX9_depths_29 rfl ?_
        exact f_retI K X (Or.inl rfl) dX9_depths_30 (Nat.le_of_ble_eq_true rfl) (Nat.le_of_ble_eq_true rfl) (⟨by rw [h_x_b, show i = n by omega], rfl⟩)
      · exact absurd (by rw [h_i, hn]; exact nI_le (by omega) (by omega)) c_11
    | succ d ih =>
      intro i x_i x_b G h_i hd h_x_b
      refine f_iload_n K dX9_depths_4 rfl ?_
      refine f_aload_n K dX9_depths_5 rfl ?_
      refine f_get (v := .ref (ad 0)) K fl_X9_7_X9 dX9_depths_6 (tw_o ht) rfl ?_
      refine f_iconst (v := 0) K dX9_depths_9 rfl ?_
      refine f_iald (j := 0) K dX9_depths_10 (tw_a0 ht) nl_0 (by decide) (by decide) ?_
      refine f_icmp_ge (tgt := 29) K dX9_depths_11 (by decide) (fun c_11 => ?_) (fun c_11 => ?_)
      · exact absurd c_11 (by rw [h_i, hn]; exact nI_ge (by omega) (by omega))
      · refine f_iload_n K dX9_depths_14 rfl ?_
        refine f_aload_n K dX9_depths_15 rfl ?_
        refine f_iload_n K dX9_depths_16 rfl ?_
        refine f_iconst (v := 0) K dX9_depths_17 rfl ?_
        refine f_invV (As := [.int x_i, .int 0]) (rest := [.int x_b]) K (tm_of (E := E) (k := i) (w := 0) ht x_i h_i 0 nl_0 (by omega)) cs_X9_66 dX9_depths_18 (tw_o ht) rfl rfl rfl (Nat.le_of_ble_eq_true rfl) (Nat.le_of_ble_eq_true rfl) (Nat.le_of_ble_eq_true rfl) (Nat.le_of_ble_eq_true rfl) (fun v H3 hq hz => ?_) (fun _ _ _ h9 _ _ => h9.elim)
        obtain ⟨rfl, hq⟩ := hq
        rw [hq]
        change Go E Z 3 H (0) (0) 21 [(2, .int x_i), (1, .int x_b), (0, .ref m)] [.int (f0 (25 + 3 * i)), .int x_b]
        refine f_iadd K dX9_depths_21 ?_
        refine f_istore_n (lv' := [(1, .int (x_b + (f0 (25 + 3 * i)))), (2, .int x_i), (0, .ref m)]) K dX9_depths_22 (by decide) rfl ?_
        refine f_iinc (v := x_i + 1) (lv' := [(2, .int (x_i + 1)), (1, .int (x_b + (f0 (25 + 3 * i)))), (0, .ref m)]) K dX9_depths_23 rfl rfl (by decide) rfl ?_
        refine f_goto (tgt := 4) K dX9_depths_26 (by decide) ?_
        exact ih ((i + 1)) _ (x_b + (f0 (25 + 3 * i))) H (nia h_i nl_1) (by omega) (by rw [h_x_b]; rfl)
  exact loop (n) 0 _ _ H nl_0 (by omega) rfl
/-- valleyOf(I)I -/
theorem tm_valleyOf {E : fE} {H : Heap} {m : Nat} {ad : Nat → Nat} {sc f0 f1 f2 f3 f4 fb ft fo : Row} (ht : twAt E H m ad sc f0 f1 f2 f3 f4 fb ft fo) (x_p : Int32) {p : Nat} (h_p : x_p = nI p) {n : Nat} (hn : f0 0 = nI n) (h1 : 1 ≤ n) (hp : p < 2) : fM E yX9_valleyOf prog_17_method_24_code 2 (some .int) 1 0 0 [.ref m, .int x_p] H (fun r_ H' => r_ = some (.int (nI (if p = 0 then 0 else n - 1))) ∧ H' = H) noX := by
  refine f_start (own := "SnowPassModel") (nm := "valleyOf") (lv := [(0, .ref m), (1, .int x_p)]) pn_X9 rfl rfl (Nat.le_of_ble_eq_true rfl) rfl (fun Z K X => ?_)
  refine f_iload_n K dX9_valleyOf_0 rfl ?_
  refine f_if_ne (tgt := 8) K dX9_valleyOf_1 (by decide) (fun c_1 => ?_) (fun c_1 => ?_)
  · refine f_aload_n K dX9_valleyOf_8 rfl ?_
    refine f_get (v := .ref (ad 0)) K fl_X9_7_X9 dX9_valleyOf_9 (tw_o ht) rfl ?_
    refine f_iconst (v := 0) K dX9_valleyOf_12 rfl ?_
    refine f_iald (j := 0) K dX9_valleyOf_13 (tw_a0 ht) nl_0 (by decide) (by decide) ?_
    refine f_iconst (v := 1) K dX9_valleyOf_14 rfl ?_
    refine f_isub K dX9_valleyOf_15 ?_
    exact f_retI K X (Or.inl rfl) dX9_valleyOf_16 (Nat.le_of_ble_eq_true rfl) (Nat.le_of_ble_eq_true rfl) (⟨rI (by rw [if_neg (fun e => c_1 ((nz h_p (by omega)).mpr e)), hn]; exact pk_sub h1), rfl⟩)
  · refine f_iconst (v := 0) K dX9_valleyOf_4 rfl ?_
    refine f_goto (tgt := 16) K dX9_valleyOf_5 (by decide) ?_
    exact f_retI K X (Or.inl rfl) dX9_valleyOf_16 (Nat.le_of_ble_eq_true rfl) (Nat.le_of_ble_eq_true rfl) (⟨rI (by rw [if_pos ((nz h_p (by omega)).mp c_1)]; rfl), rfl⟩)
/-- enters(I)V -/
theorem tm_enters {E : fE} {H : Heap} {m : Nat} {ad : Nat → Nat} {sc f0 f1 f2 f3 f4 fb ft fo : Row} (ht : twAt E H m ad sc f0 f1 f2 f3 f4 fb ft fo) (kind : Int32) {b : Nat} (hb : f0 9 = nI b) (hb2 : b ≤ 20) : fM E yX9_enters prog_17_method_25_code 3 none 1 0 0 [.ref m, .int kind] H (fun r_ H' => r_ = none ∧ twAt E H' m ad sc (sp_ent f0 kind) f1 f2 f3 f4 fb ft fo ∧ twK m ad H H') noX := by
  refine f_start (own := "SnowPassModel") (nm := "enters") (lv := [(0, .ref m), (1, .int kind)]) pn_X9 rfl rfl (Nat.le_of_ble_eq_true rfl) rfl (fun Z K X => ?_)
  have hk := twK.rf (m := m) (ad := ad) (H := H)
  refine f_aload_n K dX9_enters_0 rfl ?_
  refine f_get (v := .ref (ad 0)) K fl_X9_7_X9 dX9_enters_1 (tw_o ht) rfl ?_
  refine f_bipush (v := 9) K dX9_enters_4 rfl ?_
  refine f_iald (j := 9) K dX9_enters_6 (tw_a0 ht) nl_9 (by decide) (by decide) ?_
  refine f_bipush (v := 20) K dX9_enters_7 rfl ?_
  refine f_icmp_ne (tgt := 52) K dX9_enters_9 (by decide) (fun c_9 => ?_) (fun c_9 => ?_)
  · have hb3 : b ≤ 19 := by
        by_cases e : b = 20
        · exact absurd (by rw [hb, e]; rfl) c_9
        · omega
    refine f_aload_n K dX9_enters_52 rfl ?_
    refine f_get (v := .ref (ad 0)) K fl_X9_7_X9 dX9_enters_53 (tw_o ht) rfl ?_
    refine f_bipush (v := 85) K dX9_enters_56 rfl ?_
    refine f_iconst (v := 2) K dX9_enters_58 rfl ?_
    refine f_aload_n K dX9_enters_59 rfl ?_
    refine f_get (v := .ref (ad 0)) K fl_X9_7_X9 dX9_enters_60 (tw_o ht) rfl ?_
    refine f_bipush (v := 9) K dX9_enters_63 rfl ?_
    refine f_iald (j := 9) K dX9_enters_65 (tw_a0 ht) nl_9 (by decide) (by decide) ?_
    refine f_imul K dX9_enters_66 ?_
    refine f_iadd K dX9_enters_67 ?_
    refine f_iload_n K dX9_enters_68 rfl ?_
    refine f_iast (j := (85 + (2 * b))) K dX9_enters_69 (tw_a0 ht) (nia nl_85 (nim nl_2 hb)) (by omega) (by decide) (tw_lo0 ht) (fun H2 hU ho => ?_)
    have hk := hk.st (j := 0) (by decide) hU
    have ht := tw_st0 ht hU ho
    refine f_aload_n K dX9_enters_70 rfl ?_
    refine f_get (v := .ref (ad 0)) K fl_X9_7_X9 dX9_enters_71 (tw_o ht) rfl ?_
    refine f_bipush (v := 85) K dX9_enters_74 rfl ?_
    refine f_iconst (v := 2) K dX9_enters_76 rfl ?_
    refine f_aload_n K dX9_enters_77 rfl ?_
    refine f_get (v := .ref (ad 0)) K fl_X9_7_X9 dX9_enters_78 (tw_o ht) rfl ?_
    refine f_bipush (v := 9) K dX9_enters_81 rfl ?_
    refine f_iald (j := 9) K dX9_enters_83 (tw_a0 ht) nl_9 (by decide) (by decide) ?_
    refine f_imul K dX9_enters_84 ?_
    refine f_iadd K dX9_enters_85 ?_
    refine f_iconst (v := 1) K dX9_enters_86 rfl ?_
    refine f_iadd K dX9_enters_87 ?_
    refine f_aload_n K dX9_enters_88 rfl ?_
    refine f_get (v := .ref (ad 0)) K fl_X9_7_X9 dX9_enters_89 (tw_o ht) rfl ?_
    refine f_bipush (v := 7) K dX9_enters_92 rfl ?_
    refine f_iald (j := 7) K dX9_enters_94 (tw_a0 ht) nl_7 (by decide) (by decide) ?_
    refine f_iast (j := ((85 + (2 * b)) + 1)) K dX9_enters_95 (tw_a0 ht) (nia (nia nl_85 (nim nl_2 (by rw [upd_ne (by omega)]; exact hb))) nl_1) (by omega) (by decide) (tw_lo0 ht) (fun H3 hU ho => ?_)
    have hk := hk.st (j := 0) (by decide) hU
    have ht := tw_st0 ht hU ho
    refine f_aload_n K dX9_enters_96 rfl ?_
    refine f_get (v := .ref (ad 0)) K fl_X9_7_X9 dX9_enters_97 (tw_o ht) rfl ?_
    refine f_bipush (v := 9) K dX9_enters_100 rfl ?_
    refine f_dup2 K dX9_enters_102 rfl rfl ?_
    refine f_iald (j := 9) K dX9_enters_103 (tw_a0 ht) nl_9 (by decide) (by decide) ?_
    refine f_iconst (v := 1) K dX9_enters_104 rfl ?_
    refine f_iadd K dX9_enters_105 ?_
    refine f_iast (j := 9) K dX9_enters_106 (tw_a0 ht) nl_9 (by decide) (by decide) (tw_lo0 ht) (fun H4 hU ho => ?_)
    have hk := hk.st (j := 0) (by decide) hU
    have ht := tw_st0 ht hU ho
    exact f_retV K X rfl dX9_enters_107 (Nat.le_of_ble_eq_true rfl) (Nat.le_of_ble_eq_true rfl) (⟨rfl, by rw [ent_eq (f := f0) (b := b) (if_neg c_9) hb hb3] at ht; exact ht, hk⟩)
  · refine f_bipush (v := 85) K dX9_enters_12 rfl ?_
    refine f_istore_n (lv' := [(2, .int 85), (0, .ref m), (1, .int kind)]) K dX9_enters_14 (by decide) rfl ?_
    have loop : ∀ (d i : Nat) (x_i : Int32) (G : Heap), x_i = nI i → i + d = 123 → twAt E G m ad sc (shf f0 85 i 2) f1 f2 f3 f4 fb ft fo → twK m ad H G → 85 ≤ i → Go E Z 3 G (0) (0) 15 [(2, .int x_i), (0, .ref m), (1, .int kind)] [] := by
      intro d
      induction d with
      | zero =>
        intro i x_i G h_i hd ht hk hi85
        have hiu : i = 123 := by omega
        rw [hiu] at ht
        refine f_iload_n K dX9_enters_15 rfl ?_
        refine f_bipush (v := 123) K dX9_enters_16 rfl ?_
        refine f_icmp_ge (tgt := 41) K dX9_enters_18 (by decide) (fun c_18 => ?_) (fun c_18 => ?_)
        · refine f_aload_n K dX9_enters_41 rfl ?_
          refine f_get (v := .ref (ad 0)) K fl_X9_7_X9 dX9_enters_42 (tw_o ht) rfl ?_
          refine f_bipush (v := 9) K dX9_enters_45 rfl ?_
          refine f_dup2 K dX9_enters_47 rfl rfl ?_
          refine f_iald (j := 9) K dX9_enters_48 (tw_a0 ht) nl_9 (by decide) (by decide) ?_
          refine f_iconst (v := 1) K dX9_enters_49 rfl ?_
          refine f_isub K dX9_enters_50 ?_
          refine f_iast (j := 9) K dX9_enters_51 (tw_a0 ht) nl_9 (by decide) (by decide) (tw_lo0 ht) (fun H6 hU ho => ?_)
          have hk := hk.st (j := 0) (by decide) hU
          have ht := tw_st0 ht hU ho
          refine f_aload_n K dX9_enters_52 rfl ?_
          refine f_get (v := .ref (ad 0)) K fl_X9_7_X9 dX9_enters_53 (tw_o ht) rfl ?_
          refine f_bipush (v := 85) K dX9_enters_56 rfl ?_
          refine f_iconst (v := 2) K dX9_enters_58 rfl ?_
          refine f_aload_n K dX9_enters_59 rfl ?_
          refine f_get (v := .ref (ad 0)) K fl_X9_7_X9 dX9_enters_60 (tw_o ht) rfl ?_
          refine f_bipush (v := 9) K dX9_enters_63 rfl ?_
          refine f_iald (j := 9) K dX9_enters_65 (tw_a0 ht) nl_9 (by decide) (by decide) ?_
          refine f_imul K dX9_enters_66 ?_
          refine f_iadd K dX9_enters_67 ?_
          refine f_iload_n K dX9_enters_68 rfl ?_
          refine f_iast (j := 123) K dX9_enters_69 (tw_a0 ht) (nia nl_85 (nim nl_2 (by show f0 9 - 1 = nI 19; rw [c_9]; rfl))) (by decide) (by decide) (tw_lo0 ht) (fun H7 hU ho => ?_)
          have hk := hk.st (j := 0) (by decide) hU
          have ht := tw_st0 ht hU ho
          refine f_aload_n K dX9_enters_70 rfl ?_
          refine f_get (v := .ref (ad 0)) K fl_X9_7_X9 dX9_enters_71 (tw_o ht) rfl ?_
          refine f_bipush (v := 85) K dX9_enters_74 rfl ?_
          refine f_iconst (v := 2) K dX9_enters_76 rfl ?_
          refine f_aload_n K dX9_enters_77 rfl ?_
          refine f_get (v := .ref (ad 0)) K fl_X9_7_X9 dX9_enters_78 (tw_o ht) rfl ?_
          refine f_bipush (v := 9) K dX9_enters_81 rfl ?_
          refine f_iald (j := 9) K dX9_enters_83 (tw_a0 ht) nl_9 (by decide) (by decide) ?_
          refine f_imul K dX9_enters_84 ?_
          refine f_iadd K dX9_enters_85 ?_
          refine f_iconst (v := 1) K dX9_enters_86 rfl ?_
          refine f_iadd K dX9_enters_87 ?_
          refine f_aload_n K dX9_enters_88 rfl ?_
          refine f_get (v := .ref (ad 0)) K fl_X9_7_X9 dX9_enters_89 (tw_o ht) rfl ?_
          refine f_bipush (v := 7) K dX9_enters_92 rfl ?_
          refine f_iald (j := 7) K dX9_enters_94 (tw_a0 ht) nl_7 (by decide) (by decide) ?_
          refine f_iast (j := 124) K dX9_enters_95 (tw_a0 ht) (nia (nia nl_85 (nim nl_2 (by show f0 9 - 1 = nI 19; rw [c_9]; rfl))) nl_1) (by decide) (by decide) (tw_lo0 ht) (fun H8 hU ho => ?_)
          have hk := hk.st (j := 0) (by decide) hU
          have ht := tw_st0 ht hU ho
          refine f_aload_n K dX9_enters_96 rfl ?_
          refine f_get (v := .ref (ad 0)) K fl_X9_7_X9 dX9_enters_97 (tw_o ht) rfl ?_
          refine f_bipush (v := 9) K dX9_enters_100 rfl ?_
          refine f_dup2 K dX9_enters_102 rfl rfl ?_
          refine f_iald (j := 9) K dX9_enters_103 (tw_a0 ht) nl_9 (by decide) (by decide) ?_
          refine f_iconst (v := 1) K dX9_enters_104 rfl ?_
          refine f_iadd K dX9_enters_105 ?_
          refine f_iast (j := 9) K dX9_enters_106 (tw_a0 ht) nl_9 (by decide) (by decide) (tw_lo0 ht) (fun H9 hU ho => ?_)
          have hk := hk.st (j := 0) (by decide) hU
          have ht := tw_st0 ht hU ho
          exact f_retV K X rfl dX9_enters_107 (Nat.le_of_ble_eq_true rfl) (Nat.le_of_ble_eq_true rfl) (⟨rfl, by rw [← ent_eq (f := f0) (b := 19) (g := upd (shf f0 85 123 2) 9 (f0 9 - 1)) (by rw [sp_room, if_pos c_9]; rfl) (by show f0 9 - 1 = nI 19; rw [c_9]; rfl) (by decide)]; exact ht, hk⟩)
        · exact absurd (by rw [h_i]; exact nI_le (a := 123) (b := i) (by omega) (by omega)) c_18
      | succ d ih =>
        intro i x_i G h_i hd ht hk hi85
        refine f_iload_n K dX9_enters_15 rfl ?_
        refine f_bipush (v := 123) K dX9_enters_16 rfl ?_
        refine f_icmp_ge (tgt := 41) K dX9_enters_18 (by decide) (fun c_18 => ?_) (fun c_18 => ?_)
        · exact absurd c_18 (by rw [h_i]; exact nI_ge (a := i) (b := 123) (by omega) (by decide))
        · refine f_aload_n K dX9_enters_21 rfl ?_
          refine f_get (v := .ref (ad 0)) K fl_X9_7_X9 dX9_enters_22 (tw_o ht) rfl ?_
          refine f_iload_n K dX9_enters_25 rfl ?_
          refine f_aload_n K dX9_enters_26 rfl ?_
          refine f_get (v := .ref (ad 0)) K fl_X9_7_X9 dX9_enters_27 (tw_o ht) rfl ?_
          refine f_iload_n K dX9_enters_30 rfl ?_
          refine f_iconst (v := 2) K dX9_enters_31 rfl ?_
          refine f_iadd K dX9_enters_32 ?_
          refine f_iald (j := (i + 2)) K dX9_enters_33 (tw_a0 ht) (nia h_i nl_2) (by omega) (by decide) ?_
          refine f_iast (j := i) K dX9_enters_34 (tw_a0 ht) h_i (by omega) (by decide) (tw_lo0 ht) (fun H11 hU ho => ?_)
          have hk := hk.st (j := 0) (by decide) hU
          have ht := tw_st0 ht hU ho
          refine f_iinc (v := x_i + 1) (lv' := [(2, .int (x_i + 1)), (0, .ref m), (1, .int kind)]) K dX9_enters_35 rfl rfl (by decide) rfl ?_
          refine f_goto (tgt := 15) K dX9_enters_38 (by decide) ?_
          rw [shf_s (by omega)] at ht
          exact ih ((i + 1)) _ _ (nia h_i nl_1) (by omega) ht hk (by omega)
    exact loop (123 - 85) 85 _ _ nl_85 (by omega) (by rw [shf_0]; exact ht) hk (Nat.le_refl _)
theorem sb_m {x : Int32} {k : Nat} (h : x = nI k) (h0 : 1 ≤ k) : x + sp_step 1 = nI (k - 1) := by
  rw [h]
  obtain ⟨z, rfl⟩ : ∃ z, k = z + 1 := ⟨k - 1, by omega⟩
  exact pk_m1 z
theorem sb_p {x : Int32} {k : Nat} (h : x = nI k) : x + sp_step 0 = nI (k + 1) := by rw [h]; exact nI_1 k
/-- sendsBack(I)V -/
theorem tm_sendsBack {E : fE} {H : Heap} {m : Nat} {ad : Nat → Nat} {sc f0 f1 f2 f3 f4 fb ft fo : Row} (ht : twAt E H m ad sc f0 f1 f2 f3 f4 fb ft fo) (x_p : Int32) {p : Nat} (h_p : x_p = nI p) {n t : Nat} (hp : p < 2) (ok : okr n t f0) : fM E yX9_sendsBack prog_17_method_26_code 3 none 3 0 0 [.ref m, .int x_p] H (fun r_ H' => r_ = none ∧ twAt E H' m ad sc (sp_sb f0 p) f1 f2 f3 f4 fb ft fo ∧ twK m ad H H') noX := by
  refine f_start (own := "SnowPassModel") (nm := "sendsBack") (lv := [(0, .ref m), (1, .int x_p)]) pn_X9 rfl rfl (Nat.le_of_ble_eq_true rfl) rfl (fun Z K X => ?_)
  have hb9 := ok.1; have hn := ok.n; have ht1 := ok.t
  have hk := twK.rf (m := m) (ad := ad) (H := H)
  rcases (by omega : p = 0 ∨ p = 1) with rfl | rfl
  · refine f_aload_n K dX9_sendsBack_0 rfl ?_
    refine f_iload_n K dX9_sendsBack_1 rfl ?_
    refine f_invV (As := [.int x_p]) (rest := []) K (tm_valleyOf (E := E) (p := 0) ht x_p h_p hn (by omega) (by omega)) cs_X9_76 dX9_sendsBack_2 (tw_o ht) rfl rfl rfl (Nat.le_of_ble_eq_true rfl) (Nat.le_of_ble_eq_true rfl) (Nat.le_of_ble_eq_true rfl) (Nat.le_of_ble_eq_true rfl) (fun v H1 hq hz => ?_) (fun _ _ _ h9 _ _ => h9.elim)
    obtain ⟨rfl, hq⟩ := hq
    rw [hq]
    change Go E Z 3 H (0) (0) 5 [(0, .ref m), (1, .int x_p)] [.int (nI (if 0 = 0 then 0 else n - 1))]
    refine f_istore_n (lv' := [(2, .int (nI (if 0 = 0 then 0 else n - 1))), (0, .ref m), (1, .int x_p)]) K dX9_sendsBack_5 (by decide) rfl ?_
    have loop : ∀ (d k : Nat) (x_s : Int32), x_s = nI k → k + d = t → k < n → sp_back f0 0 = sp_up f0 t (d + (20 - t)) k → Go E Z 3 H (0) (0) 6 [(2, .int x_s), (0, .ref m), (1, .int x_p)] [] := by
      intro d
      induction d with
      | zero =>
        intro k x_s h_k hd hkn hu
        refine f_iload_n K dX9_sendsBack_6 rfl ?_
        refine f_aload_n K dX9_sendsBack_7 rfl ?_
        refine f_get (v := .ref (ad 0)) K fl_X9_7_X9 dX9_sendsBack_8 (tw_o ht) rfl ?_
        refine f_iconst (v := 1) K dX9_sendsBack_11 rfl ?_
        refine f_iald (j := 1) K dX9_sendsBack_12 (tw_a0 ht) nl_1 (by decide) (by decide) ?_
        refine f_icmp_eq (tgt := 34) K dX9_sendsBack_13 (by decide) (fun c_13 => ?_) (fun c_13 => ?_)
        · have hu2 : sp_back f0 0 = k := by
              rw [hu]
              cases (0 + (20 - t)) with
              | zero => rfl
              | succ z => exact if_neg (fun q => q.1 (by omega))
          refine f_aload_n K dX9_sendsBack_34 rfl ?_
          refine f_iload_n K dX9_sendsBack_35 rfl ?_
          refine f_iconst (v := 0) K dX9_sendsBack_36 rfl ?_
          refine f_iload_n K dX9_sendsBack_37 rfl ?_
          refine f_invV (As := [.int x_p, .int 0, .int x_s]) (rest := []) K (tm_putsPlough (E := E) (p := 0) (w := 0) ht x_p h_p 0 nl_0 x_s (by omega)) cs_X9_87 dX9_sendsBack_38 (tw_o ht) rfl rfl rfl (Nat.le_of_ble_eq_true rfl) (Nat.le_of_ble_eq_true rfl) (Nat.le_of_ble_eq_true rfl) (Nat.le_of_ble_eq_true rfl) (fun v H3 hq hz => ?_) (fun _ _ _ h9 _ _ => h9.elim)
          obtain ⟨rfl, ht, hk1⟩ := hq
          have hk := hk.tr hk1
          have ht : twAt E H3 m ad sc (upd f0 17 x_s) f1 f2 f3 f4 fb ft fo := ht
          change Go E Z 3 H3 (0) (0) 41 [(2, .int x_s), (0, .ref m), (1, .int x_p)] []
          exact f_retV K X rfl dX9_sendsBack_41 (Nat.le_of_ble_eq_true rfl) (Nat.le_of_ble_eq_true rfl) (⟨rfl, by rw [sp_sb, hu2, ← h_k]; exact ht, hk⟩)
        · exact absurd (by rw [h_k, ht1, show k = t by omega]) c_13
      | succ d ih =>
        intro k x_s h_k hd hkn hu
        rw [show d + 1 + (20 - t) = (d + (20 - t)) + 1 by omega] at hu
        refine f_iload_n K dX9_sendsBack_6 rfl ?_
        refine f_aload_n K dX9_sendsBack_7 rfl ?_
        refine f_get (v := .ref (ad 0)) K fl_X9_7_X9 dX9_sendsBack_8 (tw_o ht) rfl ?_
        refine f_iconst (v := 1) K dX9_sendsBack_11 rfl ?_
        refine f_iald (j := 1) K dX9_sendsBack_12 (tw_a0 ht) nl_1 (by decide) (by decide) ?_
        refine f_icmp_eq (tgt := 34) K dX9_sendsBack_13 (by decide) (fun c_13 => ?_) (fun c_13 => ?_)
        · exact absurd ((nI_eq (by omega) (by omega)).mp (h_k.symm.trans (c_13.trans ht1))) (by omega)
        · refine f_aload_n K dX9_sendsBack_16 rfl ?_
          refine f_iload_n K dX9_sendsBack_17 rfl ?_
          refine f_invV (As := [.int x_s]) (rest := []) K (tm_isClearNow (E := E) (k := k) ht x_s h_k (by omega)) cs_X9_80 dX9_sendsBack_18 (tw_o ht) rfl rfl rfl (Nat.le_of_ble_eq_true rfl) (Nat.le_of_ble_eq_true rfl) (Nat.le_of_ble_eq_true rfl) (Nat.le_of_ble_eq_true rfl) (fun v H6 hq hz => ?_) (fun _ _ _ h9 _ _ => h9.elim)
          obtain ⟨rfl, hq⟩ := hq
          rw [hq]
          change Go E Z 3 H (0) (0) 21 [(2, .int x_s), (0, .ref m), (1, .int x_p)] [.int (bI (sp_clear f0 k))]
          refine f_if_eqB (tgt := 34) K dX9_sendsBack_21 (by decide) (fun c_21 => ?_) (fun c_21 => ?_)
          · have hu2 : sp_back f0 0 = k := by rw [hu]; exact if_neg (fun q => c_21 q.2)
            refine f_aload_n K dX9_sendsBack_34 rfl ?_
            refine f_iload_n K dX9_sendsBack_35 rfl ?_
            refine f_iconst (v := 0) K dX9_sendsBack_36 rfl ?_
            refine f_iload_n K dX9_sendsBack_37 rfl ?_
            refine f_invV (As := [.int x_p, .int 0, .int x_s]) (rest := []) K (tm_putsPlough (E := E) (p := 0) (w := 0) ht x_p h_p 0 nl_0 x_s (by omega)) cs_X9_87 dX9_sendsBack_38 (tw_o ht) rfl rfl rfl (Nat.le_of_ble_eq_true rfl) (Nat.le_of_ble_eq_true rfl) (Nat.le_of_ble_eq_true rfl) (Nat.le_of_ble_eq_true rfl) (fun v H8 hq hz => ?_) (fun _ _ _ h9 _ _ => h9.elim)
            obtain ⟨rfl, ht, hk1⟩ := hq
            have hk := hk.tr hk1
            have ht : twAt E H8 m ad sc (upd f0 17 x_s) f1 f2 f3 f4 fb ft fo := ht
            change Go E Z 3 H8 (0) (0) 41 [(2, .int x_s), (0, .ref m), (1, .int x_p)] []
            exact f_retV K X rfl dX9_sendsBack_41 (Nat.le_of_ble_eq_true rfl) (Nat.le_of_ble_eq_true rfl) (⟨rfl, by rw [sp_sb, hu2, ← h_k]; exact ht, hk⟩)
          · refine f_iload_n K dX9_sendsBack_24 rfl ?_
            refine f_iload_n K dX9_sendsBack_25 rfl ?_
            refine f_invS (As := [.int x_p]) (rest := [.int x_s]) K (tm_stepOf (E := E) (p := 0) x_p h_p (by omega)) cs_X9_84 dX9_sendsBack_26 rfl rfl (Nat.le_of_ble_eq_true rfl) (Nat.le_of_ble_eq_true rfl) (Nat.le_of_ble_eq_true rfl) (Nat.le_of_ble_eq_true rfl) (fun v H10 hq hz => ?_) (fun _ _ _ h9 _ _ => h9.elim)
            obtain ⟨rfl, hq⟩ := hq
            rw [hq]
            change Go E Z 3 H (0) (0) 29 [(2, .int x_s), (0, .ref m), (1, .int x_p)] [.int (sp_step 0), .int x_s]
            refine f_iadd K dX9_sendsBack_29 ?_
            refine f_istore_n (lv' := [(2, .int (x_s + (sp_step 0))), (0, .ref m), (1, .int x_p)]) K dX9_sendsBack_30 (by decide) rfl ?_
            refine f_goto (tgt := 6) K dX9_sendsBack_31 (by decide) ?_
            exact ih (k + 1) _ (sb_p h_k) (by omega) (by omega) (by rw [hu]; exact if_pos ⟨by omega, c_21⟩)
    exact loop t 0 _ nl_0 (by omega) (by omega) (by rw [sp_back0 ok, show t + (20 - t) = 20 by omega])
  · refine f_aload_n K dX9_sendsBack_0 rfl ?_
    refine f_iload_n K dX9_sendsBack_1 rfl ?_
    refine f_invV (As := [.int x_p]) (rest := []) K (tm_valleyOf (E := E) (p := 1) ht x_p h_p hn (by omega) (by omega)) cs_X9_76 dX9_sendsBack_2 (tw_o ht) rfl rfl rfl (Nat.le_of_ble_eq_true rfl) (Nat.le_of_ble_eq_true rfl) (Nat.le_of_ble_eq_true rfl) (Nat.le_of_ble_eq_true rfl) (fun v H11 hq hz => ?_) (fun _ _ _ h9 _ _ => h9.elim)
    obtain ⟨rfl, hq⟩ := hq
    rw [hq]
    change Go E Z 3 H (0) (0) 5 [(0, .ref m), (1, .int x_p)] [.int (nI (if 1 = 0 then 0 else n - 1))]
    refine f_istore_n (lv' := [(2, .int (nI (if 1 = 0 then 0 else n - 1))), (0, .ref m), (1, .int x_p)]) K dX9_sendsBack_5 (by decide) rfl ?_
    have loop : ∀ (d k : Nat) (x_s : Int32), x_s = nI k → k = t + d → k < n → sp_back f0 1 = sp_down f0 t (d + (20 - (n - 1 - t))) k → Go E Z 3 H (0) (0) 6 [(2, .int x_s), (0, .ref m), (1, .int x_p)] [] := by
      intro d
      induction d with
      | zero =>
        intro k x_s h_k hd hkn hu
        refine f_iload_n K dX9_sendsBack_6 rfl ?_
        refine f_aload_n K dX9_sendsBack_7 rfl ?_
        refine f_get (v := .ref (ad 0)) K fl_X9_7_X9 dX9_sendsBack_8 (tw_o ht) rfl ?_
        refine f_iconst (v := 1) K dX9_sendsBack_11 rfl ?_
        refine f_iald (j := 1) K dX9_sendsBack_12 (tw_a0 ht) nl_1 (by decide) (by decide) ?_
        refine f_icmp_eq (tgt := 34) K dX9_sendsBack_13 (by decide) (fun c_13 => ?_) (fun c_13 => ?_)
        · have hu2 : sp_back f0 1 = k := by
              rw [hu]
              cases (0 + (20 - (n - 1 - t))) with
              | zero => rfl
              | succ z => exact if_neg (fun q => q.1 (by omega))
          refine f_aload_n K dX9_sendsBack_34 rfl ?_
          refine f_iload_n K dX9_sendsBack_35 rfl ?_
          refine f_iconst (v := 0) K dX9_sendsBack_36 rfl ?_
          refine f_iload_n K dX9_sendsBack_37 rfl ?_
          refine f_invV (As := [.int x_p, .int 0, .int x_s]) (rest := []) K (tm_putsPlough (E := E) (p := 1) (w := 0) ht x_p h_p 0 nl_0 x_s (by omega)) cs_X9_87 dX9_sendsBack_38 (tw_o ht) rfl rfl rfl (Nat.le_of_ble_eq_true rfl) (Nat.le_of_ble_eq_true rfl) (Nat.le_of_ble_eq_true rfl) (Nat.le_of_ble_eq_true rfl) (fun v H13 hq hz => ?_) (fun _ _ _ h9 _ _ => h9.elim)
          obtain ⟨rfl, ht, hk1⟩ := hq
          have hk := hk.tr hk1
          have ht : twAt E H13 m ad sc (upd f0 21 x_s) f1 f2 f3 f4 fb ft fo := ht
          change Go E Z 3 H13 (0) (0) 41 [(2, .int x_s), (0, .ref m), (1, .int x_p)] []
          exact f_retV K X rfl dX9_sendsBack_41 (Nat.le_of_ble_eq_true rfl) (Nat.le_of_ble_eq_true rfl) (⟨rfl, by rw [sp_sb, hu2, ← h_k]; exact ht, hk⟩)
        · exact absurd (by rw [h_k, ht1, show k = t by omega]) c_13
      | succ d ih =>
        intro k x_s h_k hd hkn hu
        rw [show d + 1 + (20 - (n - 1 - t)) = (d + (20 - (n - 1 - t))) + 1 by omega] at hu
        refine f_iload_n K dX9_sendsBack_6 rfl ?_
        refine f_aload_n K dX9_sendsBack_7 rfl ?_
        refine f_get (v := .ref (ad 0)) K fl_X9_7_X9 dX9_sendsBack_8 (tw_o ht) rfl ?_
        refine f_iconst (v := 1) K dX9_sendsBack_11 rfl ?_
        refine f_iald (j := 1) K dX9_sendsBack_12 (tw_a0 ht) nl_1 (by decide) (by decide) ?_
        refine f_icmp_eq (tgt := 34) K dX9_sendsBack_13 (by decide) (fun c_13 => ?_) (fun c_13 => ?_)
        · exact absurd ((nI_eq (by omega) (by omega)).mp (h_k.symm.trans (c_13.trans ht1))) (by omega)
        · refine f_aload_n K dX9_sendsBack_16 rfl ?_
          refine f_iload_n K dX9_sendsBack_17 rfl ?_
          refine f_invV (As := [.int x_s]) (rest := []) K (tm_isClearNow (E := E) (k := k) ht x_s h_k (by omega)) cs_X9_80 dX9_sendsBack_18 (tw_o ht) rfl rfl rfl (Nat.le_of_ble_eq_true rfl) (Nat.le_of_ble_eq_true rfl) (Nat.le_of_ble_eq_true rfl) (Nat.le_of_ble_eq_true rfl) (fun v H16 hq hz => ?_) (fun _ _ _ h9 _ _ => h9.elim)
          obtain ⟨rfl, hq⟩ := hq
          rw [hq]
          change Go E Z 3 H (0) (0) 21 [(2, .int x_s), (0, .ref m), (1, .int x_p)] [.int (bI (sp_clear f0 k))]
          refine f_if_eqB (tgt := 34) K dX9_sendsBack_21 (by decide) (fun c_21 => ?_) (fun c_21 => ?_)
          · have hu2 : sp_back f0 1 = k := by rw [hu]; exact if_neg (fun q => c_21 q.2)
            refine f_aload_n K dX9_sendsBack_34 rfl ?_
            refine f_iload_n K dX9_sendsBack_35 rfl ?_
            refine f_iconst (v := 0) K dX9_sendsBack_36 rfl ?_
            refine f_iload_n K dX9_sendsBack_37 rfl ?_
            refine f_invV (As := [.int x_p, .int 0, .int x_s]) (rest := []) K (tm_putsPlough (E := E) (p := 1) (w := 0) ht x_p h_p 0 nl_0 x_s (by omega)) cs_X9_87 dX9_sendsBack_38 (tw_o ht) rfl rfl rfl (Nat.le_of_ble_eq_true rfl) (Nat.le_of_ble_eq_true rfl) (Nat.le_of_ble_eq_true rfl) (Nat.le_of_ble_eq_true rfl) (fun v H18 hq hz => ?_) (fun _ _ _ h9 _ _ => h9.elim)
            obtain ⟨rfl, ht, hk1⟩ := hq
            have hk := hk.tr hk1
            have ht : twAt E H18 m ad sc (upd f0 21 x_s) f1 f2 f3 f4 fb ft fo := ht
            change Go E Z 3 H18 (0) (0) 41 [(2, .int x_s), (0, .ref m), (1, .int x_p)] []
            exact f_retV K X rfl dX9_sendsBack_41 (Nat.le_of_ble_eq_true rfl) (Nat.le_of_ble_eq_true rfl) (⟨rfl, by rw [sp_sb, hu2, ← h_k]; exact ht, hk⟩)
          · refine f_iload_n K dX9_sendsBack_24 rfl ?_
            refine f_iload_n K dX9_sendsBack_25 rfl ?_
            refine f_invS (As := [.int x_p]) (rest := [.int x_s]) K (tm_stepOf (E := E) (p := 1) x_p h_p (by omega)) cs_X9_84 dX9_sendsBack_26 rfl rfl (Nat.le_of_ble_eq_true rfl) (Nat.le_of_ble_eq_true rfl) (Nat.le_of_ble_eq_true rfl) (Nat.le_of_ble_eq_true rfl) (fun v H20 hq hz => ?_) (fun _ _ _ h9 _ _ => h9.elim)
            obtain ⟨rfl, hq⟩ := hq
            rw [hq]
            change Go E Z 3 H (0) (0) 29 [(2, .int x_s), (0, .ref m), (1, .int x_p)] [.int (sp_step 1), .int x_s]
            refine f_iadd K dX9_sendsBack_29 ?_
            refine f_istore_n (lv' := [(2, .int (x_s + (sp_step 1))), (0, .ref m), (1, .int x_p)]) K dX9_sendsBack_30 (by decide) rfl ?_
            refine f_goto (tgt := 6) K dX9_sendsBack_31 (by decide) ?_
            exact ih (k - 1) _ (sb_m h_k (by omega)) (by omega) (by omega) (by rw [hu]; exact if_pos ⟨by omega, c_21⟩)
    exact loop (n - 1 - t) (n - 1) _ (by rfl) (by omega) (by omega) (by rw [sp_back1 ok, show n - 1 - t + (20 - (n - 1 - t)) = 20 by omega])
/-- signs(I)V -/
theorem tm_signs {E : fE} {H : Heap} {m : Nat} {ad : Nat → Nat} {sc f0 f1 f2 f3 f4 fb ft fo : Row} (ht : twAt E H m ad sc f0 f1 f2 f3 f4 fb ft fo) (x_p : Int32) {p : Nat} (h_p : x_p = nI p) {n t : Nat} (hp : p < 2) (ok : okr n t f0) : fM E yX9_signs prog_17_method_27_code 2 none 3 0 0 [.ref m, .int x_p] H (fun r_ H' => r_ = none ∧ twAt E H' m ad sc (sp_sign f0 p) f1 f2 f3 f4 fb ft fo ∧ twK m ad H H') noX := by
  refine f_start (own := "SnowPassModel") (nm := "signs") (lv := [(0, .ref m), (1, .int x_p)]) pn_X9 rfl rfl (Nat.le_of_ble_eq_true rfl) rfl (fun Z K X => ?_)
  have hk := twK.rf (m := m) (ad := ad) (H := H)
  rcases (by omega : p = 0 ∨ p = 1) with rfl | rfl
  · refine f_aload_n K dX9_signs_0 rfl ?_
    refine f_iload_n K dX9_signs_1 rfl ?_
    refine f_iconst (v := 3) K dX9_signs_2 rfl ?_
    refine f_iconst (v := 1) K dX9_signs_3 rfl ?_
    refine f_invV (As := [.int x_p, .int 3, .int 1]) (rest := []) K (tm_putsPlough (E := E) (p := 0) (w := 3) ht x_p h_p 3 nl_3 1 (by omega)) cs_X9_87 dX9_signs_4 (tw_o ht) rfl rfl rfl (Nat.le_of_ble_eq_true rfl) (Nat.le_of_ble_eq_true rfl) (Nat.le_of_ble_eq_true rfl) (Nat.le_of_ble_eq_true rfl) (fun v H1 hq hz => ?_) (fun _ _ _ h9 _ _ => h9.elim)
    obtain ⟨rfl, ht, hk1⟩ := hq
    have hk := hk.tr hk1
    have ht : twAt E H1 m ad sc (upd f0 20 1) f1 f2 f3 f4 fb ft fo := ht
    change Go E Z 2 H1 (0) (0) 7 [(0, .ref m), (1, .int x_p)] []
    refine f_aload_n K dX9_signs_7 rfl ?_
    refine f_iload_n K dX9_signs_8 rfl ?_
    refine f_if_ne (tgt := 16) K dX9_signs_9 (by decide) (fun c_9 => ?_) (fun c_9 => ?_)
    · exact absurd c_9 (by rw [h_p]; decide)
    · refine f_iconst (v := 0) K dX9_signs_12 rfl ?_
      refine f_goto (tgt := 17) K dX9_signs_13 (by decide) ?_
      obtain ⟨b_, hb2_, hb_⟩ := (okr_sg ok hp (Or.inr rfl)).b
      refine f_invV (As := [.int 0]) (rest := []) K (tm_enters (E := E)  ht 0 hb_ hb2_) cs_X9_91 dX9_signs_17 (tw_o ht) rfl rfl rfl (Nat.le_of_ble_eq_true rfl) (Nat.le_of_ble_eq_true rfl) (Nat.le_of_ble_eq_true rfl) (Nat.le_of_ble_eq_true rfl) (fun v H4 hq hz => ?_) (fun _ _ _ h9 _ _ => h9.elim)
      obtain ⟨rfl, ht, hk1⟩ := hq
      have hk := hk.tr hk1
      have ht : twAt E H4 m ad sc (sp_ent (upd f0 20 1) 0) f1 f2 f3 f4 fb ft fo := ht
      change Go E Z 2 H4 (0) (0) 20 [(0, .ref m), (1, .int x_p)] []
      refine f_aload_n K dX9_signs_20 rfl ?_
      refine f_invV (As := []) (rest := []) K (tm_isOpenNow (E := E)  ht ) cs_X9_95 dX9_signs_21 (tw_o ht) rfl rfl rfl (Nat.le_of_ble_eq_true rfl) (Nat.le_of_ble_eq_true rfl) (Nat.le_of_ble_eq_true rfl) (Nat.le_of_ble_eq_true rfl) (fun v H6 hq hz => ?_) (fun _ _ _ h9 _ _ => h9.elim)
      obtain ⟨rfl, hq⟩ := hq
      rw [hq]
      change Go E Z 2 H4 (0) (0) 24 [(0, .ref m), (1, .int x_p)] [.int (bI (sp_open (sp_ent (upd f0 20 1) 0)))]
      refine f_if_eqB (tgt := 32) K dX9_signs_24 (by decide) (fun c_24 => ?_) (fun c_24 => ?_)
      · exact f_retV K X rfl dX9_signs_32 (Nat.le_of_ble_eq_true rfl) (Nat.le_of_ble_eq_true rfl) (⟨rfl, by rw [show sp_sign f0 0 = _ from if_neg c_24]; exact ht, hk⟩)
      · refine f_aload_n K dX9_signs_27 rfl ?_
        refine f_iconst (v := 2) K dX9_signs_28 rfl ?_
        obtain ⟨b_, hb2_, hb_⟩ := (okr_ent (okr_sg ok hp (Or.inr rfl)) _).b
        refine f_invV (As := [.int 2]) (rest := []) K (tm_enters (E := E)  ht 2 hb_ hb2_) cs_X9_91 dX9_signs_29 (tw_o ht) rfl rfl rfl (Nat.le_of_ble_eq_true rfl) (Nat.le_of_ble_eq_true rfl) (Nat.le_of_ble_eq_true rfl) (Nat.le_of_ble_eq_true rfl) (fun v H8 hq hz => ?_) (fun _ _ _ h9 _ _ => h9.elim)
        obtain ⟨rfl, ht, hk1⟩ := hq
        have hk := hk.tr hk1
        have ht : twAt E H8 m ad sc (sp_ent (sp_ent (upd f0 20 1) 0) 2) f1 f2 f3 f4 fb ft fo := ht
        change Go E Z 2 H8 (0) (0) 32 [(0, .ref m), (1, .int x_p)] []
        exact f_retV K X rfl dX9_signs_32 (Nat.le_of_ble_eq_true rfl) (Nat.le_of_ble_eq_true rfl) (⟨rfl, by rw [show sp_sign f0 0 = _ from if_pos c_24]; exact ht, hk⟩)
  · refine f_aload_n K dX9_signs_0 rfl ?_
    refine f_iload_n K dX9_signs_1 rfl ?_
    refine f_iconst (v := 3) K dX9_signs_2 rfl ?_
    refine f_iconst (v := 1) K dX9_signs_3 rfl ?_
    refine f_invV (As := [.int x_p, .int 3, .int 1]) (rest := []) K (tm_putsPlough (E := E) (p := 1) (w := 3) ht x_p h_p 3 nl_3 1 (by omega)) cs_X9_87 dX9_signs_4 (tw_o ht) rfl rfl rfl (Nat.le_of_ble_eq_true rfl) (Nat.le_of_ble_eq_true rfl) (Nat.le_of_ble_eq_true rfl) (Nat.le_of_ble_eq_true rfl) (fun v H10 hq hz => ?_) (fun _ _ _ h9 _ _ => h9.elim)
    obtain ⟨rfl, ht, hk1⟩ := hq
    have hk := hk.tr hk1
    have ht : twAt E H10 m ad sc (upd f0 24 1) f1 f2 f3 f4 fb ft fo := ht
    change Go E Z 2 H10 (0) (0) 7 [(0, .ref m), (1, .int x_p)] []
    refine f_aload_n K dX9_signs_7 rfl ?_
    refine f_iload_n K dX9_signs_8 rfl ?_
    refine f_if_ne (tgt := 16) K dX9_signs_9 (by decide) (fun c_9 => ?_) (fun c_9 => ?_)
    · refine f_iconst (v := 1) K dX9_signs_16 rfl ?_
      obtain ⟨b_, hb2_, hb_⟩ := (okr_sg ok hp (Or.inr rfl)).b
      refine f_invV (As := [.int 1]) (rest := []) K (tm_enters (E := E)  ht 1 hb_ hb2_) cs_X9_91 dX9_signs_17 (tw_o ht) rfl rfl rfl (Nat.le_of_ble_eq_true rfl) (Nat.le_of_ble_eq_true rfl) (Nat.le_of_ble_eq_true rfl) (Nat.le_of_ble_eq_true rfl) (fun v H13 hq hz => ?_) (fun _ _ _ h9 _ _ => h9.elim)
      obtain ⟨rfl, ht, hk1⟩ := hq
      have hk := hk.tr hk1
      have ht : twAt E H13 m ad sc (sp_ent (upd f0 24 1) 1) f1 f2 f3 f4 fb ft fo := ht
      change Go E Z 2 H13 (0) (0) 20 [(0, .ref m), (1, .int x_p)] []
      refine f_aload_n K dX9_signs_20 rfl ?_
      refine f_invV (As := []) (rest := []) K (tm_isOpenNow (E := E)  ht ) cs_X9_95 dX9_signs_21 (tw_o ht) rfl rfl rfl (Nat.le_of_ble_eq_true rfl) (Nat.le_of_ble_eq_true rfl) (Nat.le_of_ble_eq_true rfl) (Nat.le_of_ble_eq_true rfl) (fun v H15 hq hz => ?_) (fun _ _ _ h9 _ _ => h9.elim)
      obtain ⟨rfl, hq⟩ := hq
      rw [hq]
      change Go E Z 2 H13 (0) (0) 24 [(0, .ref m), (1, .int x_p)] [.int (bI (sp_open (sp_ent (upd f0 24 1) 1)))]
      refine f_if_eqB (tgt := 32) K dX9_signs_24 (by decide) (fun c_24 => ?_) (fun c_24 => ?_)
      · exact f_retV K X rfl dX9_signs_32 (Nat.le_of_ble_eq_true rfl) (Nat.le_of_ble_eq_true rfl) (⟨rfl, by rw [show sp_sign f0 1 = _ from if_neg c_24]; exact ht, hk⟩)
      · refine f_aload_n K dX9_signs_27 rfl ?_
        refine f_iconst (v := 2) K dX9_signs_28 rfl ?_
        obtain ⟨b_, hb2_, hb_⟩ := (okr_ent (okr_sg ok hp (Or.inr rfl)) _).b
        refine f_invV (As := [.int 2]) (rest := []) K (tm_enters (E := E)  ht 2 hb_ hb2_) cs_X9_91 dX9_signs_29 (tw_o ht) rfl rfl rfl (Nat.le_of_ble_eq_true rfl) (Nat.le_of_ble_eq_true rfl) (Nat.le_of_ble_eq_true rfl) (Nat.le_of_ble_eq_true rfl) (fun v H17 hq hz => ?_) (fun _ _ _ h9 _ _ => h9.elim)
        obtain ⟨rfl, ht, hk1⟩ := hq
        have hk := hk.tr hk1
        have ht : twAt E H17 m ad sc (sp_ent (sp_ent (upd f0 24 1) 1) 2) f1 f2 f3 f4 fb ft fo := ht
        change Go E Z 2 H17 (0) (0) 32 [(0, .ref m), (1, .int x_p)] []
        exact f_retV K X rfl dX9_signs_32 (Nat.le_of_ble_eq_true rfl) (Nat.le_of_ble_eq_true rfl) (⟨rfl, by rw [show sp_sign f0 1 = _ from if_pos c_24]; exact ht, hk⟩)
    · exact absurd c_9 (by rw [h_p]; decide)
/-- works(I)V -/
theorem tm_works {E : fE} {H : Heap} {m : Nat} {ad : Nat → Nat} {sc f0 f1 f2 f3 f4 fb ft fo : Row} (ht : twAt E H m ad sc f0 f1 f2 f3 f4 fb ft fo) (x_p : Int32) {p : Nat} (h_p : x_p = nI p) {n t : Nat} (hp : p < 2) (ok : okr n t f0) : fM E yX9_works prog_17_method_28_code 4 none 4 0 0 [.ref m, .int x_p] H (fun r_ H' => r_ = none ∧ twAt E H' m ad sc (sp_work f0 p) f1 f2 f3 f4 fb ft fo ∧ twK m ad H H') noX := by
  refine f_start (own := "SnowPassModel") (nm := "works") (lv := [(0, .ref m), (1, .int x_p)]) pn_X9 rfl rfl (Nat.le_of_ble_eq_true rfl) rfl (fun Z K X => ?_)
  have hb9 := ok.1; have hn := ok.n; have ht1 := ok.t
  obtain ⟨kp, hkp, ekp⟩ := okr_pos ok hp
  have hk := twK.rf (m := m) (ad := ad) (H := H)
  rcases (by omega : p = 0 ∨ p = 1) with rfl | rfl
  · refine f_aload_n K dX9_works_0 rfl ?_
    refine f_iload_n K dX9_works_1 rfl ?_
    refine f_iconst (v := 3) K dX9_works_2 rfl ?_
    refine f_invV (As := [.int x_p, .int 3]) (rest := []) K (tm_ofPlough (E := E) (p := 0) (w := 3) ht x_p h_p 3 nl_3 (by omega)) cs_X9_70 dX9_works_3 (tw_o ht) rfl rfl rfl (Nat.le_of_ble_eq_true rfl) (Nat.le_of_ble_eq_true rfl) (Nat.le_of_ble_eq_true rfl) (Nat.le_of_ble_eq_true rfl) (fun v H1 hq hz => ?_) (fun _ _ _ h9 _ _ => h9.elim)
    obtain ⟨rfl, hq⟩ := hq
    rw [hq]
    change Go E Z 4 H (0) (0) 6 [(0, .ref m), (1, .int x_p)] [.int (f0 20)]
    refine f_iconst (v := 1) K dX9_works_6 rfl ?_
    refine f_icmp_ne (tgt := 11) K dX9_works_7 (by decide) (fun c_7 => ?_) (fun c_7 => ?_)
    · refine f_aload_n K dX9_works_11 rfl ?_
      refine f_iload_n K dX9_works_12 rfl ?_
      refine f_iconst (v := 0) K dX9_works_13 rfl ?_
      refine f_invV (As := [.int x_p, .int 0]) (rest := []) K (tm_ofPlough (E := E) (p := 0) (w := 0) ht x_p h_p 0 nl_0 (by omega)) cs_X9_70 dX9_works_14 (tw_o ht) rfl rfl rfl (Nat.le_of_ble_eq_true rfl) (Nat.le_of_ble_eq_true rfl) (Nat.le_of_ble_eq_true rfl) (Nat.le_of_ble_eq_true rfl) (fun v H3 hq hz => ?_) (fun _ _ _ h9 _ _ => h9.elim)
      obtain ⟨rfl, hq⟩ := hq
      rw [hq]
      change Go E Z 4 H (0) (0) 17 [(0, .ref m), (1, .int x_p)] [.int (f0 17)]
      refine f_istore_n (lv' := [(2, .int (f0 17)), (0, .ref m), (1, .int x_p)]) K dX9_works_17 (by decide) rfl ?_
      refine f_aload_n K dX9_works_18 rfl ?_
      refine f_iload_n K dX9_works_19 rfl ?_
      refine f_invV (As := [.int (f0 17)]) (rest := []) K (tm_isClearNow (E := E) (k := kp) ht (f0 17) ekp (by omega)) cs_X9_80 dX9_works_20 (tw_o ht) rfl rfl rfl (Nat.le_of_ble_eq_true rfl) (Nat.le_of_ble_eq_true rfl) (Nat.le_of_ble_eq_true rfl) (Nat.le_of_ble_eq_true rfl) (fun v H4 hq hz => ?_) (fun _ _ _ h9 _ _ => h9.elim)
      obtain ⟨rfl, hq⟩ := hq
      rw [hq]
      change Go E Z 4 H (0) (0) 23 [(2, .int (f0 17)), (0, .ref m), (1, .int x_p)] [.int (bI (sp_clear f0 kp))]
      refine f_if_neB (tgt := 67) K dX9_works_23 (by decide) (fun c_23 => ?_) (fun c_23 => ?_)
      · have hcl : sp_clr f0 0 kp = f0 := if_pos c_23
        rw [← hcl] at ht
        have okc := okr_clr (p := 0) ok hp hkp
        have hw : sp_work f0 0 = sp_work1 f0 (sp_clr f0 0 kp) 0 kp := by rw [show sp_work f0 0 = sp_work1 f0 (sp_clr f0 0 (f0 17).toNatClampNeg) 0 (f0 17).toNatClampNeg from if_neg c_7, ekp, nI_clamp (by omega)]
        refine f_aload_n K dX9_works_67 rfl ?_
        refine f_iload_n K dX9_works_68 rfl ?_
        refine f_invV (As := [.int (f0 17)]) (rest := []) K (tm_isClearNow (E := E) (k := kp) ht (f0 17) ekp (by omega)) cs_X9_80 dX9_works_69 (tw_o ht) rfl rfl rfl (Nat.le_of_ble_eq_true rfl) (Nat.le_of_ble_eq_true rfl) (Nat.le_of_ble_eq_true rfl) (Nat.le_of_ble_eq_true rfl) (fun v H6 hq hz => ?_) (fun _ _ _ h9 _ _ => h9.elim)
        obtain ⟨rfl, hq⟩ := hq
        rw [hq]
        change Go E Z 4 H (0) (0) 72 [(2, .int (f0 17)), (0, .ref m), (1, .int x_p)] [.int (bI (sp_clear (sp_clr f0 0 kp) kp))]
        refine f_if_neB (tgt := 76) K dX9_works_72 (by decide) (fun c_72 => ?_) (fun c_72 => ?_)
        · refine f_iload_n K dX9_works_76 rfl ?_
          refine f_aload_n K dX9_works_77 rfl ?_
          refine f_get (v := .ref (ad 0)) K fl_X9_7_X9 dX9_works_78 (tw_o ht) rfl ?_
          refine f_iconst (v := 1) K dX9_works_81 rfl ?_
          refine f_iald (j := 1) K dX9_works_82 (tw_a0 ht) nl_1 (by decide) (by decide) ?_
          refine f_icmp_ne (tgt := 94) K dX9_works_83 (by decide) (fun c_83 => ?_) (fun c_83 => ?_)
          · refine f_aload_n K dX9_works_94 rfl ?_
            refine f_iload_n K dX9_works_95 rfl ?_
            refine f_iconst (v := 0) K dX9_works_96 rfl ?_
            refine f_iload_n K dX9_works_97 rfl ?_
            refine f_iload_n K dX9_works_98 rfl ?_
            refine f_invS (As := [.int x_p]) (rest := [.int (f0 17), .int 0, .int x_p, .ref m]) K (tm_stepOf (E := E) (p := 0) x_p h_p (by omega)) cs_X9_84 dX9_works_99 rfl rfl (Nat.le_of_ble_eq_true rfl) (Nat.le_of_ble_eq_true rfl) (Nat.le_of_ble_eq_true rfl) (Nat.le_of_ble_eq_true rfl) (fun v H9 hq hz => ?_) (fun _ _ _ h9 _ _ => h9.elim)
            obtain ⟨rfl, hq⟩ := hq
            rw [hq]
            change Go E Z 4 H (0) (0) 102 [(2, .int (f0 17)), (0, .ref m), (1, .int x_p)] [.int (sp_step 0), .int (f0 17), .int 0, .int x_p, .ref m]
            refine f_iadd K dX9_works_102 ?_
            refine f_invV (As := [.int x_p, .int 0, .int ((f0 17) + (sp_step 0))]) (rest := []) K (tm_putsPlough (E := E) (p := 0) (w := 0) ht x_p h_p 0 nl_0 ((f0 17) + (sp_step 0)) (by omega)) cs_X9_87 dX9_works_103 (tw_o ht) rfl rfl rfl (Nat.le_of_ble_eq_true rfl) (Nat.le_of_ble_eq_true rfl) (Nat.le_of_ble_eq_true rfl) (Nat.le_of_ble_eq_true rfl) (fun v H10 hq hz => ?_) (fun _ _ _ h9 _ _ => h9.elim)
            obtain ⟨rfl, ht, hk1⟩ := hq
            have hk := hk.tr hk1
            have ht : twAt E H10 m ad sc (upd (sp_clr f0 0 kp) 17 ((f0 17) + (sp_step 0))) f1 f2 f3 f4 fb ft fo := ht
            change Go E Z 4 H10 (0) (0) 106 [(2, .int (f0 17)), (0, .ref m), (1, .int x_p)] []
            exact f_retV K X rfl dX9_works_106 (Nat.le_of_ble_eq_true rfl) (Nat.le_of_ble_eq_true rfl) (⟨rfl, by rw [hw, show sp_work1 f0 (sp_clr f0 0 kp) 0 kp = _ from (if_pos c_72).trans (if_neg c_83)]; exact ht, hk⟩)
          · refine f_aload_n K dX9_works_86 rfl ?_
            refine f_iload_n K dX9_works_87 rfl ?_
            refine f_invV (As := [.int x_p]) (rest := []) K (tm_signs (E := E) (p := 0) ht x_p h_p hp okc) cs_X9_107 dX9_works_88 (tw_o ht) rfl rfl rfl (Nat.le_of_ble_eq_true rfl) (Nat.le_of_ble_eq_true rfl) (Nat.le_of_ble_eq_true rfl) (Nat.le_of_ble_eq_true rfl) (fun v H12 hq hz => ?_) (fun _ _ _ h9 _ _ => h9.elim)
            obtain ⟨rfl, ht, hk1⟩ := hq
            have hk := hk.tr hk1
            have ht : twAt E H12 m ad sc (sp_sign (sp_clr f0 0 kp) 0) f1 f2 f3 f4 fb ft fo := ht
            change Go E Z 4 H12 (0) (0) 91 [(2, .int (f0 17)), (0, .ref m), (1, .int x_p)] []
            refine f_goto (tgt := 106) K dX9_works_91 (by decide) ?_
            exact f_retV K X rfl dX9_works_106 (Nat.le_of_ble_eq_true rfl) (Nat.le_of_ble_eq_true rfl) (⟨rfl, by rw [hw, show sp_work1 f0 (sp_clr f0 0 kp) 0 kp = _ from (if_pos c_72).trans (if_pos c_83)]; exact ht, hk⟩)
        · exact f_retV K X rfl dX9_works_75 (Nat.le_of_ble_eq_true rfl) (Nat.le_of_ble_eq_true rfl) (⟨rfl, by rw [hw, show sp_work1 f0 (sp_clr f0 0 kp) 0 kp = _ from if_neg c_72]; exact ht, hk⟩)
      · refine f_aload_n K dX9_works_26 rfl ?_
        refine f_iload_n K dX9_works_27 rfl ?_
        refine f_iconst (v := 1) K dX9_works_28 rfl ?_
        refine f_invV (As := [.int x_p, .int 1]) (rest := []) K (tm_ofPlough (E := E) (p := 0) (w := 1) ht x_p h_p 1 nl_1 (by omega)) cs_X9_70 dX9_works_29 (tw_o ht) rfl rfl rfl (Nat.le_of_ble_eq_true rfl) (Nat.le_of_ble_eq_true rfl) (Nat.le_of_ble_eq_true rfl) (Nat.le_of_ble_eq_true rfl) (fun v H14 hq hz => ?_) (fun _ _ _ h9 _ _ => h9.elim)
        obtain ⟨rfl, hq⟩ := hq
        rw [hq]
        change Go E Z 4 H (0) (0) 32 [(2, .int (f0 17)), (0, .ref m), (1, .int x_p)] [.int (f0 18)]
        refine f_aload_n K dX9_works_32 rfl ?_
        refine f_iload_n K dX9_works_33 rfl ?_
        refine f_iconst (v := 0) K dX9_works_34 rfl ?_
        refine f_invV (As := [.int (f0 17), .int 0]) (rest := [.int (f0 18)]) K (tm_of (E := E) (k := kp) (w := 0) ht (f0 17) ekp 0 nl_0 (by omega)) cs_X9_66 dX9_works_35 (tw_o ht) rfl rfl rfl (Nat.le_of_ble_eq_true rfl) (Nat.le_of_ble_eq_true rfl) (Nat.le_of_ble_eq_true rfl) (Nat.le_of_ble_eq_true rfl) (fun v H15 hq hz => ?_) (fun _ _ _ h9 _ _ => h9.elim)
        obtain ⟨rfl, hq⟩ := hq
        rw [hq]
        change Go E Z 4 H (0) (0) 38 [(2, .int (f0 17)), (0, .ref m), (1, .int x_p)] [.int (f0 (25 + 3 * kp)), .int (f0 18)]
        refine f_mmin K q3556 q490 q140 q491 dX9_works_38 (Nat.le_of_ble_eq_true rfl) (Nat.le_of_ble_eq_true rfl) (Nat.le_of_ble_eq_true rfl) (Nat.le_of_ble_eq_true rfl) ?_
        refine f_istore_n (lv' := [(3, .int (imin (f0 18) (f0 (25 + 3 * kp)))), (2, .int (f0 17)), (0, .ref m), (1, .int x_p)]) K dX9_works_41 (by decide) rfl ?_
        refine f_aload_n K dX9_works_42 rfl ?_
        refine f_iload_n K dX9_works_43 rfl ?_
        refine f_iconst (v := 0) K dX9_works_44 rfl ?_
        refine f_aload_n K dX9_works_45 rfl ?_
        refine f_iload_n K dX9_works_46 rfl ?_
        refine f_iconst (v := 0) K dX9_works_47 rfl ?_
        refine f_invV (As := [.int (f0 17), .int 0]) (rest := [.int 0, .int (f0 17), .ref m]) K (tm_of (E := E) (k := kp) (w := 0) ht (f0 17) ekp 0 nl_0 (by omega)) cs_X9_66 dX9_works_48 (tw_o ht) rfl rfl rfl (Nat.le_of_ble_eq_true rfl) (Nat.le_of_ble_eq_true rfl) (Nat.le_of_ble_eq_true rfl) (Nat.le_of_ble_eq_true rfl) (fun v H16 hq hz => ?_) (fun _ _ _ h9 _ _ => h9.elim)
        obtain ⟨rfl, hq⟩ := hq
        rw [hq]
        change Go E Z 4 H (0) (0) 51 [(3, .int (imin (f0 18) (f0 (25 + 3 * kp)))), (2, .int (f0 17)), (0, .ref m), (1, .int x_p)] [.int (f0 (25 + 3 * kp)), .int 0, .int (f0 17), .ref m]
        refine f_iload_n K dX9_works_51 rfl ?_
        refine f_isub K dX9_works_52 ?_
        refine f_invV (As := [.int (f0 17), .int 0, .int ((f0 (25 + 3 * kp)) - (imin (f0 18) (f0 (25 + 3 * kp))))]) (rest := []) K (tm_puts (E := E) (k := kp) (w := 0) ht (f0 17) ekp 0 nl_0 ((f0 (25 + 3 * kp)) - (imin (f0 18) (f0 (25 + 3 * kp)))) (by omega)) cs_X9_104 dX9_works_53 (tw_o ht) rfl rfl rfl (Nat.le_of_ble_eq_true rfl) (Nat.le_of_ble_eq_true rfl) (Nat.le_of_ble_eq_true rfl) (Nat.le_of_ble_eq_true rfl) (fun v H17 hq hz => ?_) (fun _ _ _ h9 _ _ => h9.elim)
        obtain ⟨rfl, ht, hk1⟩ := hq
        have hk := hk.tr hk1
        have ht : twAt E H17 m ad sc (upd f0 (25 + 3 * kp) ((f0 (25 + 3 * kp)) - (imin (f0 18) (f0 (25 + 3 * kp))))) f1 f2 f3 f4 fb ft fo := ht
        change Go E Z 4 H17 (0) (0) 56 [(3, .int (imin (f0 18) (f0 (25 + 3 * kp)))), (2, .int (f0 17)), (0, .ref m), (1, .int x_p)] []
        refine f_aload_n K dX9_works_56 rfl ?_
        refine f_get (v := .ref (ad 0)) K fl_X9_7_X9 dX9_works_57 (tw_o ht) rfl ?_
        refine f_bipush (v := 11) K dX9_works_60 rfl ?_
        refine f_dup2 K dX9_works_62 rfl rfl ?_
        refine f_iald (j := 11) K dX9_works_63 (tw_a0 ht) nl_11 (by decide) (by decide) ?_
        refine Go.fst (congrArg Value.int (upd_ne (by omega) : (upd f0 (25 + 3 * kp) ((f0 (25 + 3 * kp)) - (imin (f0 18) (f0 (25 + 3 * kp))))) 11 = f0 11)) ?_
        refine f_iload_n K dX9_works_64 rfl ?_
        refine f_iadd K dX9_works_65 ?_
        refine f_iast (j := 11) K dX9_works_66 (tw_a0 ht) nl_11 (by decide) (by decide) (tw_lo0 ht) (fun H19 hU ho => ?_)
        have hk := hk.st (j := 0) (by decide) hU
        have ht := tw_st0 ht hU ho
        have hcl : sp_clr f0 0 kp = (upd (upd f0 (25 + 3 * kp) ((f0 (25 + 3 * kp)) - (imin (f0 18) (f0 (25 + 3 * kp))))) 11 ((f0 11) + (imin (f0 18) (f0 (25 + 3 * kp))))) := if_neg c_23
        rw [← hcl] at ht
        have okc := okr_clr (p := 0) ok hp hkp
        have hw : sp_work f0 0 = sp_work1 f0 (sp_clr f0 0 kp) 0 kp := by rw [show sp_work f0 0 = sp_work1 f0 (sp_clr f0 0 (f0 17).toNatClampNeg) 0 (f0 17).toNatClampNeg from if_neg c_7, ekp, nI_clamp (by omega)]
        refine f_aload_n K dX9_works_67 rfl ?_
        refine f_iload_n K dX9_works_68 rfl ?_
        refine f_invV (As := [.int (f0 17)]) (rest := []) K (tm_isClearNow (E := E) (k := kp) ht (f0 17) ekp (by omega)) cs_X9_80 dX9_works_69 (tw_o ht) rfl rfl rfl (Nat.le_of_ble_eq_true rfl) (Nat.le_of_ble_eq_true rfl) (Nat.le_of_ble_eq_true rfl) (Nat.le_of_ble_eq_true rfl) (fun v H20 hq hz => ?_) (fun _ _ _ h9 _ _ => h9.elim)
        obtain ⟨rfl, hq⟩ := hq
        rw [hq]
        change Go E Z 4 H19 (0) (0) 72 [(3, .int (imin (f0 18) (f0 (25 + 3 * kp)))), (2, .int (f0 17)), (0, .ref m), (1, .int x_p)] [.int (bI (sp_clear (sp_clr f0 0 kp) kp))]
        refine f_if_neB (tgt := 76) K dX9_works_72 (by decide) (fun c_72 => ?_) (fun c_72 => ?_)
        · refine f_iload_n K dX9_works_76 rfl ?_
          refine f_aload_n K dX9_works_77 rfl ?_
          refine f_get (v := .ref (ad 0)) K fl_X9_7_X9 dX9_works_78 (tw_o ht) rfl ?_
          refine f_iconst (v := 1) K dX9_works_81 rfl ?_
          refine f_iald (j := 1) K dX9_works_82 (tw_a0 ht) nl_1 (by decide) (by decide) ?_
          refine f_icmp_ne (tgt := 94) K dX9_works_83 (by decide) (fun c_83 => ?_) (fun c_83 => ?_)
          · refine f_aload_n K dX9_works_94 rfl ?_
            refine f_iload_n K dX9_works_95 rfl ?_
            refine f_iconst (v := 0) K dX9_works_96 rfl ?_
            refine f_iload_n K dX9_works_97 rfl ?_
            refine f_iload_n K dX9_works_98 rfl ?_
            refine f_invS (As := [.int x_p]) (rest := [.int (f0 17), .int 0, .int x_p, .ref m]) K (tm_stepOf (E := E) (p := 0) x_p h_p (by omega)) cs_X9_84 dX9_works_99 rfl rfl (Nat.le_of_ble_eq_true rfl) (Nat.le_of_ble_eq_true rfl) (Nat.le_of_ble_eq_true rfl) (Nat.le_of_ble_eq_true rfl) (fun v H23 hq hz => ?_) (fun _ _ _ h9 _ _ => h9.elim)
            obtain ⟨rfl, hq⟩ := hq
            rw [hq]
            change Go E Z 4 H19 (0) (0) 102 [(3, .int (imin (f0 18) (f0 (25 + 3 * kp)))), (2, .int (f0 17)), (0, .ref m), (1, .int x_p)] [.int (sp_step 0), .int (f0 17), .int 0, .int x_p, .ref m]
            refine f_iadd K dX9_works_102 ?_
            refine f_invV (As := [.int x_p, .int 0, .int ((f0 17) + (sp_step 0))]) (rest := []) K (tm_putsPlough (E := E) (p := 0) (w := 0) ht x_p h_p 0 nl_0 ((f0 17) + (sp_step 0)) (by omega)) cs_X9_87 dX9_works_103 (tw_o ht) rfl rfl rfl (Nat.le_of_ble_eq_true rfl) (Nat.le_of_ble_eq_true rfl) (Nat.le_of_ble_eq_true rfl) (Nat.le_of_ble_eq_true rfl) (fun v H24 hq hz => ?_) (fun _ _ _ h9 _ _ => h9.elim)
            obtain ⟨rfl, ht, hk1⟩ := hq
            have hk := hk.tr hk1
            have ht : twAt E H24 m ad sc (upd (sp_clr f0 0 kp) 17 ((f0 17) + (sp_step 0))) f1 f2 f3 f4 fb ft fo := ht
            change Go E Z 4 H24 (0) (0) 106 [(3, .int (imin (f0 18) (f0 (25 + 3 * kp)))), (2, .int (f0 17)), (0, .ref m), (1, .int x_p)] []
            exact f_retV K X rfl dX9_works_106 (Nat.le_of_ble_eq_true rfl) (Nat.le_of_ble_eq_true rfl) (⟨rfl, by rw [hw, show sp_work1 f0 (sp_clr f0 0 kp) 0 kp = _ from (if_pos c_72).trans (if_neg c_83)]; exact ht, hk⟩)
          · refine f_aload_n K dX9_works_86 rfl ?_
            refine f_iload_n K dX9_works_87 rfl ?_
            refine f_invV (As := [.int x_p]) (rest := []) K (tm_signs (E := E) (p := 0) ht x_p h_p hp okc) cs_X9_107 dX9_works_88 (tw_o ht) rfl rfl rfl (Nat.le_of_ble_eq_true rfl) (Nat.le_of_ble_eq_true rfl) (Nat.le_of_ble_eq_true rfl) (Nat.le_of_ble_eq_true rfl) (fun v H26 hq hz => ?_) (fun _ _ _ h9 _ _ => h9.elim)
            obtain ⟨rfl, ht, hk1⟩ := hq
            have hk := hk.tr hk1
            have ht : twAt E H26 m ad sc (sp_sign (sp_clr f0 0 kp) 0) f1 f2 f3 f4 fb ft fo := ht
            change Go E Z 4 H26 (0) (0) 91 [(3, .int (imin (f0 18) (f0 (25 + 3 * kp)))), (2, .int (f0 17)), (0, .ref m), (1, .int x_p)] []
            refine f_goto (tgt := 106) K dX9_works_91 (by decide) ?_
            exact f_retV K X rfl dX9_works_106 (Nat.le_of_ble_eq_true rfl) (Nat.le_of_ble_eq_true rfl) (⟨rfl, by rw [hw, show sp_work1 f0 (sp_clr f0 0 kp) 0 kp = _ from (if_pos c_72).trans (if_pos c_83)]; exact ht, hk⟩)
        · exact f_retV K X rfl dX9_works_75 (Nat.le_of_ble_eq_true rfl) (Nat.le_of_ble_eq_true rfl) (⟨rfl, by rw [hw, show sp_work1 f0 (sp_clr f0 0 kp) 0 kp = _ from if_neg c_72]; exact ht, hk⟩)
    · exact f_retV K X rfl dX9_works_10 (Nat.le_of_ble_eq_true rfl) (Nat.le_of_ble_eq_true rfl) (⟨rfl, by rw [show sp_work f0 0 = f0 from if_pos c_7]; exact ht, hk⟩)
  · refine f_aload_n K dX9_works_0 rfl ?_
    refine f_iload_n K dX9_works_1 rfl ?_
    refine f_iconst (v := 3) K dX9_works_2 rfl ?_
    refine f_invV (As := [.int x_p, .int 3]) (rest := []) K (tm_ofPlough (E := E) (p := 1) (w := 3) ht x_p h_p 3 nl_3 (by omega)) cs_X9_70 dX9_works_3 (tw_o ht) rfl rfl rfl (Nat.le_of_ble_eq_true rfl) (Nat.le_of_ble_eq_true rfl) (Nat.le_of_ble_eq_true rfl) (Nat.le_of_ble_eq_true rfl) (fun v H28 hq hz => ?_) (fun _ _ _ h9 _ _ => h9.elim)
    obtain ⟨rfl, hq⟩ := hq
    rw [hq]
    change Go E Z 4 H (0) (0) 6 [(0, .ref m), (1, .int x_p)] [.int (f0 24)]
    refine f_iconst (v := 1) K dX9_works_6 rfl ?_
    refine f_icmp_ne (tgt := 11) K dX9_works_7 (by decide) (fun c_7 => ?_) (fun c_7 => ?_)
    · refine f_aload_n K dX9_works_11 rfl ?_
      refine f_iload_n K dX9_works_12 rfl ?_
      refine f_iconst (v := 0) K dX9_works_13 rfl ?_
      refine f_invV (As := [.int x_p, .int 0]) (rest := []) K (tm_ofPlough (E := E) (p := 1) (w := 0) ht x_p h_p 0 nl_0 (by omega)) cs_X9_70 dX9_works_14 (tw_o ht) rfl rfl rfl (Nat.le_of_ble_eq_true rfl) (Nat.le_of_ble_eq_true rfl) (Nat.le_of_ble_eq_true rfl) (Nat.le_of_ble_eq_true rfl) (fun v H30 hq hz => ?_) (fun _ _ _ h9 _ _ => h9.elim)
      obtain ⟨rfl, hq⟩ := hq
      rw [hq]
      change Go E Z 4 H (0) (0) 17 [(0, .ref m), (1, .int x_p)] [.int (f0 21)]
      refine f_istore_n (lv' := [(2, .int (f0 21)), (0, .ref m), (1, .int x_p)]) K dX9_works_17 (by decide) rfl ?_
      refine f_aload_n K dX9_works_18 rfl ?_
      refine f_iload_n K dX9_works_19 rfl ?_
      refine f_invV (As := [.int (f0 21)]) (rest := []) K (tm_isClearNow (E := E) (k := kp) ht (f0 21) ekp (by omega)) cs_X9_80 dX9_works_20 (tw_o ht) rfl rfl rfl (Nat.le_of_ble_eq_true rfl) (Nat.le_of_ble_eq_true rfl) (Nat.le_of_ble_eq_true rfl) (Nat.le_of_ble_eq_true rfl) (fun v H31 hq hz => ?_) (fun _ _ _ h9 _ _ => h9.elim)
      obtain ⟨rfl, hq⟩ := hq
      rw [hq]
      change Go E Z 4 H (0) (0) 23 [(2, .int (f0 21)), (0, .ref m), (1, .int x_p)] [.int (bI (sp_clear f0 kp))]
      refine f_if_neB (tgt := 67) K dX9_works_23 (by decide) (fun c_23 => ?_) (fun c_23 => ?_)
      · have hcl : sp_clr f0 1 kp = f0 := if_pos c_23
        rw [← hcl] at ht
        have okc := okr_clr (p := 1) ok hp hkp
        have hw : sp_work f0 1 = sp_work1 f0 (sp_clr f0 1 kp) 1 kp := by rw [show sp_work f0 1 = sp_work1 f0 (sp_clr f0 1 (f0 21).toNatClampNeg) 1 (f0 21).toNatClampNeg from if_neg c_7, ekp, nI_clamp (by omega)]
        refine f_aload_n K dX9_works_67 rfl ?_
        refine f_iload_n K dX9_works_68 rfl ?_
        refine f_invV (As := [.int (f0 21)]) (rest := []) K (tm_isClearNow (E := E) (k := kp) ht (f0 21) ekp (by omega)) cs_X9_80 dX9_works_69 (tw_o ht) rfl rfl rfl (Nat.le_of_ble_eq_true rfl) (Nat.le_of_ble_eq_true rfl) (Nat.le_of_ble_eq_true rfl) (Nat.le_of_ble_eq_true rfl) (fun v H33 hq hz => ?_) (fun _ _ _ h9 _ _ => h9.elim)
        obtain ⟨rfl, hq⟩ := hq
        rw [hq]
        change Go E Z 4 H (0) (0) 72 [(2, .int (f0 21)), (0, .ref m), (1, .int x_p)] [.int (bI (sp_clear (sp_clr f0 1 kp) kp))]
        refine f_if_neB (tgt := 76) K dX9_works_72 (by decide) (fun c_72 => ?_) (fun c_72 => ?_)
        · refine f_iload_n K dX9_works_76 rfl ?_
          refine f_aload_n K dX9_works_77 rfl ?_
          refine f_get (v := .ref (ad 0)) K fl_X9_7_X9 dX9_works_78 (tw_o ht) rfl ?_
          refine f_iconst (v := 1) K dX9_works_81 rfl ?_
          refine f_iald (j := 1) K dX9_works_82 (tw_a0 ht) nl_1 (by decide) (by decide) ?_
          refine f_icmp_ne (tgt := 94) K dX9_works_83 (by decide) (fun c_83 => ?_) (fun c_83 => ?_)
          · refine f_aload_n K dX9_works_94 rfl ?_
            refine f_iload_n K dX9_works_95 rfl ?_
            refine f_iconst (v := 0) K dX9_works_96 rfl ?_
            refine f_iload_n K dX9_works_97 rfl ?_
            refine f_iload_n K dX9_works_98 rfl ?_
            refine f_invS (As := [.int x_p]) (rest := [.int (f0 21), .int 0, .int x_p, .ref m]) K (tm_stepOf (E := E) (p := 1) x_p h_p (by omega)) cs_X9_84 dX9_works_99 rfl rfl (Nat.le_of_ble_eq_true rfl) (Nat.le_of_ble_eq_true rfl) (Nat.le_of_ble_eq_true rfl) (Nat.le_of_ble_eq_true rfl) (fun v H36 hq hz => ?_) (fun _ _ _ h9 _ _ => h9.elim)
            obtain ⟨rfl, hq⟩ := hq
            rw [hq]
            change Go E Z 4 H (0) (0) 102 [(2, .int (f0 21)), (0, .ref m), (1, .int x_p)] [.int (sp_step 1), .int (f0 21), .int 0, .int x_p, .ref m]
            refine f_iadd K dX9_works_102 ?_
            refine f_invV (As := [.int x_p, .int 0, .int ((f0 21) + (sp_step 1))]) (rest := []) K (tm_putsPlough (E := E) (p := 1) (w := 0) ht x_p h_p 0 nl_0 ((f0 21) + (sp_step 1)) (by omega)) cs_X9_87 dX9_works_103 (tw_o ht) rfl rfl rfl (Nat.le_of_ble_eq_true rfl) (Nat.le_of_ble_eq_true rfl) (Nat.le_of_ble_eq_true rfl) (Nat.le_of_ble_eq_true rfl) (fun v H37 hq hz => ?_) (fun _ _ _ h9 _ _ => h9.elim)
            obtain ⟨rfl, ht, hk1⟩ := hq
            have hk := hk.tr hk1
            have ht : twAt E H37 m ad sc (upd (sp_clr f0 1 kp) 21 ((f0 21) + (sp_step 1))) f1 f2 f3 f4 fb ft fo := ht
            change Go E Z 4 H37 (0) (0) 106 [(2, .int (f0 21)), (0, .ref m), (1, .int x_p)] []
            exact f_retV K X rfl dX9_works_106 (Nat.le_of_ble_eq_true rfl) (Nat.le_of_ble_eq_true rfl) (⟨rfl, by rw [hw, show sp_work1 f0 (sp_clr f0 1 kp) 1 kp = _ from (if_pos c_72).trans (if_neg c_83)]; exact ht, hk⟩)
          · refine f_aload_n K dX9_works_86 rfl ?_
            refine f_iload_n K dX9_works_87 rfl ?_
            refine f_invV (As := [.int x_p]) (rest := []) K (tm_signs (E := E) (p := 1) ht x_p h_p hp okc) cs_X9_107 dX9_works_88 (tw_o ht) rfl rfl rfl (Nat.le_of_ble_eq_true rfl) (Nat.le_of_ble_eq_true rfl) (Nat.le_of_ble_eq_true rfl) (Nat.le_of_ble_eq_true rfl) (fun v H39 hq hz => ?_) (fun _ _ _ h9 _ _ => h9.elim)
            obtain ⟨rfl, ht, hk1⟩ := hq
            have hk := hk.tr hk1
            have ht : twAt E H39 m ad sc (sp_sign (sp_clr f0 1 kp) 1) f1 f2 f3 f4 fb ft fo := ht
            change Go E Z 4 H39 (0) (0) 91 [(2, .int (f0 21)), (0, .ref m), (1, .int x_p)] []
            refine f_goto (tgt := 106) K dX9_works_91 (by decide) ?_
            exact f_retV K X rfl dX9_works_106 (Nat.le_of_ble_eq_true rfl) (Nat.le_of_ble_eq_true rfl) (⟨rfl, by rw [hw, show sp_work1 f0 (sp_clr f0 1 kp) 1 kp = _ from (if_pos c_72).trans (if_pos c_83)]; exact ht, hk⟩)
        · exact f_retV K X rfl dX9_works_75 (Nat.le_of_ble_eq_true rfl) (Nat.le_of_ble_eq_true rfl) (⟨rfl, by rw [hw, show sp_work1 f0 (sp_clr f0 1 kp) 1 kp = _ from if_neg c_72]; exact ht, hk⟩)
      · refine f_aload_n K dX9_works_26 rfl ?_
        refine f_iload_n K dX9_works_27 rfl ?_
        refine f_iconst (v := 1) K dX9_works_28 rfl ?_
        refine f_invV (As := [.int x_p, .int 1]) (rest := []) K (tm_ofPlough (E := E) (p := 1) (w := 1) ht x_p h_p 1 nl_1 (by omega)) cs_X9_70 dX9_works_29 (tw_o ht) rfl rfl rfl (Nat.le_of_ble_eq_true rfl) (Nat.le_of_ble_eq_true rfl) (Nat.le_of_ble_eq_true rfl) (Nat.le_of_ble_eq_true rfl) (fun v H41 hq hz => ?_) (fun _ _ _ h9 _ _ => h9.elim)
        obtain ⟨rfl, hq⟩ := hq
        rw [hq]
        change Go E Z 4 H (0) (0) 32 [(2, .int (f0 21)), (0, .ref m), (1, .int x_p)] [.int (f0 22)]
        refine f_aload_n K dX9_works_32 rfl ?_
        refine f_iload_n K dX9_works_33 rfl ?_
        refine f_iconst (v := 0) K dX9_works_34 rfl ?_
        refine f_invV (As := [.int (f0 21), .int 0]) (rest := [.int (f0 22)]) K (tm_of (E := E) (k := kp) (w := 0) ht (f0 21) ekp 0 nl_0 (by omega)) cs_X9_66 dX9_works_35 (tw_o ht) rfl rfl rfl (Nat.le_of_ble_eq_true rfl) (Nat.le_of_ble_eq_true rfl) (Nat.le_of_ble_eq_true rfl) (Nat.le_of_ble_eq_true rfl) (fun v H42 hq hz => ?_) (fun _ _ _ h9 _ _ => h9.elim)
        obtain ⟨rfl, hq⟩ := hq
        rw [hq]
        change Go E Z 4 H (0) (0) 38 [(2, .int (f0 21)), (0, .ref m), (1, .int x_p)] [.int (f0 (25 + 3 * kp)), .int (f0 22)]
        refine f_mmin K q3556 q490 q140 q491 dX9_works_38 (Nat.le_of_ble_eq_true rfl) (Nat.le_of_ble_eq_true rfl) (Nat.le_of_ble_eq_true rfl) (Nat.le_of_ble_eq_true rfl) ?_
        refine f_istore_n (lv' := [(3, .int (imin (f0 22) (f0 (25 + 3 * kp)))), (2, .int (f0 21)), (0, .ref m), (1, .int x_p)]) K dX9_works_41 (by decide) rfl ?_
        refine f_aload_n K dX9_works_42 rfl ?_
        refine f_iload_n K dX9_works_43 rfl ?_
        refine f_iconst (v := 0) K dX9_works_44 rfl ?_
        refine f_aload_n K dX9_works_45 rfl ?_
        refine f_iload_n K dX9_works_46 rfl ?_
        refine f_iconst (v := 0) K dX9_works_47 rfl ?_
        refine f_invV (As := [.int (f0 21), .int 0]) (rest := [.int 0, .int (f0 21), .ref m]) K (tm_of (E := E) (k := kp) (w := 0) ht (f0 21) ekp 0 nl_0 (by omega)) cs_X9_66 dX9_works_48 (tw_o ht) rfl rfl rfl (Nat.le_of_ble_eq_true rfl) (Nat.le_of_ble_eq_true rfl) (Nat.le_of_ble_eq_true rfl) (Nat.le_of_ble_eq_true rfl) (fun v H43 hq hz => ?_) (fun _ _ _ h9 _ _ => h9.elim)
        obtain ⟨rfl, hq⟩ := hq
        rw [hq]
        change Go E Z 4 H (0) (0) 51 [(3, .int (imin (f0 22) (f0 (25 + 3 * kp)))), (2, .int (f0 21)), (0, .ref m), (1, .int x_p)] [.int (f0 (25 + 3 * kp)), .int 0, .int (f0 21), .ref m]
        refine f_iload_n K dX9_works_51 rfl ?_
        refine f_isub K dX9_works_52 ?_
        refine f_invV (As := [.int (f0 21), .int 0, .int ((f0 (25 + 3 * kp)) - (imin (f0 22) (f0 (25 + 3 * kp))))]) (rest := []) K (tm_puts (E := E) (k := kp) (w := 0) ht (f0 21) ekp 0 nl_0 ((f0 (25 + 3 * kp)) - (imin (f0 22) (f0 (25 + 3 * kp)))) (by omega)) cs_X9_104 dX9_works_53 (tw_o ht) rfl rfl rfl (Nat.le_of_ble_eq_true rfl) (Nat.le_of_ble_eq_true rfl) (Nat.le_of_ble_eq_true rfl) (Nat.le_of_ble_eq_true rfl) (fun v H44 hq hz => ?_) (fun _ _ _ h9 _ _ => h9.elim)
        obtain ⟨rfl, ht, hk1⟩ := hq
        have hk := hk.tr hk1
        have ht : twAt E H44 m ad sc (upd f0 (25 + 3 * kp) ((f0 (25 + 3 * kp)) - (imin (f0 22) (f0 (25 + 3 * kp))))) f1 f2 f3 f4 fb ft fo := ht
        change Go E Z 4 H44 (0) (0) 56 [(3, .int (imin (f0 22) (f0 (25 + 3 * kp)))), (2, .int (f0 21)), (0, .ref m), (1, .int x_p)] []
        refine f_aload_n K dX9_works_56 rfl ?_
        refine f_get (v := .ref (ad 0)) K fl_X9_7_X9 dX9_works_57 (tw_o ht) rfl ?_
        refine f_bipush (v := 11) K dX9_works_60 rfl ?_
        refine f_dup2 K dX9_works_62 rfl rfl ?_
        refine f_iald (j := 11) K dX9_works_63 (tw_a0 ht) nl_11 (by decide) (by decide) ?_
        refine Go.fst (congrArg Value.int (upd_ne (by omega) : (upd f0 (25 + 3 * kp) ((f0 (25 + 3 * kp)) - (imin (f0 22) (f0 (25 + 3 * kp))))) 11 = f0 11)) ?_
        refine f_iload_n K dX9_works_64 rfl ?_
        refine f_iadd K dX9_works_65 ?_
        refine f_iast (j := 11) K dX9_works_66 (tw_a0 ht) nl_11 (by decide) (by decide) (tw_lo0 ht) (fun H46 hU ho => ?_)
        have hk := hk.st (j := 0) (by decide) hU
        have ht := tw_st0 ht hU ho
        have hcl : sp_clr f0 1 kp = (upd (upd f0 (25 + 3 * kp) ((f0 (25 + 3 * kp)) - (imin (f0 22) (f0 (25 + 3 * kp))))) 11 ((f0 11) + (imin (f0 22) (f0 (25 + 3 * kp))))) := if_neg c_23
        rw [← hcl] at ht
        have okc := okr_clr (p := 1) ok hp hkp
        have hw : sp_work f0 1 = sp_work1 f0 (sp_clr f0 1 kp) 1 kp := by rw [show sp_work f0 1 = sp_work1 f0 (sp_clr f0 1 (f0 21).toNatClampNeg) 1 (f0 21).toNatClampNeg from if_neg c_7, ekp, nI_clamp (by omega)]
        refine f_aload_n K dX9_works_67 rfl ?_
        refine f_iload_n K dX9_works_68 rfl ?_
        refine f_invV (As := [.int (f0 21)]) (rest := []) K (tm_isClearNow (E := E) (k := kp) ht (f0 21) ekp (by omega)) cs_X9_80 dX9_works_69 (tw_o ht) rfl rfl rfl (Nat.le_of_ble_eq_true rfl) (Nat.le_of_ble_eq_true rfl) (Nat.le_of_ble_eq_true rfl) (Nat.le_of_ble_eq_true rfl) (fun v H47 hq hz => ?_) (fun _ _ _ h9 _ _ => h9.elim)
        obtain ⟨rfl, hq⟩ := hq
        rw [hq]
        change Go E Z 4 H46 (0) (0) 72 [(3, .int (imin (f0 22) (f0 (25 + 3 * kp)))), (2, .int (f0 21)), (0, .ref m), (1, .int x_p)] [.int (bI (sp_clear (sp_clr f0 1 kp) kp))]
        refine f_if_neB (tgt := 76) K dX9_works_72 (by decide) (fun c_72 => ?_) (fun c_72 => ?_)
        · refine f_iload_n K dX9_works_76 rfl ?_
          refine f_aload_n K dX9_works_77 rfl ?_
          refine f_get (v := .ref (ad 0)) K fl_X9_7_X9 dX9_works_78 (tw_o ht) rfl ?_
          refine f_iconst (v := 1) K dX9_works_81 rfl ?_
          refine f_iald (j := 1) K dX9_works_82 (tw_a0 ht) nl_1 (by decide) (by decide) ?_
          refine f_icmp_ne (tgt := 94) K dX9_works_83 (by decide) (fun c_83 => ?_) (fun c_83 => ?_)
          · refine f_aload_n K dX9_works_94 rfl ?_
            refine f_iload_n K dX9_works_95 rfl ?_
            refine f_iconst (v := 0) K dX9_works_96 rfl ?_
            refine f_iload_n K dX9_works_97 rfl ?_
            refine f_iload_n K dX9_works_98 rfl ?_
            refine f_invS (As := [.int x_p]) (rest := [.int (f0 21), .int 0, .int x_p, .ref m]) K (tm_stepOf (E := E) (p := 1) x_p h_p (by omega)) cs_X9_84 dX9_works_99 rfl rfl (Nat.le_of_ble_eq_true rfl) (Nat.le_of_ble_eq_true rfl) (Nat.le_of_ble_eq_true rfl) (Nat.le_of_ble_eq_true rfl) (fun v H50 hq hz => ?_) (fun _ _ _ h9 _ _ => h9.elim)
            obtain ⟨rfl, hq⟩ := hq
            rw [hq]
            change Go E Z 4 H46 (0) (0) 102 [(3, .int (imin (f0 22) (f0 (25 + 3 * kp)))), (2, .int (f0 21)), (0, .ref m), (1, .int x_p)] [.int (sp_step 1), .int (f0 21), .int 0, .int x_p, .ref m]
            refine f_iadd K dX9_works_102 ?_
            refine f_invV (As := [.int x_p, .int 0, .int ((f0 21) + (sp_step 1))]) (rest := []) K (tm_putsPlough (E := E) (p := 1) (w := 0) ht x_p h_p 0 nl_0 ((f0 21) + (sp_step 1)) (by omega)) cs_X9_87 dX9_works_103 (tw_o ht) rfl rfl rfl (Nat.le_of_ble_eq_true rfl) (Nat.le_of_ble_eq_true rfl) (Nat.le_of_ble_eq_true rfl) (Nat.le_of_ble_eq_true rfl) (fun v H51 hq hz => ?_) (fun _ _ _ h9 _ _ => h9.elim)
            obtain ⟨rfl, ht, hk1⟩ := hq
            have hk := hk.tr hk1
            have ht : twAt E H51 m ad sc (upd (sp_clr f0 1 kp) 21 ((f0 21) + (sp_step 1))) f1 f2 f3 f4 fb ft fo := ht
            change Go E Z 4 H51 (0) (0) 106 [(3, .int (imin (f0 22) (f0 (25 + 3 * kp)))), (2, .int (f0 21)), (0, .ref m), (1, .int x_p)] []
            exact f_retV K X rfl dX9_works_106 (Nat.le_of_ble_eq_true rfl) (Nat.le_of_ble_eq_true rfl) (⟨rfl, by rw [hw, show sp_work1 f0 (sp_clr f0 1 kp) 1 kp = _ from (if_pos c_72).trans (if_neg c_83)]; exact ht, hk⟩)
          · refine f_aload_n K dX9_works_86 rfl ?_
            refine f_iload_n K dX9_works_87 rfl ?_
            refine f_invV (As := [.int x_p]) (rest := []) K (tm_signs (E := E) (p := 1) ht x_p h_p hp okc) cs_X9_107 dX9_works_88 (tw_o ht) rfl rfl rfl (Nat.le_of_ble_eq_true rfl) (Nat.le_of_ble_eq_true rfl) (Nat.le_of_ble_eq_true rfl) (Nat.le_of_ble_eq_true rfl) (fun v H53 hq hz => ?_) (fun _ _ _ h9 _ _ => h9.elim)
            obtain ⟨rfl, ht, hk1⟩ := hq
            have hk := hk.tr hk1
            have ht : twAt E H53 m ad sc (sp_sign (sp_clr f0 1 kp) 1) f1 f2 f3 f4 fb ft fo := ht
            change Go E Z 4 H53 (0) (0) 91 [(3, .int (imin (f0 22) (f0 (25 + 3 * kp)))), (2, .int (f0 21)), (0, .ref m), (1, .int x_p)] []
            refine f_goto (tgt := 106) K dX9_works_91 (by decide) ?_
            exact f_retV K X rfl dX9_works_106 (Nat.le_of_ble_eq_true rfl) (Nat.le_of_ble_eq_true rfl) (⟨rfl, by rw [hw, show sp_work1 f0 (sp_clr f0 1 kp) 1 kp = _ from (if_pos c_72).trans (if_pos c_83)]; exact ht, hk⟩)
        · exact f_retV K X rfl dX9_works_75 (Nat.le_of_ble_eq_true rfl) (Nat.le_of_ble_eq_true rfl) (⟨rfl, by rw [hw, show sp_work1 f0 (sp_clr f0 1 kp) 1 kp = _ from if_neg c_72]; exact ht, hk⟩)
    · exact f_retV K X rfl dX9_works_10 (Nat.le_of_ble_eq_true rfl) (Nat.le_of_ble_eq_true rfl) (⟨rfl, by rw [show sp_work f0 1 = f0 from if_pos c_7]; exact ht, hk⟩)
/-- snows(I)V -/
theorem tm_snows {E : fE} {H : Heap} {m : Nat} {ad : Nat → Nat} {sc f0 f1 f2 f3 f4 fb ft fo : Row} (ht : twAt E H m ad sc f0 f1 f2 f3 f4 fb ft fo) (x_k : Int32) {k : Nat} (h_k : x_k = nI k)  (h : k < 47) : fM E yX9_snows prog_17_method_29_code 3 none 2 0 0 [.ref m, .int x_k] H (fun r_ H' => r_ = none ∧ twAt E H' m ad sc (sp_snow f0 k) f1 f2 f3 f4 fb ft fo ∧ twK m ad H H') noX := by
  refine f_start (own := "SnowPassModel") (nm := "snows") (lv := [(0, .ref m), (1, .int x_k)]) pn_X9 rfl rfl (Nat.le_of_ble_eq_true rfl) rfl (fun Z K X => ?_)
  have hk := twK.rf (m := m) (ad := ad) (H := H)
  refine f_aload_n K dX9_snows_0 rfl ?_
  refine f_get (v := .ref (ad 0)) K fl_X9_7_X9 dX9_snows_1 (tw_o ht) rfl ?_
  refine f_iconst (v := 5) K dX9_snows_4 rfl ?_
  refine f_iald (j := 5) K dX9_snows_5 (tw_a0 ht) nl_5 (by decide) (by decide) ?_
  refine f_aload_n K dX9_snows_6 rfl ?_
  refine f_invV (As := []) (rest := [.int (f0 5)]) K (tm_isNightNow (E := E)  ht ) cs_X9_110 dX9_snows_7 (tw_o ht) rfl rfl rfl (Nat.le_of_ble_eq_true rfl) (Nat.le_of_ble_eq_true rfl) (Nat.le_of_ble_eq_true rfl) (Nat.le_of_ble_eq_true rfl) (fun v H1 hq hz => ?_) (fun _ _ _ h9 _ _ => h9.elim)
  obtain ⟨rfl, hq⟩ := hq
  rw [hq]
  change Go E Z 3 H (0) (0) 10 [(0, .ref m), (1, .int x_k)] [.int (bI (sp_night f0)), .int (f0 5)]
  refine f_if_eqB (tgt := 30) K dX9_snows_10 (by decide) (fun c_10 => ?_) (fun c_10 => ?_)
  · refine f_iconst (v := 0) K dX9_snows_30 rfl ?_
    refine f_iadd K dX9_snows_31 ?_
    refine f_istore_n (lv' := [(2, .int ((f0 5) + 0)), (0, .ref m), (1, .int x_k)]) K dX9_snows_32 (by decide) rfl ?_
    refine f_iload_n K dX9_snows_33 rfl ?_
    refine f_sipush (v := 999) K dX9_snows_34 rfl ?_
    refine f_aload_n K dX9_snows_37 rfl ?_
    refine f_iload_n K dX9_snows_38 rfl ?_
    refine f_iconst (v := 0) K dX9_snows_39 rfl ?_
    refine f_invV (As := [.int x_k, .int 0]) (rest := [.int 999, .int ((f0 5) + 0)]) K (tm_of (E := E) (k := k) (w := 0) ht x_k h_k 0 nl_0 (by omega)) cs_X9_66 dX9_snows_40 (tw_o ht) rfl rfl rfl (Nat.le_of_ble_eq_true rfl) (Nat.le_of_ble_eq_true rfl) (Nat.le_of_ble_eq_true rfl) (Nat.le_of_ble_eq_true rfl) (fun v H3 hq hz => ?_) (fun _ _ _ h9 _ _ => h9.elim)
    obtain ⟨rfl, hq⟩ := hq
    rw [hq]
    change Go E Z 3 H (0) (0) 43 [(2, .int ((f0 5) + 0)), (0, .ref m), (1, .int x_k)] [.int (f0 (25 + 3 * k)), .int 999, .int ((f0 5) + 0)]
    refine f_isub K dX9_snows_43 ?_
    refine f_mmin K q3556 q490 q140 q491 dX9_snows_44 (Nat.le_of_ble_eq_true rfl) (Nat.le_of_ble_eq_true rfl) (Nat.le_of_ble_eq_true rfl) (Nat.le_of_ble_eq_true rfl) ?_
    refine f_istore_n (lv' := [(2, .int (imin ((f0 5) + 0) (999 - (f0 (25 + 3 * k))))), (0, .ref m), (1, .int x_k)]) K dX9_snows_47 (by decide) rfl ?_
    refine f_aload_n K dX9_snows_48 rfl ?_
    refine f_iload_n K dX9_snows_49 rfl ?_
    refine f_iconst (v := 0) K dX9_snows_50 rfl ?_
    refine f_aload_n K dX9_snows_51 rfl ?_
    refine f_iload_n K dX9_snows_52 rfl ?_
    refine f_iconst (v := 0) K dX9_snows_53 rfl ?_
    refine f_invV (As := [.int x_k, .int 0]) (rest := [.int 0, .int x_k, .ref m]) K (tm_of (E := E) (k := k) (w := 0) ht x_k h_k 0 nl_0 (by omega)) cs_X9_66 dX9_snows_54 (tw_o ht) rfl rfl rfl (Nat.le_of_ble_eq_true rfl) (Nat.le_of_ble_eq_true rfl) (Nat.le_of_ble_eq_true rfl) (Nat.le_of_ble_eq_true rfl) (fun v H4 hq hz => ?_) (fun _ _ _ h9 _ _ => h9.elim)
    obtain ⟨rfl, hq⟩ := hq
    rw [hq]
    change Go E Z 3 H (0) (0) 57 [(2, .int (imin ((f0 5) + 0) (999 - (f0 (25 + 3 * k))))), (0, .ref m), (1, .int x_k)] [.int (f0 (25 + 3 * k)), .int 0, .int x_k, .ref m]
    refine f_iload_n K dX9_snows_57 rfl ?_
    refine f_iadd K dX9_snows_58 ?_
    refine f_invV (As := [.int x_k, .int 0, .int ((f0 (25 + 3 * k)) + (imin ((f0 5) + 0) (999 - (f0 (25 + 3 * k)))))]) (rest := []) K (tm_puts (E := E) (k := k) (w := 0) ht x_k h_k 0 nl_0 ((f0 (25 + 3 * k)) + (imin ((f0 5) + 0) (999 - (f0 (25 + 3 * k))))) (by omega)) cs_X9_104 dX9_snows_59 (tw_o ht) rfl rfl rfl (Nat.le_of_ble_eq_true rfl) (Nat.le_of_ble_eq_true rfl) (Nat.le_of_ble_eq_true rfl) (Nat.le_of_ble_eq_true rfl) (fun v H5 hq hz => ?_) (fun _ _ _ h9 _ _ => h9.elim)
    obtain ⟨rfl, ht, hk1⟩ := hq
    have hk := hk.tr hk1
    have ht : twAt E H5 m ad sc (upd f0 (25 + 3 * k) ((f0 (25 + 3 * k)) + (imin ((f0 5) + 0) (999 - (f0 (25 + 3 * k)))))) f1 f2 f3 f4 fb ft fo := ht
    change Go E Z 3 H5 (0) (0) 62 [(2, .int (imin ((f0 5) + 0) (999 - (f0 (25 + 3 * k))))), (0, .ref m), (1, .int x_k)] []
    refine f_aload_n K dX9_snows_62 rfl ?_
    refine f_get (v := .ref (ad 0)) K fl_X9_7_X9 dX9_snows_63 (tw_o ht) rfl ?_
    refine f_bipush (v := 10) K dX9_snows_66 rfl ?_
    refine f_dup2 K dX9_snows_68 rfl rfl ?_
    refine f_iald (j := 10) K dX9_snows_69 (tw_a0 ht) nl_10 (by decide) (by decide) ?_
    refine Go.fst (congrArg Value.int (upd_ne (by omega) : (upd f0 (25 + 3 * k) ((f0 (25 + 3 * k)) + (imin ((f0 5) + 0) (999 - (f0 (25 + 3 * k)))))) 10 = f0 10)) ?_
    refine f_iload_n K dX9_snows_70 rfl ?_
    refine f_iadd K dX9_snows_71 ?_
    refine f_iast (j := 10) K dX9_snows_72 (tw_a0 ht) nl_10 (by decide) (by decide) (tw_lo0 ht) (fun H7 hU ho => ?_)
    have hk := hk.st (j := 0) (by decide) hU
    have ht := tw_st0 ht hU ho
    exact f_retV K X rfl dX9_snows_73 (Nat.le_of_ble_eq_true rfl) (Nat.le_of_ble_eq_true rfl) (⟨rfl, by rw [sp_snow, show sp_by f0 k = _ from congrArg (fun z => imin (f0 5 + z) (999 - f0 (25 + 3 * k))) (if_neg c_10)]; exact ht, hk⟩)
  · refine f_aload_n K dX9_snows_13 rfl ?_
    refine f_get (v := .ref (ad 0)) K fl_X9_7_X9 dX9_snows_14 (tw_o ht) rfl ?_
    refine f_bipush (v := 6) K dX9_snows_17 rfl ?_
    refine f_iald (j := 6) K dX9_snows_19 (tw_a0 ht) nl_6 (by decide) (by decide) ?_
    refine f_aload_n K dX9_snows_20 rfl ?_
    refine f_iload_n K dX9_snows_21 rfl ?_
    refine f_iconst (v := 1) K dX9_snows_22 rfl ?_
    refine f_invV (As := [.int x_k, .int 1]) (rest := [.int (f0 6), .int (f0 5)]) K (tm_of (E := E) (k := k) (w := 1) ht x_k h_k 1 nl_1 (by omega)) cs_X9_66 dX9_snows_23 (tw_o ht) rfl rfl rfl (Nat.le_of_ble_eq_true rfl) (Nat.le_of_ble_eq_true rfl) (Nat.le_of_ble_eq_true rfl) (Nat.le_of_ble_eq_true rfl) (fun v H8 hq hz => ?_) (fun _ _ _ h9 _ _ => h9.elim)
    obtain ⟨rfl, hq⟩ := hq
    rw [hq]
    change Go E Z 3 H (0) (0) 26 [(0, .ref m), (1, .int x_k)] [.int (f0 (25 + 3 * k + 1)), .int (f0 6), .int (f0 5)]
    refine f_imul K dX9_snows_26 ?_
    refine f_goto (tgt := 31) K dX9_snows_27 (by decide) ?_
    refine f_iadd K dX9_snows_31 ?_
    refine f_istore_n (lv' := [(2, .int ((f0 5) + ((f0 6) * (f0 (25 + 3 * k + 1))))), (0, .ref m), (1, .int x_k)]) K dX9_snows_32 (by decide) rfl ?_
    refine f_iload_n K dX9_snows_33 rfl ?_
    refine f_sipush (v := 999) K dX9_snows_34 rfl ?_
    refine f_aload_n K dX9_snows_37 rfl ?_
    refine f_iload_n K dX9_snows_38 rfl ?_
    refine f_iconst (v := 0) K dX9_snows_39 rfl ?_
    refine f_invV (As := [.int x_k, .int 0]) (rest := [.int 999, .int ((f0 5) + ((f0 6) * (f0 (25 + 3 * k + 1))))]) K (tm_of (E := E) (k := k) (w := 0) ht x_k h_k 0 nl_0 (by omega)) cs_X9_66 dX9_snows_40 (tw_o ht) rfl rfl rfl (Nat.le_of_ble_eq_true rfl) (Nat.le_of_ble_eq_true rfl) (Nat.le_of_ble_eq_true rfl) (Nat.le_of_ble_eq_true rfl) (fun v H9 hq hz => ?_) (fun _ _ _ h9 _ _ => h9.elim)
    obtain ⟨rfl, hq⟩ := hq
    rw [hq]
    change Go E Z 3 H (0) (0) 43 [(2, .int ((f0 5) + ((f0 6) * (f0 (25 + 3 * k + 1))))), (0, .ref m), (1, .int x_k)] [.int (f0 (25 + 3 * k)), .int 999, .int ((f0 5) + ((f0 6) * (f0 (25 + 3 * k + 1))))]
    refine f_isub K dX9_snows_43 ?_
    refine f_mmin K q3556 q490 q140 q491 dX9_snows_44 (Nat.le_of_ble_eq_true rfl) (Nat.le_of_ble_eq_true rfl) (Nat.le_of_ble_eq_true rfl) (Nat.le_of_ble_eq_true rfl) ?_
    refine f_istore_n (lv' := [(2, .int (imin ((f0 5) + ((f0 6) * (f0 (25 + 3 * k + 1)))) (999 - (f0 (25 + 3 * k))))), (0, .ref m), (1, .int x_k)]) K dX9_snows_47 (by decide) rfl ?_
    refine f_aload_n K dX9_snows_48 rfl ?_
    refine f_iload_n K dX9_snows_49 rfl ?_
    refine f_iconst (v := 0) K dX9_snows_50 rfl ?_
    refine f_aload_n K dX9_snows_51 rfl ?_
    refine f_iload_n K dX9_snows_52 rfl ?_
    refine f_iconst (v := 0) K dX9_snows_53 rfl ?_
    refine f_invV (As := [.int x_k, .int 0]) (rest := [.int 0, .int x_k, .ref m]) K (tm_of (E := E) (k := k) (w := 0) ht x_k h_k 0 nl_0 (by omega)) cs_X9_66 dX9_snows_54 (tw_o ht) rfl rfl rfl (Nat.le_of_ble_eq_true rfl) (Nat.le_of_ble_eq_true rfl) (Nat.le_of_ble_eq_true rfl) (Nat.le_of_ble_eq_true rfl) (fun v H10 hq hz => ?_) (fun _ _ _ h9 _ _ => h9.elim)
    obtain ⟨rfl, hq⟩ := hq
    rw [hq]
    change Go E Z 3 H (0) (0) 57 [(2, .int (imin ((f0 5) + ((f0 6) * (f0 (25 + 3 * k + 1)))) (999 - (f0 (25 + 3 * k))))), (0, .ref m), (1, .int x_k)] [.int (f0 (25 + 3 * k)), .int 0, .int x_k, .ref m]
    refine f_iload_n K dX9_snows_57 rfl ?_
    refine f_iadd K dX9_snows_58 ?_
    refine f_invV (As := [.int x_k, .int 0, .int ((f0 (25 + 3 * k)) + (imin ((f0 5) + ((f0 6) * (f0 (25 + 3 * k + 1)))) (999 - (f0 (25 + 3 * k)))))]) (rest := []) K (tm_puts (E := E) (k := k) (w := 0) ht x_k h_k 0 nl_0 ((f0 (25 + 3 * k)) + (imin ((f0 5) + ((f0 6) * (f0 (25 + 3 * k + 1)))) (999 - (f0 (25 + 3 * k))))) (by omega)) cs_X9_104 dX9_snows_59 (tw_o ht) rfl rfl rfl (Nat.le_of_ble_eq_true rfl) (Nat.le_of_ble_eq_true rfl) (Nat.le_of_ble_eq_true rfl) (Nat.le_of_ble_eq_true rfl) (fun v H11 hq hz => ?_) (fun _ _ _ h9 _ _ => h9.elim)
    obtain ⟨rfl, ht, hk1⟩ := hq
    have hk := hk.tr hk1
    have ht : twAt E H11 m ad sc (upd f0 (25 + 3 * k) ((f0 (25 + 3 * k)) + (imin ((f0 5) + ((f0 6) * (f0 (25 + 3 * k + 1)))) (999 - (f0 (25 + 3 * k)))))) f1 f2 f3 f4 fb ft fo := ht
    change Go E Z 3 H11 (0) (0) 62 [(2, .int (imin ((f0 5) + ((f0 6) * (f0 (25 + 3 * k + 1)))) (999 - (f0 (25 + 3 * k))))), (0, .ref m), (1, .int x_k)] []
    refine f_aload_n K dX9_snows_62 rfl ?_
    refine f_get (v := .ref (ad 0)) K fl_X9_7_X9 dX9_snows_63 (tw_o ht) rfl ?_
    refine f_bipush (v := 10) K dX9_snows_66 rfl ?_
    refine f_dup2 K dX9_snows_68 rfl rfl ?_
    refine f_iald (j := 10) K dX9_snows_69 (tw_a0 ht) nl_10 (by decide) (by decide) ?_
    refine Go.fst (congrArg Value.int (upd_ne (by omega) : (upd f0 (25 + 3 * k) ((f0 (25 + 3 * k)) + (imin ((f0 5) + ((f0 6) * (f0 (25 + 3 * k + 1)))) (999 - (f0 (25 + 3 * k)))))) 10 = f0 10)) ?_
    refine f_iload_n K dX9_snows_70 rfl ?_
    refine f_iadd K dX9_snows_71 ?_
    refine f_iast (j := 10) K dX9_snows_72 (tw_a0 ht) nl_10 (by decide) (by decide) (tw_lo0 ht) (fun H13 hU ho => ?_)
    have hk := hk.st (j := 0) (by decide) hU
    have ht := tw_st0 ht hU ho
    exact f_retV K X rfl dX9_snows_73 (Nat.le_of_ble_eq_true rfl) (Nat.le_of_ble_eq_true rfl) (⟨rfl, by rw [sp_snow, show sp_by f0 k = _ from congrArg (fun z => imin (f0 5 + z) (999 - f0 (25 + 3 * k))) (if_pos c_10)]; exact ht, hk⟩)
/-- melts(I)V -/
theorem tm_melts {E : fE} {H : Heap} {m : Nat} {ad : Nat → Nat} {sc f0 f1 f2 f3 f4 fb ft fo : Row} (ht : twAt E H m ad sc f0 f1 f2 f3 f4 fb ft fo) (x_k : Int32) {k : Nat} (h_k : x_k = nI k)  (h : k < 47) : fM E yX9_melts prog_17_method_30_code 3 none 2 0 0 [.ref m, .int x_k] H (fun r_ H' => r_ = none ∧ twAt E H' m ad sc (sp_melt f0 k) f1 f2 f3 f4 fb ft fo ∧ twK m ad H H') noX := by
  refine f_start (own := "SnowPassModel") (nm := "melts") (lv := [(0, .ref m), (1, .int x_k)]) pn_X9 rfl rfl (Nat.le_of_ble_eq_true rfl) rfl (fun Z K X => ?_)
  have hk := twK.rf (m := m) (ad := ad) (H := H)
  refine f_iconst (v := 2) K dX9_melts_0 rfl ?_
  refine f_aload_n K dX9_melts_1 rfl ?_
  refine f_iload_n K dX9_melts_2 rfl ?_
  refine f_iconst (v := 0) K dX9_melts_3 rfl ?_
  refine f_invV (As := [.int x_k, .int 0]) (rest := [.int 2]) K (tm_of (E := E) (k := k) (w := 0) ht x_k h_k 0 nl_0 (by omega)) cs_X9_66 dX9_melts_4 (tw_o ht) rfl rfl rfl (Nat.le_of_ble_eq_true rfl) (Nat.le_of_ble_eq_true rfl) (Nat.le_of_ble_eq_true rfl) (Nat.le_of_ble_eq_true rfl) (fun v H1 hq hz => ?_) (fun _ _ _ h9 _ _ => h9.elim)
  obtain ⟨rfl, hq⟩ := hq
  rw [hq]
  change Go E Z 3 H (0) (0) 7 [(0, .ref m), (1, .int x_k)] [.int (f0 (25 + 3 * k)), .int 2]
  refine f_mmin K q3556 q490 q140 q491 dX9_melts_7 (Nat.le_of_ble_eq_true rfl) (Nat.le_of_ble_eq_true rfl) (Nat.le_of_ble_eq_true rfl) (Nat.le_of_ble_eq_true rfl) ?_
  refine f_istore_n (lv' := [(2, .int (imin 2 (f0 (25 + 3 * k)))), (0, .ref m), (1, .int x_k)]) K dX9_melts_10 (by decide) rfl ?_
  refine f_aload_n K dX9_melts_11 rfl ?_
  refine f_iload_n K dX9_melts_12 rfl ?_
  refine f_iconst (v := 0) K dX9_melts_13 rfl ?_
  refine f_aload_n K dX9_melts_14 rfl ?_
  refine f_iload_n K dX9_melts_15 rfl ?_
  refine f_iconst (v := 0) K dX9_melts_16 rfl ?_
  refine f_invV (As := [.int x_k, .int 0]) (rest := [.int 0, .int x_k, .ref m]) K (tm_of (E := E) (k := k) (w := 0) ht x_k h_k 0 nl_0 (by omega)) cs_X9_66 dX9_melts_17 (tw_o ht) rfl rfl rfl (Nat.le_of_ble_eq_true rfl) (Nat.le_of_ble_eq_true rfl) (Nat.le_of_ble_eq_true rfl) (Nat.le_of_ble_eq_true rfl) (fun v H2 hq hz => ?_) (fun _ _ _ h9 _ _ => h9.elim)
  obtain ⟨rfl, hq⟩ := hq
  rw [hq]
  change Go E Z 3 H (0) (0) 20 [(2, .int (imin 2 (f0 (25 + 3 * k)))), (0, .ref m), (1, .int x_k)] [.int (f0 (25 + 3 * k)), .int 0, .int x_k, .ref m]
  refine f_iload_n K dX9_melts_20 rfl ?_
  refine f_isub K dX9_melts_21 ?_
  refine f_invV (As := [.int x_k, .int 0, .int ((f0 (25 + 3 * k)) - (imin 2 (f0 (25 + 3 * k))))]) (rest := []) K (tm_puts (E := E) (k := k) (w := 0) ht x_k h_k 0 nl_0 ((f0 (25 + 3 * k)) - (imin 2 (f0 (25 + 3 * k)))) (by omega)) cs_X9_104 dX9_melts_22 (tw_o ht) rfl rfl rfl (Nat.le_of_ble_eq_true rfl) (Nat.le_of_ble_eq_true rfl) (Nat.le_of_ble_eq_true rfl) (Nat.le_of_ble_eq_true rfl) (fun v H3 hq hz => ?_) (fun _ _ _ h9 _ _ => h9.elim)
  obtain ⟨rfl, ht, hk1⟩ := hq
  have hk := hk.tr hk1
  have ht : twAt E H3 m ad sc (upd f0 (25 + 3 * k) ((f0 (25 + 3 * k)) - (imin 2 (f0 (25 + 3 * k))))) f1 f2 f3 f4 fb ft fo := ht
  change Go E Z 3 H3 (0) (0) 25 [(2, .int (imin 2 (f0 (25 + 3 * k)))), (0, .ref m), (1, .int x_k)] []
  refine f_aload_n K dX9_melts_25 rfl ?_
  refine f_iload_n K dX9_melts_26 rfl ?_
  refine f_iconst (v := 2) K dX9_melts_27 rfl ?_
  refine f_aload_n K dX9_melts_28 rfl ?_
  refine f_iload_n K dX9_melts_29 rfl ?_
  refine f_iconst (v := 2) K dX9_melts_30 rfl ?_
  refine f_invV (As := [.int x_k, .int 2]) (rest := [.int 2, .int x_k, .ref m]) K (tm_of (E := E) (k := k) (w := 2) ht x_k h_k 2 nl_2 (by omega)) cs_X9_66 dX9_melts_31 (tw_o ht) rfl rfl rfl (Nat.le_of_ble_eq_true rfl) (Nat.le_of_ble_eq_true rfl) (Nat.le_of_ble_eq_true rfl) (Nat.le_of_ble_eq_true rfl) (fun v H5 hq hz => ?_) (fun _ _ _ h9 _ _ => h9.elim)
  obtain ⟨rfl, hq⟩ := hq
  rw [hq]
  change Go E Z 3 H3 (0) (0) 34 [(2, .int (imin 2 (f0 (25 + 3 * k)))), (0, .ref m), (1, .int x_k)] [.int ((upd f0 (25 + 3 * k) ((f0 (25 + 3 * k)) - (imin 2 (f0 (25 + 3 * k))))) (25 + 3 * k + 2)), .int 2, .int x_k, .ref m]
  refine Go.fst (congrArg Value.int (upd_ne (by omega) : (upd f0 (25 + 3 * k) ((f0 (25 + 3 * k)) - (imin 2 (f0 (25 + 3 * k))))) (25 + 3 * k + 2) = f0 (25 + 3 * k + 2))) ?_
  refine f_iconst (v := 1) K dX9_melts_34 rfl ?_
  refine f_isub K dX9_melts_35 ?_
  refine f_invV (As := [.int x_k, .int 2, .int ((f0 (25 + 3 * k + 2)) - 1)]) (rest := []) K (tm_puts (E := E) (k := k) (w := 2) ht x_k h_k 2 nl_2 ((f0 (25 + 3 * k + 2)) - 1) (by omega)) cs_X9_104 dX9_melts_36 (tw_o ht) rfl rfl rfl (Nat.le_of_ble_eq_true rfl) (Nat.le_of_ble_eq_true rfl) (Nat.le_of_ble_eq_true rfl) (Nat.le_of_ble_eq_true rfl) (fun v H6 hq hz => ?_) (fun _ _ _ h9 _ _ => h9.elim)
  obtain ⟨rfl, ht, hk1⟩ := hq
  have hk := hk.tr hk1
  have ht : twAt E H6 m ad sc (upd (upd f0 (25 + 3 * k) ((f0 (25 + 3 * k)) - (imin 2 (f0 (25 + 3 * k))))) (25 + 3 * k + 2) ((f0 (25 + 3 * k + 2)) - 1)) f1 f2 f3 f4 fb ft fo := ht
  change Go E Z 3 H6 (0) (0) 39 [(2, .int (imin 2 (f0 (25 + 3 * k)))), (0, .ref m), (1, .int x_k)] []
  refine f_aload_n K dX9_melts_39 rfl ?_
  refine f_get (v := .ref (ad 0)) K fl_X9_7_X9 dX9_melts_40 (tw_o ht) rfl ?_
  refine f_bipush (v := 12) K dX9_melts_43 rfl ?_
  refine f_dup2 K dX9_melts_45 rfl rfl ?_
  refine f_iald (j := 12) K dX9_melts_46 (tw_a0 ht) nl_12 (by decide) (by decide) ?_
  refine Go.fst (congrArg Value.int ((upd_ne (by omega)).trans (upd_ne (by omega)) : (upd (upd f0 (25 + 3 * k) ((f0 (25 + 3 * k)) - (imin 2 (f0 (25 + 3 * k))))) (25 + 3 * k + 2) ((f0 (25 + 3 * k + 2)) - 1)) 12 = f0 12)) ?_
  refine f_iload_n K dX9_melts_47 rfl ?_
  refine f_iadd K dX9_melts_48 ?_
  refine f_iast (j := 12) K dX9_melts_49 (tw_a0 ht) nl_12 (by decide) (by decide) (tw_lo0 ht) (fun H8 hU ho => ?_)
  have hk := hk.st (j := 0) (by decide) hU
  have ht := tw_st0 ht hU ho
  exact f_retV K X rfl dX9_melts_50 (Nat.le_of_ble_eq_true rfl) (Nat.le_of_ble_eq_true rfl) (⟨rfl, ht, hk⟩)
/-- closes()V -/
theorem tm_closes {E : fE} {H : Heap} {m : Nat} {ad : Nat → Nat} {sc f0 f1 f2 f3 f4 fb ft fo : Row} (ht : twAt E H m ad sc f0 f1 f2 f3 f4 fb ft fo)  {n t : Nat} (ok : okr n t f0) : fM E yX9_closes prog_17_method_31_code 1 none 4 0 0 [.ref m] H (fun r_ H' => r_ = none ∧ twAt E H' m ad sc (sp_close f0) f1 f2 f3 f4 fb ft fo ∧ twK m ad H H') noX := by
  refine f_start (own := "SnowPassModel") (nm := "closes") (lv := [(0, .ref m)]) pn_X9 rfl rfl (Nat.le_of_ble_eq_true rfl) rfl (fun Z K X => ?_)
  have ok2 := okr_sg (p := 1) (okr_sg (p := 0) ok (by decide) (Or.inl rfl)) (by decide) (Or.inl rfl)
  obtain ⟨b_, hb2_, hb_⟩ := ok2.b
  have ok3 := okr_ent ok2 3
  have ok4 := okr_sb (p := 0) ok3 (by decide)
  have hk := twK.rf (m := m) (ad := ad) (H := H)
  refine f_aload_n K dX9_closes_0 rfl ?_
  refine f_iconst (v := 0) K dX9_closes_1 rfl ?_
  refine f_iconst (v := 3) K dX9_closes_2 rfl ?_
  refine f_iconst (v := 0) K dX9_closes_3 rfl ?_
  refine f_invV (As := [.int 0, .int 3, .int 0]) (rest := []) K (tm_putsPlough (E := E) (p := 0) (w := 3) ht 0 nl_0 3 nl_3 0 (by omega)) cs_X9_87 dX9_closes_4 (tw_o ht) rfl rfl rfl (Nat.le_of_ble_eq_true rfl) (Nat.le_of_ble_eq_true rfl) (Nat.le_of_ble_eq_true rfl) (Nat.le_of_ble_eq_true rfl) (fun v H1 hq hz => ?_) (fun _ _ _ h9 _ _ => h9.elim)
  obtain ⟨rfl, ht, hk1⟩ := hq
  have hk := hk.tr hk1
  have ht : twAt E H1 m ad sc (upd f0 20 0) f1 f2 f3 f4 fb ft fo := ht
  change Go E Z 1 H1 (0) (0) 7 [(0, .ref m)] []
  refine f_aload_n K dX9_closes_7 rfl ?_
  refine f_iconst (v := 1) K dX9_closes_8 rfl ?_
  refine f_iconst (v := 3) K dX9_closes_9 rfl ?_
  refine f_iconst (v := 0) K dX9_closes_10 rfl ?_
  refine f_invV (As := [.int 1, .int 3, .int 0]) (rest := []) K (tm_putsPlough (E := E) (p := 1) (w := 3) ht 1 nl_1 3 nl_3 0 (by omega)) cs_X9_87 dX9_closes_11 (tw_o ht) rfl rfl rfl (Nat.le_of_ble_eq_true rfl) (Nat.le_of_ble_eq_true rfl) (Nat.le_of_ble_eq_true rfl) (Nat.le_of_ble_eq_true rfl) (fun v H3 hq hz => ?_) (fun _ _ _ h9 _ _ => h9.elim)
  obtain ⟨rfl, ht, hk1⟩ := hq
  have hk := hk.tr hk1
  have ht : twAt E H3 m ad sc (upd (upd f0 20 0) 24 0) f1 f2 f3 f4 fb ft fo := ht
  change Go E Z 1 H3 (0) (0) 14 [(0, .ref m)] []
  refine f_aload_n K dX9_closes_14 rfl ?_
  refine f_iconst (v := 3) K dX9_closes_15 rfl ?_
  refine f_invV (As := [.int 3]) (rest := []) K (tm_enters (E := E)  ht 3 hb_ hb2_) cs_X9_91 dX9_closes_16 (tw_o ht) rfl rfl rfl (Nat.le_of_ble_eq_true rfl) (Nat.le_of_ble_eq_true rfl) (Nat.le_of_ble_eq_true rfl) (Nat.le_of_ble_eq_true rfl) (fun v H5 hq hz => ?_) (fun _ _ _ h9 _ _ => h9.elim)
  obtain ⟨rfl, ht, hk1⟩ := hq
  have hk := hk.tr hk1
  have ht : twAt E H5 m ad sc (sp_ent (upd (upd f0 20 0) 24 0) 3) f1 f2 f3 f4 fb ft fo := ht
  change Go E Z 1 H5 (0) (0) 19 [(0, .ref m)] []
  refine f_aload_n K dX9_closes_19 rfl ?_
  refine f_iconst (v := 0) K dX9_closes_20 rfl ?_
  refine f_invV (As := [.int 0]) (rest := []) K (tm_sendsBack (E := E) (p := 0) ht 0 nl_0 (by decide) ok3) cs_X9_113 dX9_closes_21 (tw_o ht) rfl rfl rfl (Nat.le_of_ble_eq_true rfl) (Nat.le_of_ble_eq_true rfl) (Nat.le_of_ble_eq_true rfl) (Nat.le_of_ble_eq_true rfl) (fun v H7 hq hz => ?_) (fun _ _ _ h9 _ _ => h9.elim)
  obtain ⟨rfl, ht, hk1⟩ := hq
  have hk := hk.tr hk1
  have ht : twAt E H7 m ad sc (sp_sb (sp_ent (upd (upd f0 20 0) 24 0) 3) 0) f1 f2 f3 f4 fb ft fo := ht
  change Go E Z 1 H7 (0) (0) 24 [(0, .ref m)] []
  refine f_aload_n K dX9_closes_24 rfl ?_
  refine f_iconst (v := 1) K dX9_closes_25 rfl ?_
  refine f_invV (As := [.int 1]) (rest := []) K (tm_sendsBack (E := E) (p := 1) ht 1 nl_1 (by decide) ok4) cs_X9_113 dX9_closes_26 (tw_o ht) rfl rfl rfl (Nat.le_of_ble_eq_true rfl) (Nat.le_of_ble_eq_true rfl) (Nat.le_of_ble_eq_true rfl) (Nat.le_of_ble_eq_true rfl) (fun v H9 hq hz => ?_) (fun _ _ _ h9 _ _ => h9.elim)
  obtain ⟨rfl, ht, hk1⟩ := hq
  have hk := hk.tr hk1
  have ht : twAt E H9 m ad sc (sp_sb (sp_sb (sp_ent (upd (upd f0 20 0) 24 0) 3) 0) 1) f1 f2 f3 f4 fb ft fo := ht
  change Go E Z 1 H9 (0) (0) 29 [(0, .ref m)] []
  exact f_retV K X rfl dX9_closes_29 (Nat.le_of_ble_eq_true rfl) (Nat.le_of_ble_eq_true rfl) (⟨rfl, ht, hk⟩)
/-- mayCross(II)Z -/
theorem tm_mayCross {E : fE} {H : Heap} {m : Nat} {ad : Nat → Nat} {sc f0 f1 f2 f3 f4 fb ft fo : Row} (ht : twAt E H m ad sc f0 f1 f2 f3 f4 fb ft fo) (x_s : Int32) {s : Nat} (h_s : x_s = nI s) (x_i : Int32) {i : Nat} (h_i : x_i = nI i) {n t : Nat} (hs : s < 2) (hi : i < 10) (ok : okr n t f0) : fM E yX9_mayCross prog_17_method_32_code 3 (some .boolean) 4 0 0 [.ref m, .int x_s, .int x_i] H (fun r_ H' => r_ = some (.int (bI (sp_may f0 (127 + 2 * (10 * s + i))))) ∧ H' = H) noX := by
  refine f_start (own := "SnowPassModel") (nm := "mayCross") (lv := [(0, .ref m), (1, .int x_s), (2, .int x_i)]) pn_X9 rfl rfl (Nat.le_of_ble_eq_true rfl) rfl (fun Z K X => ?_)
  refine f_aload_n K dX9_mayCross_0 rfl ?_
  refine f_iload_n K dX9_mayCross_1 rfl ?_
  refine f_iload_n K dX9_mayCross_2 rfl ?_
  refine f_iconst (v := 1) K dX9_mayCross_3 rfl ?_
  refine f_invV (As := [.int x_s, .int x_i, .int 1]) (rest := []) K (tm_cartAt (E := E) (s := s) (i := i) (w := 1) ht x_s h_s x_i h_i 1 nl_1 (by omega)) cs_X9_116 dX9_mayCross_4 (tw_o ht) rfl rfl rfl (Nat.le_of_ble_eq_true rfl) (Nat.le_of_ble_eq_true rfl) (Nat.le_of_ble_eq_true rfl) (Nat.le_of_ble_eq_true rfl) (fun v H1 hq hz => ?_) (fun _ _ _ h9 _ _ => h9.elim)
  obtain ⟨rfl, hq⟩ := hq
  rw [hq]
  change Go E Z 3 H (0) (0) 7 [(0, .ref m), (1, .int x_s), (2, .int x_i)] [.int (f0 (127 + 2 * (10 * s + i) + 1))]
  refine f_iconst (v := 1) K dX9_mayCross_7 rfl ?_
  refine f_icmp_ne (tgt := 32) K dX9_mayCross_8 (by decide) (fun c_8 => ?_) (fun c_8 => ?_)
  · refine f_aload_n K dX9_mayCross_32 rfl ?_
    refine f_invV (As := []) (rest := []) K (tm_isOpenNow (E := E)  ht ) cs_X9_95 dX9_mayCross_33 (tw_o ht) rfl rfl rfl (Nat.le_of_ble_eq_true rfl) (Nat.le_of_ble_eq_true rfl) (Nat.le_of_ble_eq_true rfl) (Nat.le_of_ble_eq_true rfl) (fun v H3 hq hz => ?_) (fun _ _ _ h9 _ _ => h9.elim)
    obtain ⟨rfl, hq⟩ := hq
    rw [hq]
    change Go E Z 3 H (0) (0) 36 [(0, .ref m), (1, .int x_s), (2, .int x_i)] [.int (bI (sp_open f0))]
    exact f_retI K X (Or.inr ⟨rfl, bI_01⟩) dX9_mayCross_36 (Nat.le_of_ble_eq_true rfl) (Nat.le_of_ble_eq_true rfl) (⟨rI (bI_c (by rw [sp_may, if_neg c_8])), rfl⟩)
  · refine f_aload_n K dX9_mayCross_11 rfl ?_
    refine f_invV (As := []) (rest := []) K (tm_depthNow (E := E)  ht ok.n (by have := ok.1; omega) (by have := ok.1; omega)) cs_X9_120 dX9_mayCross_12 (tw_o ht) rfl rfl rfl (Nat.le_of_ble_eq_true rfl) (Nat.le_of_ble_eq_true rfl) (Nat.le_of_ble_eq_true rfl) (Nat.le_of_ble_eq_true rfl) (fun v H4 hq hz => ?_) (fun _ _ _ h9 _ _ => h9.elim)
    obtain ⟨rfl, hq⟩ := hq
    rw [hq]
    change Go E Z 3 H (0) (0) 15 [(0, .ref m), (1, .int x_s), (2, .int x_i)] [.int (f0 (25 + 3 * sp_deep f0 (n - 1)))]
    refine f_aload_n K dX9_mayCross_15 rfl ?_
    refine f_get (v := .ref (ad 0)) K fl_X9_7_X9 dX9_mayCross_16 (tw_o ht) rfl ?_
    refine f_iconst (v := 4) K dX9_mayCross_19 rfl ?_
    refine f_iald (j := 4) K dX9_mayCross_20 (tw_a0 ht) nl_4 (by decide) (by decide) ?_
    refine f_icmp_gt (tgt := 28) K dX9_mayCross_21 (by decide) (fun c_21 => ?_) (fun c_21 => ?_)
    · refine f_iconst (v := 0) K dX9_mayCross_28 rfl ?_
      refine f_goto (tgt := 36) K dX9_mayCross_29 (by decide) ?_
      exact f_retI K X (Or.inr ⟨rfl, Or.inl rfl⟩) dX9_mayCross_36 (Nat.le_of_ble_eq_true rfl) (Nat.le_of_ble_eq_true rfl) (⟨rI0 (by rw [sp_may, if_pos c_8, ok.n, nI_clamp (by have := ok.1; omega)]; exact Int32.not_le.mpr c_21), rfl⟩)
    · refine f_iconst (v := 1) K dX9_mayCross_24 rfl ?_
      refine f_goto (tgt := 36) K dX9_mayCross_25 (by decide) ?_
      exact f_retI K X (Or.inr ⟨rfl, Or.inr rfl⟩) dX9_mayCross_36 (Nat.le_of_ble_eq_true rfl) (Nat.le_of_ble_eq_true rfl) (⟨rI1 (by rw [sp_may, if_pos c_8, ok.n, nI_clamp (by have := ok.1; omega)]; exact Int32.not_lt.mp c_21), rfl⟩)
/-- cartGoes(II)V -/
theorem tm_cartGoes {E : fE} {H : Heap} {m : Nat} {ad : Nat → Nat} {sc f0 f1 f2 f3 f4 fb ft fo : Row} (ht : twAt E H m ad sc f0 f1 f2 f3 f4 fb ft fo) (x_s : Int32) {s : Nat} (h_s : x_s = nI s) (x_i : Int32) {i : Nat} (h_i : x_i = nI i) {w : Nat} (hs : s < 2) (hw : f0 (125 + s) = nI w) (hw2 : w ≤ 10) (hi : i < w) : fM E yX9_cartGoes prog_17_method_33_code 5 none 1 0 0 [.ref m, .int x_s, .int x_i] H (fun r_ H' => r_ = none ∧ twAt E H' m ad sc (sp_goes f0 s i) f1 f2 f3 f4 fb ft fo ∧ twK m ad H H') noX := by
  refine f_start (own := "SnowPassModel") (nm := "cartGoes") (lv := [(0, .ref m), (1, .int x_s), (2, .int x_i)]) pn_X9 rfl rfl (Nat.le_of_ble_eq_true rfl) rfl (fun Z K X => ?_)
  have hk := twK.rf (m := m) (ad := ad) (H := H)
  refine f_aload_n K dX9_cartGoes_0 rfl ?_
  refine f_get (v := .ref (ad 0)) K fl_X9_7_X9 dX9_cartGoes_1 (tw_o ht) rfl ?_
  refine f_bipush (v := 125) K dX9_cartGoes_4 rfl ?_
  refine f_iload_n K dX9_cartGoes_6 rfl ?_
  refine f_iadd K dX9_cartGoes_7 ?_
  refine f_dup2 K dX9_cartGoes_8 rfl rfl ?_
  refine f_iald (j := (125 + s)) K dX9_cartGoes_9 (tw_a0 ht) (nia nl_125 h_s) (by omega) (by decide) ?_
  refine f_iconst (v := 1) K dX9_cartGoes_10 rfl ?_
  refine f_isub K dX9_cartGoes_11 ?_
  refine f_iast (j := (125 + s)) K dX9_cartGoes_12 (tw_a0 ht) (nia nl_125 h_s) (by omega) (by decide) (tw_lo0 ht) (fun H1 hU ho => ?_)
  have hk := hk.st (j := 0) (by decide) hU
  have ht := tw_st0 ht hU ho
  refine f_bipush (v := 127) K dX9_cartGoes_13 rfl ?_
  refine f_iconst (v := 2) K dX9_cartGoes_15 rfl ?_
  refine f_bipush (v := 10) K dX9_cartGoes_16 rfl ?_
  refine f_iload_n K dX9_cartGoes_18 rfl ?_
  refine f_imul K dX9_cartGoes_19 ?_
  refine f_aload_n K dX9_cartGoes_20 rfl ?_
  refine f_get (v := .ref (ad 0)) K fl_X9_7_X9 dX9_cartGoes_21 (tw_o ht) rfl ?_
  refine f_bipush (v := 125) K dX9_cartGoes_24 rfl ?_
  refine f_iload_n K dX9_cartGoes_26 rfl ?_
  refine f_iadd K dX9_cartGoes_27 ?_
  refine f_iald (j := (125 + s)) K dX9_cartGoes_28 (tw_a0 ht) (nia nl_125 h_s) (by omega) (by decide) ?_
  refine f_iadd K dX9_cartGoes_29 ?_
  refine f_imul K dX9_cartGoes_30 ?_
  refine f_iadd K dX9_cartGoes_31 ?_
  refine Go.topi (fun x_e e_x_e => ?_)
  refine f_istore_n (lv' := [(3, .int x_e), (0, .ref m), (1, .int x_s), (2, .int x_i)]) K dX9_cartGoes_32 (by decide) rfl ?_
  refine f_bipush (v := 127) K dX9_cartGoes_33 rfl ?_
  refine f_iconst (v := 2) K dX9_cartGoes_35 rfl ?_
  refine f_bipush (v := 10) K dX9_cartGoes_36 rfl ?_
  refine f_iload_n K dX9_cartGoes_38 rfl ?_
  refine f_imul K dX9_cartGoes_39 ?_
  refine f_iload_n K dX9_cartGoes_40 rfl ?_
  refine f_iadd K dX9_cartGoes_41 ?_
  refine f_imul K dX9_cartGoes_42 ?_
  refine f_iadd K dX9_cartGoes_43 ?_
  refine f_istore (lv' := [(4, .int (127 + (2 * ((10 * x_s) + x_i)))), (3, .int x_e), (0, .ref m), (1, .int x_s), (2, .int x_i)]) K dX9_cartGoes_44 (by decide) rfl ?_
  have loop : ∀ (d i9 : Nat) (x_i9 : Int32) (G : Heap), x_i9 = nI i9 → i9 + d = (127 + (2 * ((10 * s) + (w - 1)))) → twAt E G m ad sc (shf (upd f0 (125 + s) (f0 (125 + s) - 1)) (127 + 2 * (10 * s + i)) i9 2) f1 f2 f3 f4 fb ft fo → twK m ad H G → 127 + 2 * (10 * s + i) ≤ i9 → Go E Z 5 G (0) (0) 46 [(4, .int x_i9), (3, .int x_e), (0, .ref m), (1, .int x_s), (2, .int x_i)] [] := by
    intro d
    induction d with
    | zero =>
      intro i9 x_i9 G h_i9 hd ht hk hi85
      have hiu : i9 = (127 + (2 * ((10 * s) + (w - 1)))) := by omega
      rw [hiu] at ht
      refine f_iload K dX9_cartGoes_46 rfl ?_
      refine f_iload_n K dX9_cartGoes_48 rfl ?_
      refine f_icmp_ge (tgt := 74) K dX9_cartGoes_49 (by decide) (fun c_49 => ?_) (fun c_49 => ?_)
      · exact f_retV K X rfl dX9_cartGoes_74 (Nat.le_of_ble_eq_true rfl) (Nat.le_of_ble_eq_true rfl) (⟨rfl, by rw [sp_goes, show (f0 (125 + s) - 1).toNatClampNeg = w - 1 from by rw [nis hw nl_1 (by omega)]; exact nI_clamp (by omega)]; exact ht, hk⟩)
      · exact absurd (by rw [h_i9, (e_x_e.trans (nia nl_127 (nim nl_2 (nia (nim nl_10 h_s) (by rw [show (upd f0 (125 + s) (f0 (125 + s) - 1)) (125 + s) = f0 (125 + s) - 1 from if_pos rfl]; exact nis hw nl_1 (by omega))))))]; exact nI_le (by omega) (by omega)) c_49
    | succ d ih =>
      intro i9 x_i9 G h_i9 hd ht hk hi85
      refine f_iload K dX9_cartGoes_46 rfl ?_
      refine f_iload_n K dX9_cartGoes_48 rfl ?_
      refine f_icmp_ge (tgt := 74) K dX9_cartGoes_49 (by decide) (fun c_49 => ?_) (fun c_49 => ?_)
      · exact absurd c_49 (by rw [h_i9, (e_x_e.trans (nia nl_127 (nim nl_2 (nia (nim nl_10 h_s) (by rw [show (upd f0 (125 + s) (f0 (125 + s) - 1)) (125 + s) = f0 (125 + s) - 1 from if_pos rfl]; exact nis hw nl_1 (by omega))))))]; exact nI_ge (by omega) (by omega))
      · refine f_aload_n K dX9_cartGoes_52 rfl ?_
        refine f_get (v := .ref (ad 0)) K fl_X9_7_X9 dX9_cartGoes_53 (tw_o ht) rfl ?_
        refine f_iload K dX9_cartGoes_56 rfl ?_
        refine f_aload_n K dX9_cartGoes_58 rfl ?_
        refine f_get (v := .ref (ad 0)) K fl_X9_7_X9 dX9_cartGoes_59 (tw_o ht) rfl ?_
        refine f_iload K dX9_cartGoes_62 rfl ?_
        refine f_iconst (v := 2) K dX9_cartGoes_64 rfl ?_
        refine f_iadd K dX9_cartGoes_65 ?_
        refine f_iald (j := (i9 + 2)) K dX9_cartGoes_66 (tw_a0 ht) (nia h_i9 nl_2) (by omega) (by decide) ?_
        refine f_iast (j := i9) K dX9_cartGoes_67 (tw_a0 ht) h_i9 (by omega) (by decide) (tw_lo0 ht) (fun H4 hU ho => ?_)
        have hk := hk.st (j := 0) (by decide) hU
        have ht := tw_st0 ht hU ho
        refine f_iinc (v := x_i9 + 1) (lv' := [(4, .int (x_i9 + 1)), (3, .int x_e), (0, .ref m), (1, .int x_s), (2, .int x_i)]) K dX9_cartGoes_68 rfl rfl (by decide) rfl ?_
        refine f_goto (tgt := 46) K dX9_cartGoes_71 (by decide) ?_
        rw [shf_s (by omega)] at ht
        exact ih ((i9 + 1)) _ _ (nia h_i9 nl_1) (by omega) ht hk (by omega)
  exact loop ((127 + (2 * ((10 * s) + (w - 1)))) - (127 + (2 * ((10 * s) + i)))) (127 + (2 * ((10 * s) + i))) _ _ (nia nl_127 (nim nl_2 (nia (nim nl_10 h_s) h_i))) (by omega) (by rw [shf_0]; exact ht) hk (Nat.le_refl _)
/-- crosses(I)V -/
theorem tm_crosses {E : fE} {H : Heap} {m : Nat} {ad : Nat → Nat} {sc f0 f1 f2 f3 f4 fb ft fo : Row} (ht : twAt E H m ad sc f0 f1 f2 f3 f4 fb ft fo) (x_s : Int32) {s : Nat} (h_s : x_s = nI s) {n t : Nat} (hs : s < 2) (ok : okr n t f0) : fM E yX9_crosses prog_17_method_34_code 2 none 5 0 0 [.ref m, .int x_s] H (fun r_ H' => r_ = none ∧ twAt E H' m ad sc (sp_cross f0 s) f1 f2 f3 f4 fb ft fo ∧ twK m ad H H') noX := by
  refine f_start (own := "SnowPassModel") (nm := "crosses") (lv := [(0, .ref m), (1, .int x_s)]) pn_X9 rfl rfl (Nat.le_of_ble_eq_true rfl) rfl (fun Z K X => ?_)
  obtain ⟨w, hw2, hw⟩ := ok.w hs
  have hk := twK.rf (m := m) (ad := ad) (H := H)
  refine f_aload_n K dX9_crosses_0 rfl ?_
  refine f_get (v := .ref (ad 0)) K fl_X9_7_X9 dX9_crosses_1 (tw_o ht) rfl ?_
  refine f_bipush (v := 125) K dX9_crosses_4 rfl ?_
  refine f_iload_n K dX9_crosses_6 rfl ?_
  refine f_iadd K dX9_crosses_7 ?_
  refine f_iald (j := (125 + s)) K dX9_crosses_8 (tw_a0 ht) (nia nl_125 h_s) (by omega) (by decide) ?_
  refine f_if_eq (tgt := 21) K dX9_crosses_9 (by decide) (fun c_9 => ?_) (fun c_9 => ?_)
  · exact f_retV K X rfl dX9_crosses_21 (Nat.le_of_ble_eq_true rfl) (Nat.le_of_ble_eq_true rfl) (⟨rfl, by rw [show sp_cross f0 s = _ from if_pos (Or.inl c_9)]; exact ht, hk⟩)
  · refine f_aload_n K dX9_crosses_12 rfl ?_
    refine f_iload_n K dX9_crosses_13 rfl ?_
    refine f_iconst (v := 0) K dX9_crosses_14 rfl ?_
    refine f_invV (As := [.int x_s, .int 0]) (rest := []) K (tm_mayCross (E := E) (s := s) (i := 0) ht x_s h_s 0 nl_0 hs (by decide) ok) cs_X9_123 dX9_crosses_15 (tw_o ht) rfl rfl rfl (Nat.le_of_ble_eq_true rfl) (Nat.le_of_ble_eq_true rfl) (Nat.le_of_ble_eq_true rfl) (Nat.le_of_ble_eq_true rfl) (fun v H2 hq hz => ?_) (fun _ _ _ h9 _ _ => h9.elim)
    obtain ⟨rfl, hq⟩ := hq
    rw [hq]
    change Go E Z 2 H (0) (0) 18 [(0, .ref m), (1, .int x_s)] [.int (bI (sp_may f0 (127 + 2 * (10 * s + 0))))]
    refine f_if_neB (tgt := 22) K dX9_crosses_18 (by decide) (fun c_18 => ?_) (fun c_18 => ?_)
    · refine f_aload_n K dX9_crosses_22 rfl ?_
      refine f_iload_n K dX9_crosses_23 rfl ?_
      refine f_iconst (v := 0) K dX9_crosses_24 rfl ?_
      have hw1 : 0 < w := by
        rcases Nat.eq_zero_or_pos w with z | z
        · exact absurd (by rw [hw, z]; rfl) c_9
        · exact z
      refine f_invV (As := [.int x_s, .int 0]) (rest := []) K (tm_cartGoes (E := E) (s := s) (i := 0) ht x_s h_s 0 nl_0 hs hw hw2 hw1) cs_X9_127 dX9_crosses_25 (tw_o ht) rfl rfl rfl (Nat.le_of_ble_eq_true rfl) (Nat.le_of_ble_eq_true rfl) (Nat.le_of_ble_eq_true rfl) (Nat.le_of_ble_eq_true rfl) (fun v H4 hq hz => ?_) (fun _ _ _ h9 _ _ => h9.elim)
      obtain ⟨rfl, ht, hk1⟩ := hq
      have hk := hk.tr hk1
      have ht : twAt E H4 m ad sc (sp_goes f0 s 0) f1 f2 f3 f4 fb ft fo := ht
      change Go E Z 2 H4 (0) (0) 28 [(0, .ref m), (1, .int x_s)] []
      refine f_aload_n K dX9_crosses_28 rfl ?_
      refine f_get (v := .ref (ad 0)) K fl_X9_7_X9 dX9_crosses_29 (tw_o ht) rfl ?_
      refine f_bipush (v := 15) K dX9_crosses_32 rfl ?_
      refine f_iload_n K dX9_crosses_34 rfl ?_
      refine f_iadd K dX9_crosses_35 ?_
      refine f_dup2 K dX9_crosses_36 rfl rfl ?_
      refine f_iald (j := (15 + s)) K dX9_crosses_37 (tw_a0 ht) (nia nl_15 h_s) (by omega) (by decide) ?_
      refine f_iconst (v := 1) K dX9_crosses_38 rfl ?_
      refine f_iadd K dX9_crosses_39 ?_
      refine f_iast (j := (15 + s)) K dX9_crosses_40 (tw_a0 ht) (nia nl_15 h_s) (by omega) (by decide) (tw_lo0 ht) (fun H6 hU ho => ?_)
      have hk := hk.st (j := 0) (by decide) hU
      have ht := tw_st0 ht hU ho
      exact f_retV K X rfl dX9_crosses_41 (Nat.le_of_ble_eq_true rfl) (Nat.le_of_ble_eq_true rfl) (⟨rfl, by rw [show sp_cross f0 s = _ from if_neg (fun q => q.elim c_9 (fun z => z c_18))]; exact ht, hk⟩)
    · exact f_retV K X rfl dX9_crosses_21 (Nat.le_of_ble_eq_true rfl) (Nat.le_of_ble_eq_true rfl) (⟨rfl, by rw [show sp_cross f0 s = _ from if_pos (Or.inr c_18)]; exact ht, hk⟩)
theorem wh_eq {n t : Nat} {f : Row} (h : okr n t f) : sp_wh f = sp_work (sp_work (sp_cl1 (sp_snowA f n) n) 0) 1 := by
  unfold sp_wh
  rw [h.n, nI_clamp (by have := h.1; omega)]
/-- hourOnce()V -/
theorem tm_hourOnce {E : fE} {H : Heap} {m : Nat} {ad : Nat → Nat} {sc f0 f1 f2 f3 f4 fb ft fo : Row} (ht : twAt E H m ad sc f0 f1 f2 f3 f4 fb ft fo)  {n t : Nat} (ok : okr n t f0) : fM E yX9_hourOnce prog_17_method_35_code 2 none 6 0 0 [.ref m] H (fun r_ H' => r_ = none ∧ twAt E H' m ad sc (sp_hour f0) f1 f2 f3 f4 fb ft fo ∧ twK m ad H H') noX := by
  refine f_start (own := "SnowPassModel") (nm := "hourOnce") (lv := [(0, .ref m)]) pn_X9 rfl rfl (Nat.le_of_ble_eq_true rfl) rfl (fun Z K X => ?_)
  have hb9 := ok.1
  have ok1 := okr_snowA ok n (Nat.le_refl _)
  have ok2 := okr_cl1 ok1
  have ok3 := okr_work (p := 0) ok2 (by decide)
  have ok4 := okr_work (p := 1) ok3 (by decide)
  have ok5 := okr_cross (s := 0) ok4 (by decide)
  have hk := twK.rf (m := m) (ad := ad) (H := H)
  refine f_iconst (v := 0) K dX9_hourOnce_0 rfl ?_
  refine f_istore_n (lv' := [(1, .int 0), (0, .ref m)]) K dX9_hourOnce_1 (by decide) rfl ?_
  have loop : ∀ (d i : Nat) (x_i : Int32) (G : Heap), x_i = nI i → i + d = n → twAt E G m ad sc (sp_snowA f0 i) f1 f2 f3 f4 fb ft fo → twK m ad H G → Go E Z 2 G (0) (0) 2 [(1, .int x_i), (0, .ref m)] [] := by
    intro d
    induction d with
    | zero =>
      intro i x_i G h_i hd ht hk
      have hiu : i = n := by omega
      rw [hiu] at ht
      refine f_iload_n K dX9_hourOnce_2 rfl ?_
      refine f_aload_n K dX9_hourOnce_3 rfl ?_
      refine f_get (v := .ref (ad 0)) K fl_X9_7_X9 dX9_hourOnce_4 (tw_o ht) rfl ?_
      refine f_iconst (v := 0) K dX9_hourOnce_7 rfl ?_
      refine f_iald (j := 0) K dX9_hourOnce_8 (tw_a0 ht) nl_0 (by decide) (by decide) ?_
      refine f_icmp_ge (tgt := 40) K dX9_hourOnce_9 (by decide) (fun c_9 => ?_) (fun c_9 => ?_)
      · refine f_aload_n K dX9_hourOnce_40 rfl ?_
        refine f_invV (As := []) (rest := []) K (tm_isOpenNow (E := E)  ht ) cs_X9_95 dX9_hourOnce_41 (tw_o ht) rfl rfl rfl (Nat.le_of_ble_eq_true rfl) (Nat.le_of_ble_eq_true rfl) (Nat.le_of_ble_eq_true rfl) (Nat.le_of_ble_eq_true rfl) (fun v H2 hq hz => ?_) (fun _ _ _ h9 _ _ => h9.elim)
        obtain ⟨rfl, hq⟩ := hq
        rw [hq]
        change Go E Z 2 G (0) (0) 44 [(1, .int x_i), (0, .ref m)] [.int (bI (sp_open (sp_snowA f0 n)))]
        refine f_if_eqB (tgt := 64) K dX9_hourOnce_44 (by decide) (fun c_44 => ?_) (fun c_44 => ?_)
        · have hc1 : sp_cl1 (sp_snowA f0 n) n = (sp_snowA f0 n) := if_neg (fun q => c_44 q.1)
          rw [← hc1] at ht
          refine f_aload_n K dX9_hourOnce_64 rfl ?_
          refine f_iconst (v := 0) K dX9_hourOnce_65 rfl ?_
          refine f_invV (As := [.int 0]) (rest := []) K (tm_works (E := E) (p := 0) ht 0 nl_0 (by decide) ok2) cs_X9_140 dX9_hourOnce_66 (tw_o ht) rfl rfl rfl (Nat.le_of_ble_eq_true rfl) (Nat.le_of_ble_eq_true rfl) (Nat.le_of_ble_eq_true rfl) (Nat.le_of_ble_eq_true rfl) (fun v H4 hq hz => ?_) (fun _ _ _ h9 _ _ => h9.elim)
          obtain ⟨rfl, ht, hk1⟩ := hq
          have hk := hk.tr hk1
          have ht : twAt E H4 m ad sc (sp_work (sp_cl1 (sp_snowA f0 n) n) 0) f1 f2 f3 f4 fb ft fo := ht
          change Go E Z 2 H4 (0) (0) 69 [(1, .int x_i), (0, .ref m)] []
          refine f_aload_n K dX9_hourOnce_69 rfl ?_
          refine f_iconst (v := 1) K dX9_hourOnce_70 rfl ?_
          refine f_invV (As := [.int 1]) (rest := []) K (tm_works (E := E) (p := 1) ht 1 nl_1 (by decide) ok3) cs_X9_140 dX9_hourOnce_71 (tw_o ht) rfl rfl rfl (Nat.le_of_ble_eq_true rfl) (Nat.le_of_ble_eq_true rfl) (Nat.le_of_ble_eq_true rfl) (Nat.le_of_ble_eq_true rfl) (fun v H6 hq hz => ?_) (fun _ _ _ h9 _ _ => h9.elim)
          obtain ⟨rfl, ht, hk1⟩ := hq
          have hk := hk.tr hk1
          have ht : twAt E H6 m ad sc (sp_work (sp_work (sp_cl1 (sp_snowA f0 n) n) 0) 1) f1 f2 f3 f4 fb ft fo := ht
          change Go E Z 2 H6 (0) (0) 74 [(1, .int x_i), (0, .ref m)] []
          refine f_aload_n K dX9_hourOnce_74 rfl ?_
          refine f_iconst (v := 0) K dX9_hourOnce_75 rfl ?_
          refine f_invV (As := [.int 0]) (rest := []) K (tm_crosses (E := E) (s := 0) ht 0 nl_0 (by decide) ok4) cs_X9_143 dX9_hourOnce_76 (tw_o ht) rfl rfl rfl (Nat.le_of_ble_eq_true rfl) (Nat.le_of_ble_eq_true rfl) (Nat.le_of_ble_eq_true rfl) (Nat.le_of_ble_eq_true rfl) (fun v H8 hq hz => ?_) (fun _ _ _ h9 _ _ => h9.elim)
          obtain ⟨rfl, ht, hk1⟩ := hq
          have hk := hk.tr hk1
          have ht : twAt E H8 m ad sc (sp_cross (sp_work (sp_work (sp_cl1 (sp_snowA f0 n) n) 0) 1) 0) f1 f2 f3 f4 fb ft fo := ht
          change Go E Z 2 H8 (0) (0) 79 [(1, .int x_i), (0, .ref m)] []
          refine f_aload_n K dX9_hourOnce_79 rfl ?_
          refine f_iconst (v := 1) K dX9_hourOnce_80 rfl ?_
          refine f_invV (As := [.int 1]) (rest := []) K (tm_crosses (E := E) (s := 1) ht 1 nl_1 (by decide) ok5) cs_X9_143 dX9_hourOnce_81 (tw_o ht) rfl rfl rfl (Nat.le_of_ble_eq_true rfl) (Nat.le_of_ble_eq_true rfl) (Nat.le_of_ble_eq_true rfl) (Nat.le_of_ble_eq_true rfl) (fun v H10 hq hz => ?_) (fun _ _ _ h9 _ _ => h9.elim)
          obtain ⟨rfl, ht, hk1⟩ := hq
          have hk := hk.tr hk1
          have ht : twAt E H10 m ad sc (sp_cross (sp_cross (sp_work (sp_work (sp_cl1 (sp_snowA f0 n) n) 0) 1) 0) 1) f1 f2 f3 f4 fb ft fo := ht
          change Go E Z 2 H10 (0) (0) 84 [(1, .int x_i), (0, .ref m)] []
          refine f_aload_n K dX9_hourOnce_84 rfl ?_
          refine f_get (v := .ref (ad 0)) K fl_X9_7_X9 dX9_hourOnce_85 (tw_o ht) rfl ?_
          refine f_bipush (v := 7) K dX9_hourOnce_88 rfl ?_
          refine f_dup2 K dX9_hourOnce_90 rfl rfl ?_
          refine f_iald (j := 7) K dX9_hourOnce_91 (tw_a0 ht) nl_7 (by decide) (by decide) ?_
          refine f_iconst (v := 1) K dX9_hourOnce_92 rfl ?_
          refine f_iadd K dX9_hourOnce_93 ?_
          refine f_iast (j := 7) K dX9_hourOnce_94 (tw_a0 ht) nl_7 (by decide) (by decide) (tw_lo0 ht) (fun H12 hU ho => ?_)
          have hk := hk.st (j := 0) (by decide) hU
          have ht := tw_st0 ht hU ho
          exact f_retV K X rfl dX9_hourOnce_95 (Nat.le_of_ble_eq_true rfl) (Nat.le_of_ble_eq_true rfl) (⟨rfl, by rw [sp_hour, wh_eq ok]; exact ht, hk⟩)
        · refine f_aload_n K dX9_hourOnce_47 rfl ?_
          refine f_invV (As := []) (rest := []) K (tm_depthNow (E := E)  ht ok1.n (by omega) (by omega)) cs_X9_120 dX9_hourOnce_48 (tw_o ht) rfl rfl rfl (Nat.le_of_ble_eq_true rfl) (Nat.le_of_ble_eq_true rfl) (Nat.le_of_ble_eq_true rfl) (Nat.le_of_ble_eq_true rfl) (fun v H13 hq hz => ?_) (fun _ _ _ h9 _ _ => h9.elim)
          obtain ⟨rfl, hq⟩ := hq
          rw [hq]
          change Go E Z 2 G (0) (0) 51 [(1, .int x_i), (0, .ref m)] [.int ((sp_snowA f0 n) (25 + 3 * sp_deep (sp_snowA f0 n) (n - 1)))]
          refine f_aload_n K dX9_hourOnce_51 rfl ?_
          refine f_get (v := .ref (ad 0)) K fl_X9_7_X9 dX9_hourOnce_52 (tw_o ht) rfl ?_
          refine f_iconst (v := 3) K dX9_hourOnce_55 rfl ?_
          refine f_iald (j := 3) K dX9_hourOnce_56 (tw_a0 ht) nl_3 (by decide) (by decide) ?_
          refine f_icmp_le (tgt := 64) K dX9_hourOnce_57 (by decide) (fun c_57 => ?_) (fun c_57 => ?_)
          · have hc1 : sp_cl1 (sp_snowA f0 n) n = (sp_snowA f0 n) := if_neg (fun q => Int32.not_lt.mpr c_57 q.2)
            rw [← hc1] at ht
            refine f_aload_n K dX9_hourOnce_64 rfl ?_
            refine f_iconst (v := 0) K dX9_hourOnce_65 rfl ?_
            refine f_invV (As := [.int 0]) (rest := []) K (tm_works (E := E) (p := 0) ht 0 nl_0 (by decide) ok2) cs_X9_140 dX9_hourOnce_66 (tw_o ht) rfl rfl rfl (Nat.le_of_ble_eq_true rfl) (Nat.le_of_ble_eq_true rfl) (Nat.le_of_ble_eq_true rfl) (Nat.le_of_ble_eq_true rfl) (fun v H15 hq hz => ?_) (fun _ _ _ h9 _ _ => h9.elim)
            obtain ⟨rfl, ht, hk1⟩ := hq
            have hk := hk.tr hk1
            have ht : twAt E H15 m ad sc (sp_work (sp_cl1 (sp_snowA f0 n) n) 0) f1 f2 f3 f4 fb ft fo := ht
            change Go E Z 2 H15 (0) (0) 69 [(1, .int x_i), (0, .ref m)] []
            refine f_aload_n K dX9_hourOnce_69 rfl ?_
            refine f_iconst (v := 1) K dX9_hourOnce_70 rfl ?_
            refine f_invV (As := [.int 1]) (rest := []) K (tm_works (E := E) (p := 1) ht 1 nl_1 (by decide) ok3) cs_X9_140 dX9_hourOnce_71 (tw_o ht) rfl rfl rfl (Nat.le_of_ble_eq_true rfl) (Nat.le_of_ble_eq_true rfl) (Nat.le_of_ble_eq_true rfl) (Nat.le_of_ble_eq_true rfl) (fun v H17 hq hz => ?_) (fun _ _ _ h9 _ _ => h9.elim)
            obtain ⟨rfl, ht, hk1⟩ := hq
            have hk := hk.tr hk1
            have ht : twAt E H17 m ad sc (sp_work (sp_work (sp_cl1 (sp_snowA f0 n) n) 0) 1) f1 f2 f3 f4 fb ft fo := ht
            change Go E Z 2 H17 (0) (0) 74 [(1, .int x_i), (0, .ref m)] []
            refine f_aload_n K dX9_hourOnce_74 rfl ?_
            refine f_iconst (v := 0) K dX9_hourOnce_75 rfl ?_
            refine f_invV (As := [.int 0]) (rest := []) K (tm_crosses (E := E) (s := 0) ht 0 nl_0 (by decide) ok4) cs_X9_143 dX9_hourOnce_76 (tw_o ht) rfl rfl rfl (Nat.le_of_ble_eq_true rfl) (Nat.le_of_ble_eq_true rfl) (Nat.le_of_ble_eq_true rfl) (Nat.le_of_ble_eq_true rfl) (fun v H19 hq hz => ?_) (fun _ _ _ h9 _ _ => h9.elim)
            obtain ⟨rfl, ht, hk1⟩ := hq
            have hk := hk.tr hk1
            have ht : twAt E H19 m ad sc (sp_cross (sp_work (sp_work (sp_cl1 (sp_snowA f0 n) n) 0) 1) 0) f1 f2 f3 f4 fb ft fo := ht
            change Go E Z 2 H19 (0) (0) 79 [(1, .int x_i), (0, .ref m)] []
            refine f_aload_n K dX9_hourOnce_79 rfl ?_
            refine f_iconst (v := 1) K dX9_hourOnce_80 rfl ?_
            refine f_invV (As := [.int 1]) (rest := []) K (tm_crosses (E := E) (s := 1) ht 1 nl_1 (by decide) ok5) cs_X9_143 dX9_hourOnce_81 (tw_o ht) rfl rfl rfl (Nat.le_of_ble_eq_true rfl) (Nat.le_of_ble_eq_true rfl) (Nat.le_of_ble_eq_true rfl) (Nat.le_of_ble_eq_true rfl) (fun v H21 hq hz => ?_) (fun _ _ _ h9 _ _ => h9.elim)
            obtain ⟨rfl, ht, hk1⟩ := hq
            have hk := hk.tr hk1
            have ht : twAt E H21 m ad sc (sp_cross (sp_cross (sp_work (sp_work (sp_cl1 (sp_snowA f0 n) n) 0) 1) 0) 1) f1 f2 f3 f4 fb ft fo := ht
            change Go E Z 2 H21 (0) (0) 84 [(1, .int x_i), (0, .ref m)] []
            refine f_aload_n K dX9_hourOnce_84 rfl ?_
            refine f_get (v := .ref (ad 0)) K fl_X9_7_X9 dX9_hourOnce_85 (tw_o ht) rfl ?_
            refine f_bipush (v := 7) K dX9_hourOnce_88 rfl ?_
            refine f_dup2 K dX9_hourOnce_90 rfl rfl ?_
            refine f_iald (j := 7) K dX9_hourOnce_91 (tw_a0 ht) nl_7 (by decide) (by decide) ?_
            refine f_iconst (v := 1) K dX9_hourOnce_92 rfl ?_
            refine f_iadd K dX9_hourOnce_93 ?_
            refine f_iast (j := 7) K dX9_hourOnce_94 (tw_a0 ht) nl_7 (by decide) (by decide) (tw_lo0 ht) (fun H23 hU ho => ?_)
            have hk := hk.st (j := 0) (by decide) hU
            have ht := tw_st0 ht hU ho
            exact f_retV K X rfl dX9_hourOnce_95 (Nat.le_of_ble_eq_true rfl) (Nat.le_of_ble_eq_true rfl) (⟨rfl, by rw [sp_hour, wh_eq ok]; exact ht, hk⟩)
          · refine f_aload_n K dX9_hourOnce_60 rfl ?_
            refine f_invV (As := []) (rest := []) K (tm_closes (E := E)  ht ok1) cs_X9_137 dX9_hourOnce_61 (tw_o ht) rfl rfl rfl (Nat.le_of_ble_eq_true rfl) (Nat.le_of_ble_eq_true rfl) (Nat.le_of_ble_eq_true rfl) (Nat.le_of_ble_eq_true rfl) (fun v H24 hq hz => ?_) (fun _ _ _ h9 _ _ => h9.elim)
            obtain ⟨rfl, ht, hk1⟩ := hq
            have hk := hk.tr hk1
            have ht : twAt E H24 m ad sc (sp_close (sp_snowA f0 n)) f1 f2 f3 f4 fb ft fo := ht
            change Go E Z 2 H24 (0) (0) 64 [(1, .int x_i), (0, .ref m)] []
            have hc1 : sp_cl1 (sp_snowA f0 n) n = (sp_close (sp_snowA f0 n)) := if_pos ⟨c_44, Int32.not_le.mp c_57⟩
            rw [← hc1] at ht
            refine f_aload_n K dX9_hourOnce_64 rfl ?_
            refine f_iconst (v := 0) K dX9_hourOnce_65 rfl ?_
            refine f_invV (As := [.int 0]) (rest := []) K (tm_works (E := E) (p := 0) ht 0 nl_0 (by decide) ok2) cs_X9_140 dX9_hourOnce_66 (tw_o ht) rfl rfl rfl (Nat.le_of_ble_eq_true rfl) (Nat.le_of_ble_eq_true rfl) (Nat.le_of_ble_eq_true rfl) (Nat.le_of_ble_eq_true rfl) (fun v H26 hq hz => ?_) (fun _ _ _ h9 _ _ => h9.elim)
            obtain ⟨rfl, ht, hk1⟩ := hq
            have hk := hk.tr hk1
            have ht : twAt E H26 m ad sc (sp_work (sp_cl1 (sp_snowA f0 n) n) 0) f1 f2 f3 f4 fb ft fo := ht
            change Go E Z 2 H26 (0) (0) 69 [(1, .int x_i), (0, .ref m)] []
            refine f_aload_n K dX9_hourOnce_69 rfl ?_
            refine f_iconst (v := 1) K dX9_hourOnce_70 rfl ?_
            refine f_invV (As := [.int 1]) (rest := []) K (tm_works (E := E) (p := 1) ht 1 nl_1 (by decide) ok3) cs_X9_140 dX9_hourOnce_71 (tw_o ht) rfl rfl rfl (Nat.le_of_ble_eq_true rfl) (Nat.le_of_ble_eq_true rfl) (Nat.le_of_ble_eq_true rfl) (Nat.le_of_ble_eq_true rfl) (fun v H28 hq hz => ?_) (fun _ _ _ h9 _ _ => h9.elim)
            obtain ⟨rfl, ht, hk1⟩ := hq
            have hk := hk.tr hk1
            have ht : twAt E H28 m ad sc (sp_work (sp_work (sp_cl1 (sp_snowA f0 n) n) 0) 1) f1 f2 f3 f4 fb ft fo := ht
            change Go E Z 2 H28 (0) (0) 74 [(1, .int x_i), (0, .ref m)] []
            refine f_aload_n K dX9_hourOnce_74 rfl ?_
            refine f_iconst (v := 0) K dX9_hourOnce_75 rfl ?_
            refine f_invV (As := [.int 0]) (rest := []) K (tm_crosses (E := E) (s := 0) ht 0 nl_0 (by decide) ok4) cs_X9_143 dX9_hourOnce_76 (tw_o ht) rfl rfl rfl (Nat.le_of_ble_eq_true rfl) (Nat.le_of_ble_eq_true rfl) (Nat.le_of_ble_eq_true rfl) (Nat.le_of_ble_eq_true rfl) (fun v H30 hq hz => ?_) (fun _ _ _ h9 _ _ => h9.elim)
            obtain ⟨rfl, ht, hk1⟩ := hq
            have hk := hk.tr hk1
            have ht : twAt E H30 m ad sc (sp_cross (sp_work (sp_work (sp_cl1 (sp_snowA f0 n) n) 0) 1) 0) f1 f2 f3 f4 fb ft fo := ht
            change Go E Z 2 H30 (0) (0) 79 [(1, .int x_i), (0, .ref m)] []
            refine f_aload_n K dX9_hourOnce_79 rfl ?_
            refine f_iconst (v := 1) K dX9_hourOnce_80 rfl ?_
            refine f_invV (As := [.int 1]) (rest := []) K (tm_crosses (E := E) (s := 1) ht 1 nl_1 (by decide) ok5) cs_X9_143 dX9_hourOnce_81 (tw_o ht) rfl rfl rfl (Nat.le_of_ble_eq_true rfl) (Nat.le_of_ble_eq_true rfl) (Nat.le_of_ble_eq_true rfl) (Nat.le_of_ble_eq_true rfl) (fun v H32 hq hz => ?_) (fun _ _ _ h9 _ _ => h9.elim)
            obtain ⟨rfl, ht, hk1⟩ := hq
            have hk := hk.tr hk1
            have ht : twAt E H32 m ad sc (sp_cross (sp_cross (sp_work (sp_work (sp_cl1 (sp_snowA f0 n) n) 0) 1) 0) 1) f1 f2 f3 f4 fb ft fo := ht
            change Go E Z 2 H32 (0) (0) 84 [(1, .int x_i), (0, .ref m)] []
            refine f_aload_n K dX9_hourOnce_84 rfl ?_
            refine f_get (v := .ref (ad 0)) K fl_X9_7_X9 dX9_hourOnce_85 (tw_o ht) rfl ?_
            refine f_bipush (v := 7) K dX9_hourOnce_88 rfl ?_
            refine f_dup2 K dX9_hourOnce_90 rfl rfl ?_
            refine f_iald (j := 7) K dX9_hourOnce_91 (tw_a0 ht) nl_7 (by decide) (by decide) ?_
            refine f_iconst (v := 1) K dX9_hourOnce_92 rfl ?_
            refine f_iadd K dX9_hourOnce_93 ?_
            refine f_iast (j := 7) K dX9_hourOnce_94 (tw_a0 ht) nl_7 (by decide) (by decide) (tw_lo0 ht) (fun H34 hU ho => ?_)
            have hk := hk.st (j := 0) (by decide) hU
            have ht := tw_st0 ht hU ho
            exact f_retV K X rfl dX9_hourOnce_95 (Nat.le_of_ble_eq_true rfl) (Nat.le_of_ble_eq_true rfl) (⟨rfl, by rw [sp_hour, wh_eq ok]; exact ht, hk⟩)
      · exact absurd (by rw [h_i, (okr_snowA ok n (by omega)).n]; exact nI_le (by omega) (by omega)) c_9
    | succ d ih =>
      intro i x_i G h_i hd ht hk
      refine f_iload_n K dX9_hourOnce_2 rfl ?_
      refine f_aload_n K dX9_hourOnce_3 rfl ?_
      refine f_get (v := .ref (ad 0)) K fl_X9_7_X9 dX9_hourOnce_4 (tw_o ht) rfl ?_
      refine f_iconst (v := 0) K dX9_hourOnce_7 rfl ?_
      refine f_iald (j := 0) K dX9_hourOnce_8 (tw_a0 ht) nl_0 (by decide) (by decide) ?_
      refine f_icmp_ge (tgt := 40) K dX9_hourOnce_9 (by decide) (fun c_9 => ?_) (fun c_9 => ?_)
      · exact absurd c_9 (by rw [h_i, (okr_snowA ok i (by omega)).n]; exact nI_ge (by omega) (by omega))
      · refine f_aload_n K dX9_hourOnce_12 rfl ?_
        refine f_iload_n K dX9_hourOnce_13 rfl ?_
        refine f_iconst (v := 2) K dX9_hourOnce_14 rfl ?_
        refine f_invV (As := [.int x_i, .int 2]) (rest := []) K (tm_of (E := E) (k := i) (w := 2) ht x_i h_i 2 nl_2 (by omega)) cs_X9_66 dX9_hourOnce_15 (tw_o ht) rfl rfl rfl (Nat.le_of_ble_eq_true rfl) (Nat.le_of_ble_eq_true rfl) (Nat.le_of_ble_eq_true rfl) (Nat.le_of_ble_eq_true rfl) (fun v H36 hq hz => ?_) (fun _ _ _ h9 _ _ => h9.elim)
        obtain ⟨rfl, hq⟩ := hq
        rw [hq]
        change Go E Z 2 G (0) (0) 18 [(1, .int x_i), (0, .ref m)] [.int ((sp_snowA f0 i) (25 + 3 * i + 2))]
        refine f_if_le (tgt := 29) K dX9_hourOnce_18 (by decide) (fun c_18 => ?_) (fun c_18 => ?_)
        · refine f_aload_n K dX9_hourOnce_29 rfl ?_
          refine f_iload_n K dX9_hourOnce_30 rfl ?_
          refine f_invV (As := [.int x_i]) (rest := []) K (tm_snows (E := E) (k := i) ht x_i h_i (by omega)) cs_X9_134 dX9_hourOnce_31 (tw_o ht) rfl rfl rfl (Nat.le_of_ble_eq_true rfl) (Nat.le_of_ble_eq_true rfl) (Nat.le_of_ble_eq_true rfl) (Nat.le_of_ble_eq_true rfl) (fun v H38 hq hz => ?_) (fun _ _ _ h9 _ _ => h9.elim)
          obtain ⟨rfl, ht, hk1⟩ := hq
          have hk := hk.tr hk1
          have ht : twAt E H38 m ad sc (sp_snow (sp_snowA f0 i) i) f1 f2 f3 f4 fb ft fo := ht
          change Go E Z 2 H38 (0) (0) 34 [(1, .int x_i), (0, .ref m)] []
          refine f_iinc (v := x_i + 1) (lv' := [(1, .int (x_i + 1)), (0, .ref m)]) K dX9_hourOnce_34 rfl rfl (by decide) rfl ?_
          refine f_goto (tgt := 2) K dX9_hourOnce_37 (by decide) ?_
          rw [show (sp_snow (sp_snowA f0 i) i) = sp_snowA f0 (i + 1) from (if_neg (Int32.not_lt.mpr c_18)).symm] at ht
          exact ih ((i + 1)) _ _ (nia h_i nl_1) (by omega) ht hk
        · refine f_aload_n K dX9_hourOnce_21 rfl ?_
          refine f_iload_n K dX9_hourOnce_22 rfl ?_
          refine f_invV (As := [.int x_i]) (rest := []) K (tm_melts (E := E) (k := i) ht x_i h_i (by omega)) cs_X9_131 dX9_hourOnce_23 (tw_o ht) rfl rfl rfl (Nat.le_of_ble_eq_true rfl) (Nat.le_of_ble_eq_true rfl) (Nat.le_of_ble_eq_true rfl) (Nat.le_of_ble_eq_true rfl) (fun v H40 hq hz => ?_) (fun _ _ _ h9 _ _ => h9.elim)
          obtain ⟨rfl, ht, hk1⟩ := hq
          have hk := hk.tr hk1
          have ht : twAt E H40 m ad sc (sp_melt (sp_snowA f0 i) i) f1 f2 f3 f4 fb ft fo := ht
          change Go E Z 2 H40 (0) (0) 26 [(1, .int x_i), (0, .ref m)] []
          refine f_goto (tgt := 34) K dX9_hourOnce_26 (by decide) ?_
          refine f_iinc (v := x_i + 1) (lv' := [(1, .int (x_i + 1)), (0, .ref m)]) K dX9_hourOnce_34 rfl rfl (by decide) rfl ?_
          refine f_goto (tgt := 2) K dX9_hourOnce_37 (by decide) ?_
          rw [show (sp_melt (sp_snowA f0 i) i) = sp_snowA f0 (i + 1) from (if_pos (Int32.not_le.mp c_18)).symm] at ht
          exact ih ((i + 1)) _ _ (nia h_i nl_1) (by omega) ht hk
  exact loop (n - 0) 0 _ _ nl_0 (by omega) ht hk
/-- goBy(I)V -/
theorem tm_goBy {E : fE} {H : Heap} {m : Nat} {ad : Nat → Nat} {sc f0 f1 f2 f3 f4 fb ft fo : Row} (ht : twAt E H m ad sc f0 f1 f2 f3 f4 fb ft fo) (x_h : Int32) {h : Nat} (h_h : x_h = nI h) {n t : Nat} (ok : okr n t f0) (hh : h ≤ 100000) : fM E yX9_goBy prog_17_method_36_code 3 none 7 0 0 [.ref m, .int x_h] H (fun r_ H' => r_ = none ∧ twAt E H' m ad sc (sp_go f0 h) f1 f2 f3 f4 fb ft fo ∧ twK m ad H H') noX := by
  refine f_start (own := "SnowPassModel") (nm := "goBy") (lv := [(0, .ref m), (1, .int x_h)]) pn_X9 rfl rfl (Nat.le_of_ble_eq_true rfl) rfl (fun Z K X => ?_)
  have hk := twK.rf (m := m) (ad := ad) (H := H)
  refine f_iconst (v := 0) K dX9_goBy_0 rfl ?_
  refine f_istore_n (lv' := [(2, .int 0), (0, .ref m), (1, .int x_h)]) K dX9_goBy_1 (by decide) rfl ?_
  have loop : ∀ (d i : Nat) (x_i : Int32) (G : Heap), x_i = nI i → i + d = h → twAt E G m ad sc (sp_go f0 i) f1 f2 f3 f4 fb ft fo → twK m ad H G → Go E Z 3 G (0) (0) 2 [(2, .int x_i), (0, .ref m), (1, .int x_h)] [] := by
    intro d
    induction d with
    | zero =>
      intro i x_i G h_i hd ht hk
      have hiu : i = h := by omega
      rw [hiu] at ht
      refine f_iload_n K dX9_goBy_2 rfl ?_
      refine f_iload_n K dX9_goBy_3 rfl ?_
      refine f_icmp_ge (tgt := 17) K dX9_goBy_4 (by decide) (fun c_4 => ?_) (fun c_4 => ?_)
      · exact f_retV K X rfl dX9_goBy_17 (Nat.le_of_ble_eq_true rfl) (Nat.le_of_ble_eq_true rfl) (⟨rfl, ht, hk⟩)
      · exact absurd (by rw [h_i, h_h]; exact nI_le (by omega) (by omega)) c_4
    | succ d ih =>
      intro i x_i G h_i hd ht hk
      refine f_iload_n K dX9_goBy_2 rfl ?_
      refine f_iload_n K dX9_goBy_3 rfl ?_
      refine f_icmp_ge (tgt := 17) K dX9_goBy_4 (by decide) (fun c_4 => ?_) (fun c_4 => ?_)
      · exact absurd c_4 (by rw [h_i, h_h]; exact nI_ge (by omega) (by omega))
      · refine f_aload_n K dX9_goBy_7 rfl ?_
        refine f_invV (As := []) (rest := []) K (tm_hourOnce (E := E)  ht (okr_go ok i)) cs_X9_146 dX9_goBy_8 (tw_o ht) rfl rfl rfl (Nat.le_of_ble_eq_true rfl) (Nat.le_of_ble_eq_true rfl) (Nat.le_of_ble_eq_true rfl) (Nat.le_of_ble_eq_true rfl) (fun v H3 hq hz => ?_) (fun _ _ _ h9 _ _ => h9.elim)
        obtain ⟨rfl, ht, hk1⟩ := hq
        have hk := hk.tr hk1
        have ht : twAt E H3 m ad sc (sp_hour (sp_go f0 i)) f1 f2 f3 f4 fb ft fo := ht
        change Go E Z 3 H3 (0) (0) 11 [(2, .int x_i), (0, .ref m), (1, .int x_h)] []
        refine f_iinc (v := x_i + 1) (lv' := [(2, .int (x_i + 1)), (0, .ref m), (1, .int x_h)]) K dX9_goBy_11 rfl rfl (by decide) rfl ?_
        refine f_goto (tgt := 2) K dX9_goBy_14 (by decide) ?_
        exact ih ((i + 1)) _ _ (nia h_i nl_1) (by omega) ht hk
  exact loop (h - 0) 0 _ _ nl_0 (by omega) ht hk
