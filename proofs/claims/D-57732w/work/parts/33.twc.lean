/-! TWIN 4: contracts, questions -/
set_option maxRecDepth 100000
set_option maxHeartbeats 400000
theorem nl_200 : (200 : Int32) = nI 200 := rfl
theorem nl_240 : (240 : Int32) = nI 240 := rfl
theorem cs_X9_332 : CSV "SnowPassModel" 332 yX9_isSegment prog_17_method_15_code 2 (some .boolean) 1 := ⟨⟨by decide +kernel, by decide +kernel, by decide +kernel⟩, q3676, q3678, qs108, q161, q3679, by decide⟩
theorem cs_X9_164 : CSV "SnowPassModel" 164 yX9_passes prog_17_method_5_code 2 (some .boolean) 1 := ⟨⟨by decide +kernel, by decide +kernel, by decide +kernel⟩, q3393, q3395, qs68, q161, q3396, by decide⟩
theorem cs_X9_342 : CSS "SnowPassModel" 342 yX9_isSide prog_17_method_16_code 1 (some .boolean) 1 := ⟨⟨by decide +kernel, by decide +kernel, by decide +kernel⟩, q3723, q3724, q161, q3725, by decide⟩
theorem cs_X9_345 : CSV "SnowPassModel" 345 yX9_entry prog_17_method_101_code 3 (some .int) 2 := ⟨⟨by decide +kernel, by decide +kernel, by decide +kernel⟩, q3754, q3756, qs110, q161, q3757, by decide⟩
theorem cs_X9_348 : CSV "SnowPassModel" 348 yX9_waits prog_17_method_46_code 2 (some .boolean) 1 := ⟨⟨by decide +kernel, by decide +kernel, by decide +kernel⟩, q3778, q3780, qs111, q161, q3781, by decide⟩
theorem cs_X9_353 : CSS "SnowPassModel" 353 yX9_areHours prog_17_method_109_code 1 (some .boolean) 1 := ⟨⟨by decide +kernel, by decide +kernel, by decide +kernel⟩, q3790, q3791, q161, q3792, by decide⟩
theorem cs_X9_356 : CSV "SnowPassModel" 356 yX9_passesBoth prog_17_method_6_code 3 (some .boolean) 2 := ⟨⟨by decide +kernel, by decide +kernel, by decide +kernel⟩, q3794, q3796, qs112, q161, q3797, by decide⟩
theorem cs_X9_360 : CSV "SnowPassModel" 360 yX9_tries prog_17_method_8_code 1 none 0 := ⟨⟨by decide +kernel, by decide +kernel, by decide +kernel⟩, q3798, q3800, qs113, q161, q3801, by decide⟩
theorem cs_X9_363 : CSV "SnowPassModel" 363 yX9_laidBack prog_17_method_9_code 2 (some .int) 1 := ⟨⟨by decide +kernel, by decide +kernel, by decide +kernel⟩, q3802, q3804, qs114, q161, q3805, by decide⟩
theorem cs_X9_366 : CSV "SnowPassModel" 366 yX9_hoursUntil prog_17_method_111_code 3 (some .int) 1 := ⟨⟨by decide +kernel, by decide +kernel, by decide +kernel⟩, q3810, q3812, qs115, q161, q3813, by decide⟩
theorem cs_X9_369 : CSV "SnowPassModel" 369 yX9_depthsWithSalt prog_17_method_117_code 3 (some .int) 2 := ⟨⟨by decide +kernel, by decide +kernel, by decide +kernel⟩, q3834, q3836, qs116, q161, q3837, by decide⟩
theorem cs_X9_335 : CSS "SnowPassModel" 335 yX9_truth prog_17_method_4_code 1 (some .int) 1 := ⟨⟨by decide +kernel, by decide +kernel, by decide +kernel⟩, q3708, q3709, q161, q3710, by decide⟩
theorem cs_X9_339 : CSV "SnowPassModel" 339 yX9_clears prog_17_method_90_code 3 (some .int) 0 := ⟨⟨by decide +kernel, by decide +kernel, by decide +kernel⟩, q3704, q3706, qs109, q161, q3707, by decide⟩
/-- depthOf(I)I -/
theorem tm_depthOf {E : fE} {H : Heap} {m : Nat} {ad : Nat → Nat} {sc f0 f1 f2 f3 f4 fb ft fo : Row} (ht : twAt E H m ad sc f0 f1 f2 f3 f4 fb ft fo) (x : Int32) {n t : Nat} (ok : okr n t f0) : fM E yX9_depthOf prog_17_method_84_code 2 (some .int) 3 0 0 [.ref m, .int x] H (fun r_ H' => r_ = some (.int (if 0 ≤ x ∧ x ≤ f0 0 - 1 then f0 (25 + 3 * x.toNatClampNeg) else 0)) ∧ twAt E H' m ad (upd sc 6 (if 0 ≤ x ∧ x ≤ f0 0 - 1 then 0 else 1)) f0 f1 f2 f3 f4 fb ft fo ∧ twK m ad H H') noX := by
  refine f_start (own := "SnowPassModel") (nm := "depthOf") (lv := [(0, .ref m), (1, .int x)]) pn_X9 rfl rfl (Nat.le_of_ble_eq_true rfl) rfl (fun Z K X => ?_)
  have hk := twK.rf (m := m) (ad := ad) (H := H)
  refine f_aload_n K dX9_depthOf_0 rfl ?_
  refine f_aload_n K dX9_depthOf_1 rfl ?_
  refine f_iload_n K dX9_depthOf_2 rfl ?_
  refine f_invV (As := [.int x]) (rest := [.ref m]) K (tm_isSegment (E := E)  ht x) cs_X9_332 dX9_depthOf_3 (tw_o ht) rfl rfl rfl (Nat.le_of_ble_eq_true rfl) (Nat.le_of_ble_eq_true rfl) (Nat.le_of_ble_eq_true rfl) (Nat.le_of_ble_eq_true rfl) (fun v H1 hq hz => ?_) (fun _ _ _ h9 _ _ => h9.elim)
  obtain ⟨rfl, hq⟩ := hq
  rw [hq]
  change Go E Z 2 H (0) (0) 6 [(0, .ref m), (1, .int x)] [.int (bI (0 ≤ x ∧ x ≤ f0 0 - 1)), .ref m]
  refine f_invV (As := [.int (bI (0 ≤ x ∧ x ≤ f0 0 - 1))]) (rest := []) K (tm_passes (E := E)  ht (0 ≤ x ∧ x ≤ f0 0 - 1)) cs_X9_164 dX9_depthOf_6 (tw_o ht) rfl rfl rfl (Nat.le_of_ble_eq_true rfl) (Nat.le_of_ble_eq_true rfl) (Nat.le_of_ble_eq_true rfl) (Nat.le_of_ble_eq_true rfl) (fun v H2 hq hz => ?_) (fun _ _ _ h9 _ _ => h9.elim)
  obtain ⟨rfl, ht, hk1⟩ := hq
  have hk := hk.tr hk1
  have ht : twAt E H2 m ad (upd sc 6 (if (0 ≤ x ∧ x ≤ f0 0 - 1) then 0 else 1)) f0 f1 f2 f3 f4 fb ft fo := ht
  change Go E Z 2 H2 (0) (0) 9 [(0, .ref m), (1, .int x)] [.int (bI (0 ≤ x ∧ x ≤ f0 0 - 1))]
  refine f_if_eqB (tgt := 21) K dX9_depthOf_9 (by decide) (fun c_9 => ?_) (fun c_9 => ?_)
  · refine f_iconst (v := 0) K dX9_depthOf_21 rfl ?_
    exact f_retI K X (Or.inl rfl) dX9_depthOf_22 (Nat.le_of_ble_eq_true rfl) (Nat.le_of_ble_eq_true rfl) (⟨rI (if_neg c_9).symm, ht, hk⟩)
  · obtain ⟨hx, hxn⟩ := seg_in ok.n (by have := ok.1; omega) c_9
    have hb9 := ok.1
    refine f_aload_n K dX9_depthOf_12 rfl ?_
    refine f_iload_n K dX9_depthOf_13 rfl ?_
    refine f_iconst (v := 0) K dX9_depthOf_14 rfl ?_
    refine f_invV (As := [.int x, .int 0]) (rest := []) K (tm_of (E := E) (k := x.toNatClampNeg) (w := 0) ht x hx 0 nl_0 (by omega)) cs_X9_66 dX9_depthOf_15 (tw_o ht) rfl rfl rfl (Nat.le_of_ble_eq_true rfl) (Nat.le_of_ble_eq_true rfl) (Nat.le_of_ble_eq_true rfl) (Nat.le_of_ble_eq_true rfl) (fun v H5 hq hz => ?_) (fun _ _ _ h9 _ _ => h9.elim)
    obtain ⟨rfl, hq⟩ := hq
    rw [hq]
    change Go E Z 2 H2 (0) (0) 18 [(0, .ref m), (1, .int x)] [.int (f0 (25 + 3 * x.toNatClampNeg))]
    refine f_goto (tgt := 22) K dX9_depthOf_18 (by decide) ?_
    exact f_retI K X (Or.inl rfl) dX9_depthOf_22 (Nat.le_of_ble_eq_true rfl) (Nat.le_of_ble_eq_true rfl) (⟨rI (if_pos c_9).symm, ht, hk⟩)
/-- exposureOf(I)I -/
theorem tm_exposureOf {E : fE} {H : Heap} {m : Nat} {ad : Nat → Nat} {sc f0 f1 f2 f3 f4 fb ft fo : Row} (ht : twAt E H m ad sc f0 f1 f2 f3 f4 fb ft fo) (x : Int32) {n t : Nat} (ok : okr n t f0) : fM E yX9_exposureOf prog_17_method_85_code 2 (some .int) 3 0 0 [.ref m, .int x] H (fun r_ H' => r_ = some (.int (if 0 ≤ x ∧ x ≤ f0 0 - 1 then f0 (25 + 3 * x.toNatClampNeg + 1) else 0)) ∧ twAt E H' m ad (upd sc 6 (if 0 ≤ x ∧ x ≤ f0 0 - 1 then 0 else 1)) f0 f1 f2 f3 f4 fb ft fo ∧ twK m ad H H') noX := by
  refine f_start (own := "SnowPassModel") (nm := "exposureOf") (lv := [(0, .ref m), (1, .int x)]) pn_X9 rfl rfl (Nat.le_of_ble_eq_true rfl) rfl (fun Z K X => ?_)
  have hk := twK.rf (m := m) (ad := ad) (H := H)
  refine f_aload_n K dX9_exposureOf_0 rfl ?_
  refine f_aload_n K dX9_exposureOf_1 rfl ?_
  refine f_iload_n K dX9_exposureOf_2 rfl ?_
  refine f_invV (As := [.int x]) (rest := [.ref m]) K (tm_isSegment (E := E)  ht x) cs_X9_332 dX9_exposureOf_3 (tw_o ht) rfl rfl rfl (Nat.le_of_ble_eq_true rfl) (Nat.le_of_ble_eq_true rfl) (Nat.le_of_ble_eq_true rfl) (Nat.le_of_ble_eq_true rfl) (fun v H1 hq hz => ?_) (fun _ _ _ h9 _ _ => h9.elim)
  obtain ⟨rfl, hq⟩ := hq
  rw [hq]
  change Go E Z 2 H (0) (0) 6 [(0, .ref m), (1, .int x)] [.int (bI (0 ≤ x ∧ x ≤ f0 0 - 1)), .ref m]
  refine f_invV (As := [.int (bI (0 ≤ x ∧ x ≤ f0 0 - 1))]) (rest := []) K (tm_passes (E := E)  ht (0 ≤ x ∧ x ≤ f0 0 - 1)) cs_X9_164 dX9_exposureOf_6 (tw_o ht) rfl rfl rfl (Nat.le_of_ble_eq_true rfl) (Nat.le_of_ble_eq_true rfl) (Nat.le_of_ble_eq_true rfl) (Nat.le_of_ble_eq_true rfl) (fun v H2 hq hz => ?_) (fun _ _ _ h9 _ _ => h9.elim)
  obtain ⟨rfl, ht, hk1⟩ := hq
  have hk := hk.tr hk1
  have ht : twAt E H2 m ad (upd sc 6 (if (0 ≤ x ∧ x ≤ f0 0 - 1) then 0 else 1)) f0 f1 f2 f3 f4 fb ft fo := ht
  change Go E Z 2 H2 (0) (0) 9 [(0, .ref m), (1, .int x)] [.int (bI (0 ≤ x ∧ x ≤ f0 0 - 1))]
  refine f_if_eqB (tgt := 21) K dX9_exposureOf_9 (by decide) (fun c_9 => ?_) (fun c_9 => ?_)
  · refine f_iconst (v := 0) K dX9_exposureOf_21 rfl ?_
    exact f_retI K X (Or.inl rfl) dX9_exposureOf_22 (Nat.le_of_ble_eq_true rfl) (Nat.le_of_ble_eq_true rfl) (⟨rI (if_neg c_9).symm, ht, hk⟩)
  · obtain ⟨hx, hxn⟩ := seg_in ok.n (by have := ok.1; omega) c_9
    have hb9 := ok.1
    refine f_aload_n K dX9_exposureOf_12 rfl ?_
    refine f_iload_n K dX9_exposureOf_13 rfl ?_
    refine f_iconst (v := 1) K dX9_exposureOf_14 rfl ?_
    refine f_invV (As := [.int x, .int 1]) (rest := []) K (tm_of (E := E) (k := x.toNatClampNeg) (w := 1) ht x hx 1 nl_1 (by omega)) cs_X9_66 dX9_exposureOf_15 (tw_o ht) rfl rfl rfl (Nat.le_of_ble_eq_true rfl) (Nat.le_of_ble_eq_true rfl) (Nat.le_of_ble_eq_true rfl) (Nat.le_of_ble_eq_true rfl) (fun v H5 hq hz => ?_) (fun _ _ _ h9 _ _ => h9.elim)
    obtain ⟨rfl, hq⟩ := hq
    rw [hq]
    change Go E Z 2 H2 (0) (0) 18 [(0, .ref m), (1, .int x)] [.int (f0 (25 + 3 * x.toNatClampNeg + 1))]
    refine f_goto (tgt := 22) K dX9_exposureOf_18 (by decide) ?_
    exact f_retI K X (Or.inl rfl) dX9_exposureOf_22 (Nat.le_of_ble_eq_true rfl) (Nat.le_of_ble_eq_true rfl) (⟨rI (if_pos c_9).symm, ht, hk⟩)
/-- saltHours(I)I -/
theorem tm_saltHours {E : fE} {H : Heap} {m : Nat} {ad : Nat → Nat} {sc f0 f1 f2 f3 f4 fb ft fo : Row} (ht : twAt E H m ad sc f0 f1 f2 f3 f4 fb ft fo) (x : Int32) {n t : Nat} (ok : okr n t f0) : fM E yX9_saltHours prog_17_method_86_code 2 (some .int) 3 0 0 [.ref m, .int x] H (fun r_ H' => r_ = some (.int (if 0 ≤ x ∧ x ≤ f0 0 - 1 then f0 (25 + 3 * x.toNatClampNeg + 2) else 0)) ∧ twAt E H' m ad (upd sc 6 (if 0 ≤ x ∧ x ≤ f0 0 - 1 then 0 else 1)) f0 f1 f2 f3 f4 fb ft fo ∧ twK m ad H H') noX := by
  refine f_start (own := "SnowPassModel") (nm := "saltHours") (lv := [(0, .ref m), (1, .int x)]) pn_X9 rfl rfl (Nat.le_of_ble_eq_true rfl) rfl (fun Z K X => ?_)
  have hk := twK.rf (m := m) (ad := ad) (H := H)
  refine f_aload_n K dX9_saltHours_0 rfl ?_
  refine f_aload_n K dX9_saltHours_1 rfl ?_
  refine f_iload_n K dX9_saltHours_2 rfl ?_
  refine f_invV (As := [.int x]) (rest := [.ref m]) K (tm_isSegment (E := E)  ht x) cs_X9_332 dX9_saltHours_3 (tw_o ht) rfl rfl rfl (Nat.le_of_ble_eq_true rfl) (Nat.le_of_ble_eq_true rfl) (Nat.le_of_ble_eq_true rfl) (Nat.le_of_ble_eq_true rfl) (fun v H1 hq hz => ?_) (fun _ _ _ h9 _ _ => h9.elim)
  obtain ⟨rfl, hq⟩ := hq
  rw [hq]
  change Go E Z 2 H (0) (0) 6 [(0, .ref m), (1, .int x)] [.int (bI (0 ≤ x ∧ x ≤ f0 0 - 1)), .ref m]
  refine f_invV (As := [.int (bI (0 ≤ x ∧ x ≤ f0 0 - 1))]) (rest := []) K (tm_passes (E := E)  ht (0 ≤ x ∧ x ≤ f0 0 - 1)) cs_X9_164 dX9_saltHours_6 (tw_o ht) rfl rfl rfl (Nat.le_of_ble_eq_true rfl) (Nat.le_of_ble_eq_true rfl) (Nat.le_of_ble_eq_true rfl) (Nat.le_of_ble_eq_true rfl) (fun v H2 hq hz => ?_) (fun _ _ _ h9 _ _ => h9.elim)
  obtain ⟨rfl, ht, hk1⟩ := hq
  have hk := hk.tr hk1
  have ht : twAt E H2 m ad (upd sc 6 (if (0 ≤ x ∧ x ≤ f0 0 - 1) then 0 else 1)) f0 f1 f2 f3 f4 fb ft fo := ht
  change Go E Z 2 H2 (0) (0) 9 [(0, .ref m), (1, .int x)] [.int (bI (0 ≤ x ∧ x ≤ f0 0 - 1))]
  refine f_if_eqB (tgt := 21) K dX9_saltHours_9 (by decide) (fun c_9 => ?_) (fun c_9 => ?_)
  · refine f_iconst (v := 0) K dX9_saltHours_21 rfl ?_
    exact f_retI K X (Or.inl rfl) dX9_saltHours_22 (Nat.le_of_ble_eq_true rfl) (Nat.le_of_ble_eq_true rfl) (⟨rI (if_neg c_9).symm, ht, hk⟩)
  · obtain ⟨hx, hxn⟩ := seg_in ok.n (by have := ok.1; omega) c_9
    have hb9 := ok.1
    refine f_aload_n K dX9_saltHours_12 rfl ?_
    refine f_iload_n K dX9_saltHours_13 rfl ?_
    refine f_iconst (v := 2) K dX9_saltHours_14 rfl ?_
    refine f_invV (As := [.int x, .int 2]) (rest := []) K (tm_of (E := E) (k := x.toNatClampNeg) (w := 2) ht x hx 2 nl_2 (by omega)) cs_X9_66 dX9_saltHours_15 (tw_o ht) rfl rfl rfl (Nat.le_of_ble_eq_true rfl) (Nat.le_of_ble_eq_true rfl) (Nat.le_of_ble_eq_true rfl) (Nat.le_of_ble_eq_true rfl) (fun v H5 hq hz => ?_) (fun _ _ _ h9 _ _ => h9.elim)
    obtain ⟨rfl, hq⟩ := hq
    rw [hq]
    change Go E Z 2 H2 (0) (0) 18 [(0, .ref m), (1, .int x)] [.int (f0 (25 + 3 * x.toNatClampNeg + 2))]
    refine f_goto (tgt := 22) K dX9_saltHours_18 (by decide) ?_
    exact f_retI K X (Or.inl rfl) dX9_saltHours_22 (Nat.le_of_ble_eq_true rfl) (Nat.le_of_ble_eq_true rfl) (⟨rI (if_pos c_9).symm, ht, hk⟩)
/-- isClear(I)Z -/
theorem tm_isClear {E : fE} {H : Heap} {m : Nat} {ad : Nat → Nat} {sc f0 f1 f2 f3 f4 fb ft fo : Row} (ht : twAt E H m ad sc f0 f1 f2 f3 f4 fb ft fo) (x : Int32) {n t : Nat} (ok : okr n t f0) : fM E yX9_isClear prog_17_method_87_code 2 (some .boolean) 3 0 0 [.ref m, .int x] H (fun r_ H' => r_ = some (.int (bI ((0 ≤ x ∧ x ≤ f0 0 - 1) ∧ sp_clear f0 x.toNatClampNeg))) ∧ twAt E H' m ad (upd sc 6 (if 0 ≤ x ∧ x ≤ f0 0 - 1 then 0 else 1)) f0 f1 f2 f3 f4 fb ft fo ∧ twK m ad H H') noX := by
  refine f_start (own := "SnowPassModel") (nm := "isClear") (lv := [(0, .ref m), (1, .int x)]) pn_X9 rfl rfl (Nat.le_of_ble_eq_true rfl) rfl (fun Z K X => ?_)
  have hk := twK.rf (m := m) (ad := ad) (H := H)
  refine f_aload_n K dX9_isClear_0 rfl ?_
  refine f_aload_n K dX9_isClear_1 rfl ?_
  refine f_iload_n K dX9_isClear_2 rfl ?_
  refine f_invV (As := [.int x]) (rest := [.ref m]) K (tm_isSegment (E := E)  ht x) cs_X9_332 dX9_isClear_3 (tw_o ht) rfl rfl rfl (Nat.le_of_ble_eq_true rfl) (Nat.le_of_ble_eq_true rfl) (Nat.le_of_ble_eq_true rfl) (Nat.le_of_ble_eq_true rfl) (fun v H1 hq hz => ?_) (fun _ _ _ h9 _ _ => h9.elim)
  obtain ⟨rfl, hq⟩ := hq
  rw [hq]
  change Go E Z 2 H (0) (0) 6 [(0, .ref m), (1, .int x)] [.int (bI (0 ≤ x ∧ x ≤ f0 0 - 1)), .ref m]
  refine f_invV (As := [.int (bI (0 ≤ x ∧ x ≤ f0 0 - 1))]) (rest := []) K (tm_passes (E := E)  ht (0 ≤ x ∧ x ≤ f0 0 - 1)) cs_X9_164 dX9_isClear_6 (tw_o ht) rfl rfl rfl (Nat.le_of_ble_eq_true rfl) (Nat.le_of_ble_eq_true rfl) (Nat.le_of_ble_eq_true rfl) (Nat.le_of_ble_eq_true rfl) (fun v H2 hq hz => ?_) (fun _ _ _ h9 _ _ => h9.elim)
  obtain ⟨rfl, ht, hk1⟩ := hq
  have hk := hk.tr hk1
  have ht : twAt E H2 m ad (upd sc 6 (if (0 ≤ x ∧ x ≤ f0 0 - 1) then 0 else 1)) f0 f1 f2 f3 f4 fb ft fo := ht
  change Go E Z 2 H2 (0) (0) 9 [(0, .ref m), (1, .int x)] [.int (bI (0 ≤ x ∧ x ≤ f0 0 - 1))]
  refine f_if_eqB (tgt := 24) K dX9_isClear_9 (by decide) (fun c_9 => ?_) (fun c_9 => ?_)
  · refine f_iconst (v := 0) K dX9_isClear_24 rfl ?_
    exact f_retI K X (Or.inr ⟨rfl, Or.inl rfl⟩) dX9_isClear_25 (Nat.le_of_ble_eq_true rfl) (Nat.le_of_ble_eq_true rfl) (⟨rI0 (fun z => c_9 z.1), ht, hk⟩)
  · obtain ⟨hx, hxn⟩ := seg_in ok.n (by have := ok.1; omega) c_9
    have hb9 := ok.1
    refine f_aload_n K dX9_isClear_12 rfl ?_
    refine f_iload_n K dX9_isClear_13 rfl ?_
    refine f_invV (As := [.int x]) (rest := []) K (tm_isClearNow (E := E) (k := x.toNatClampNeg) ht x hx (by omega)) cs_X9_80 dX9_isClear_14 (tw_o ht) rfl rfl rfl (Nat.le_of_ble_eq_true rfl) (Nat.le_of_ble_eq_true rfl) (Nat.le_of_ble_eq_true rfl) (Nat.le_of_ble_eq_true rfl) (fun v H5 hq hz => ?_) (fun _ _ _ h9 _ _ => h9.elim)
    obtain ⟨rfl, hq⟩ := hq
    rw [hq]
    change Go E Z 2 H2 (0) (0) 17 [(0, .ref m), (1, .int x)] [.int (bI (sp_clear f0 x.toNatClampNeg))]
    refine f_if_eqB (tgt := 24) K dX9_isClear_17 (by decide) (fun c_17 => ?_) (fun c_17 => ?_)
    · refine f_iconst (v := 0) K dX9_isClear_24 rfl ?_
      exact f_retI K X (Or.inr ⟨rfl, Or.inl rfl⟩) dX9_isClear_25 (Nat.le_of_ble_eq_true rfl) (Nat.le_of_ble_eq_true rfl) (⟨rI0 (fun z => c_17 z.2), ht, hk⟩)
    · refine f_iconst (v := 1) K dX9_isClear_20 rfl ?_
      refine f_goto (tgt := 25) K dX9_isClear_21 (by decide) ?_
      exact f_retI K X (Or.inr ⟨rfl, Or.inr rfl⟩) dX9_isClear_25 (Nat.le_of_ble_eq_true rfl) (Nat.le_of_ble_eq_true rfl) (⟨rI1 ⟨c_9, c_17⟩, ht, hk⟩)
/-- ploughPosition(I)I -/
theorem tm_ploughPosition {E : fE} {H : Heap} {m : Nat} {ad : Nat → Nat} {sc f0 f1 f2 f3 f4 fb ft fo : Row} (ht : twAt E H m ad sc f0 f1 f2 f3 f4 fb ft fo) (x : Int32) {n t : Nat} (ok : okr n t f0) : fM E yX9_ploughPosition prog_17_method_94_code 2 (some .int) 3 0 0 [.ref m, .int x] H (fun r_ H' => r_ = some (.int (if 0 ≤ x ∧ x ≤ 1 then f0 (17 + 4 * x.toNatClampNeg) else 0)) ∧ twAt E H' m ad (upd sc 6 (if 0 ≤ x ∧ x ≤ 1 then 0 else 1)) f0 f1 f2 f3 f4 fb ft fo ∧ twK m ad H H') noX := by
  refine f_start (own := "SnowPassModel") (nm := "ploughPosition") (lv := [(0, .ref m), (1, .int x)]) pn_X9 rfl rfl (Nat.le_of_ble_eq_true rfl) rfl (fun Z K X => ?_)
  have hk := twK.rf (m := m) (ad := ad) (H := H)
  refine f_aload_n K dX9_ploughPosition_0 rfl ?_
  refine f_iload_n K dX9_ploughPosition_1 rfl ?_
  refine f_invS (As := [.int x]) (rest := [.ref m]) K (tm_isSide (E := E)  x) cs_X9_342 dX9_ploughPosition_2 rfl rfl (Nat.le_of_ble_eq_true rfl) (Nat.le_of_ble_eq_true rfl) (Nat.le_of_ble_eq_true rfl) (Nat.le_of_ble_eq_true rfl) (fun v H1 hq hz => ?_) (fun _ _ _ h9 _ _ => h9.elim)
  obtain ⟨rfl, hq⟩ := hq
  rw [hq]
  change Go E Z 2 H (0) (0) 5 [(0, .ref m), (1, .int x)] [.int (bI (0 ≤ x ∧ x ≤ 1)), .ref m]
  refine f_invV (As := [.int (bI (0 ≤ x ∧ x ≤ 1))]) (rest := []) K (tm_passes (E := E)  ht (0 ≤ x ∧ x ≤ 1)) cs_X9_164 dX9_ploughPosition_5 (tw_o ht) rfl rfl rfl (Nat.le_of_ble_eq_true rfl) (Nat.le_of_ble_eq_true rfl) (Nat.le_of_ble_eq_true rfl) (Nat.le_of_ble_eq_true rfl) (fun v H2 hq hz => ?_) (fun _ _ _ h9 _ _ => h9.elim)
  obtain ⟨rfl, ht, hk1⟩ := hq
  have hk := hk.tr hk1
  have ht : twAt E H2 m ad (upd sc 6 (if (0 ≤ x ∧ x ≤ 1) then 0 else 1)) f0 f1 f2 f3 f4 fb ft fo := ht
  change Go E Z 2 H2 (0) (0) 8 [(0, .ref m), (1, .int x)] [.int (bI (0 ≤ x ∧ x ≤ 1))]
  refine f_if_eqB (tgt := 20) K dX9_ploughPosition_8 (by decide) (fun c_8 => ?_) (fun c_8 => ?_)
  · refine f_iconst (v := 0) K dX9_ploughPosition_20 rfl ?_
    exact f_retI K X (Or.inl rfl) dX9_ploughPosition_21 (Nat.le_of_ble_eq_true rfl) (Nat.le_of_ble_eq_true rfl) (⟨rI (if_neg c_8).symm, ht, hk⟩)
  · obtain ⟨hx, hxn⟩ := seg_in2 (n := 1) rfl (by decide) c_8
    refine f_aload_n K dX9_ploughPosition_11 rfl ?_
    refine f_iload_n K dX9_ploughPosition_12 rfl ?_
    refine f_iconst (v := 0) K dX9_ploughPosition_13 rfl ?_
    refine f_invV (As := [.int x, .int 0]) (rest := []) K (tm_ofPlough (E := E) (p := x.toNatClampNeg) (w := 0) ht x hx 0 nl_0 (by omega)) cs_X9_70 dX9_ploughPosition_14 (tw_o ht) rfl rfl rfl (Nat.le_of_ble_eq_true rfl) (Nat.le_of_ble_eq_true rfl) (Nat.le_of_ble_eq_true rfl) (Nat.le_of_ble_eq_true rfl) (fun v H5 hq hz => ?_) (fun _ _ _ h9 _ _ => h9.elim)
    obtain ⟨rfl, hq⟩ := hq
    rw [hq]
    change Go E Z 2 H2 (0) (0) 17 [(0, .ref m), (1, .int x)] [.int (f0 (17 + 4 * x.toNatClampNeg))]
    refine f_goto (tgt := 21) K dX9_ploughPosition_17 (by decide) ?_
    exact f_retI K X (Or.inl rfl) dX9_ploughPosition_21 (Nat.le_of_ble_eq_true rfl) (Nat.le_of_ble_eq_true rfl) (⟨rI (if_pos c_8).symm, ht, hk⟩)
/-- ploughCapacity(I)I -/
theorem tm_ploughCapacity {E : fE} {H : Heap} {m : Nat} {ad : Nat → Nat} {sc f0 f1 f2 f3 f4 fb ft fo : Row} (ht : twAt E H m ad sc f0 f1 f2 f3 f4 fb ft fo) (x : Int32) {n t : Nat} (ok : okr n t f0) : fM E yX9_ploughCapacity prog_17_method_95_code 2 (some .int) 3 0 0 [.ref m, .int x] H (fun r_ H' => r_ = some (.int (if 0 ≤ x ∧ x ≤ 1 then f0 (17 + 4 * x.toNatClampNeg + 1) else 0)) ∧ twAt E H' m ad (upd sc 6 (if 0 ≤ x ∧ x ≤ 1 then 0 else 1)) f0 f1 f2 f3 f4 fb ft fo ∧ twK m ad H H') noX := by
  refine f_start (own := "SnowPassModel") (nm := "ploughCapacity") (lv := [(0, .ref m), (1, .int x)]) pn_X9 rfl rfl (Nat.le_of_ble_eq_true rfl) rfl (fun Z K X => ?_)
  have hk := twK.rf (m := m) (ad := ad) (H := H)
  refine f_aload_n K dX9_ploughCapacity_0 rfl ?_
  refine f_iload_n K dX9_ploughCapacity_1 rfl ?_
  refine f_invS (As := [.int x]) (rest := [.ref m]) K (tm_isSide (E := E)  x) cs_X9_342 dX9_ploughCapacity_2 rfl rfl (Nat.le_of_ble_eq_true rfl) (Nat.le_of_ble_eq_true rfl) (Nat.le_of_ble_eq_true rfl) (Nat.le_of_ble_eq_true rfl) (fun v H1 hq hz => ?_) (fun _ _ _ h9 _ _ => h9.elim)
  obtain ⟨rfl, hq⟩ := hq
  rw [hq]
  change Go E Z 2 H (0) (0) 5 [(0, .ref m), (1, .int x)] [.int (bI (0 ≤ x ∧ x ≤ 1)), .ref m]
  refine f_invV (As := [.int (bI (0 ≤ x ∧ x ≤ 1))]) (rest := []) K (tm_passes (E := E)  ht (0 ≤ x ∧ x ≤ 1)) cs_X9_164 dX9_ploughCapacity_5 (tw_o ht) rfl rfl rfl (Nat.le_of_ble_eq_true rfl) (Nat.le_of_ble_eq_true rfl) (Nat.le_of_ble_eq_true rfl) (Nat.le_of_ble_eq_true rfl) (fun v H2 hq hz => ?_) (fun _ _ _ h9 _ _ => h9.elim)
  obtain ⟨rfl, ht, hk1⟩ := hq
  have hk := hk.tr hk1
  have ht : twAt E H2 m ad (upd sc 6 (if (0 ≤ x ∧ x ≤ 1) then 0 else 1)) f0 f1 f2 f3 f4 fb ft fo := ht
  change Go E Z 2 H2 (0) (0) 8 [(0, .ref m), (1, .int x)] [.int (bI (0 ≤ x ∧ x ≤ 1))]
  refine f_if_eqB (tgt := 20) K dX9_ploughCapacity_8 (by decide) (fun c_8 => ?_) (fun c_8 => ?_)
  · refine f_iconst (v := 0) K dX9_ploughCapacity_20 rfl ?_
    exact f_retI K X (Or.inl rfl) dX9_ploughCapacity_21 (Nat.le_of_ble_eq_true rfl) (Nat.le_of_ble_eq_true rfl) (⟨rI (if_neg c_8).symm, ht, hk⟩)
  · obtain ⟨hx, hxn⟩ := seg_in2 (n := 1) rfl (by decide) c_8
    refine f_aload_n K dX9_ploughCapacity_11 rfl ?_
    refine f_iload_n K dX9_ploughCapacity_12 rfl ?_
    refine f_iconst (v := 1) K dX9_ploughCapacity_13 rfl ?_
    refine f_invV (As := [.int x, .int 1]) (rest := []) K (tm_ofPlough (E := E) (p := x.toNatClampNeg) (w := 1) ht x hx 1 nl_1 (by omega)) cs_X9_70 dX9_ploughCapacity_14 (tw_o ht) rfl rfl rfl (Nat.le_of_ble_eq_true rfl) (Nat.le_of_ble_eq_true rfl) (Nat.le_of_ble_eq_true rfl) (Nat.le_of_ble_eq_true rfl) (fun v H5 hq hz => ?_) (fun _ _ _ h9 _ _ => h9.elim)
    obtain ⟨rfl, hq⟩ := hq
    rw [hq]
    change Go E Z 2 H2 (0) (0) 17 [(0, .ref m), (1, .int x)] [.int (f0 (17 + 4 * x.toNatClampNeg + 1))]
    refine f_goto (tgt := 21) K dX9_ploughCapacity_17 (by decide) ?_
    exact f_retI K X (Or.inl rfl) dX9_ploughCapacity_21 (Nat.le_of_ble_eq_true rfl) (Nat.le_of_ble_eq_true rfl) (⟨rI (if_pos c_8).symm, ht, hk⟩)
/-- sackCount(I)I -/
theorem tm_sackCount {E : fE} {H : Heap} {m : Nat} {ad : Nat → Nat} {sc f0 f1 f2 f3 f4 fb ft fo : Row} (ht : twAt E H m ad sc f0 f1 f2 f3 f4 fb ft fo) (x : Int32) {n t : Nat} (ok : okr n t f0) : fM E yX9_sackCount prog_17_method_96_code 2 (some .int) 3 0 0 [.ref m, .int x] H (fun r_ H' => r_ = some (.int (if 0 ≤ x ∧ x ≤ 1 then f0 (17 + 4 * x.toNatClampNeg + 2) else 0)) ∧ twAt E H' m ad (upd sc 6 (if 0 ≤ x ∧ x ≤ 1 then 0 else 1)) f0 f1 f2 f3 f4 fb ft fo ∧ twK m ad H H') noX := by
  refine f_start (own := "SnowPassModel") (nm := "sackCount") (lv := [(0, .ref m), (1, .int x)]) pn_X9 rfl rfl (Nat.le_of_ble_eq_true rfl) rfl (fun Z K X => ?_)
  have hk := twK.rf (m := m) (ad := ad) (H := H)
  refine f_aload_n K dX9_sackCount_0 rfl ?_
  refine f_iload_n K dX9_sackCount_1 rfl ?_
  refine f_invS (As := [.int x]) (rest := [.ref m]) K (tm_isSide (E := E)  x) cs_X9_342 dX9_sackCount_2 rfl rfl (Nat.le_of_ble_eq_true rfl) (Nat.le_of_ble_eq_true rfl) (Nat.le_of_ble_eq_true rfl) (Nat.le_of_ble_eq_true rfl) (fun v H1 hq hz => ?_) (fun _ _ _ h9 _ _ => h9.elim)
  obtain ⟨rfl, hq⟩ := hq
  rw [hq]
  change Go E Z 2 H (0) (0) 5 [(0, .ref m), (1, .int x)] [.int (bI (0 ≤ x ∧ x ≤ 1)), .ref m]
  refine f_invV (As := [.int (bI (0 ≤ x ∧ x ≤ 1))]) (rest := []) K (tm_passes (E := E)  ht (0 ≤ x ∧ x ≤ 1)) cs_X9_164 dX9_sackCount_5 (tw_o ht) rfl rfl rfl (Nat.le_of_ble_eq_true rfl) (Nat.le_of_ble_eq_true rfl) (Nat.le_of_ble_eq_true rfl) (Nat.le_of_ble_eq_true rfl) (fun v H2 hq hz => ?_) (fun _ _ _ h9 _ _ => h9.elim)
  obtain ⟨rfl, ht, hk1⟩ := hq
  have hk := hk.tr hk1
  have ht : twAt E H2 m ad (upd sc 6 (if (0 ≤ x ∧ x ≤ 1) then 0 else 1)) f0 f1 f2 f3 f4 fb ft fo := ht
  change Go E Z 2 H2 (0) (0) 8 [(0, .ref m), (1, .int x)] [.int (bI (0 ≤ x ∧ x ≤ 1))]
  refine f_if_eqB (tgt := 20) K dX9_sackCount_8 (by decide) (fun c_8 => ?_) (fun c_8 => ?_)
  · refine f_iconst (v := 0) K dX9_sackCount_20 rfl ?_
    exact f_retI K X (Or.inl rfl) dX9_sackCount_21 (Nat.le_of_ble_eq_true rfl) (Nat.le_of_ble_eq_true rfl) (⟨rI (if_neg c_8).symm, ht, hk⟩)
  · obtain ⟨hx, hxn⟩ := seg_in2 (n := 1) rfl (by decide) c_8
    refine f_aload_n K dX9_sackCount_11 rfl ?_
    refine f_iload_n K dX9_sackCount_12 rfl ?_
    refine f_iconst (v := 2) K dX9_sackCount_13 rfl ?_
    refine f_invV (As := [.int x, .int 2]) (rest := []) K (tm_ofPlough (E := E) (p := x.toNatClampNeg) (w := 2) ht x hx 2 nl_2 (by omega)) cs_X9_70 dX9_sackCount_14 (tw_o ht) rfl rfl rfl (Nat.le_of_ble_eq_true rfl) (Nat.le_of_ble_eq_true rfl) (Nat.le_of_ble_eq_true rfl) (Nat.le_of_ble_eq_true rfl) (fun v H5 hq hz => ?_) (fun _ _ _ h9 _ _ => h9.elim)
    obtain ⟨rfl, hq⟩ := hq
    rw [hq]
    change Go E Z 2 H2 (0) (0) 17 [(0, .ref m), (1, .int x)] [.int (f0 (17 + 4 * x.toNatClampNeg + 2))]
    refine f_goto (tgt := 21) K dX9_sackCount_17 (by decide) ?_
    exact f_retI K X (Or.inl rfl) dX9_sackCount_21 (Nat.le_of_ble_eq_true rfl) (Nat.le_of_ble_eq_true rfl) (⟨rI (if_pos c_8).symm, ht, hk⟩)
/-- waitingCount(I)I -/
theorem tm_waitingCount {E : fE} {H : Heap} {m : Nat} {ad : Nat → Nat} {sc f0 f1 f2 f3 f4 fb ft fo : Row} (ht : twAt E H m ad sc f0 f1 f2 f3 f4 fb ft fo) (x : Int32) {n t : Nat} (ok : okr n t f0) : fM E yX9_waitingCount prog_17_method_104_code 2 (some .int) 3 0 0 [.ref m, .int x] H (fun r_ H' => r_ = some (.int (if 0 ≤ x ∧ x ≤ 1 then f0 (125 + x.toNatClampNeg) else 0)) ∧ twAt E H' m ad (upd sc 6 (if 0 ≤ x ∧ x ≤ 1 then 0 else 1)) f0 f1 f2 f3 f4 fb ft fo ∧ twK m ad H H') noX := by
  refine f_start (own := "SnowPassModel") (nm := "waitingCount") (lv := [(0, .ref m), (1, .int x)]) pn_X9 rfl rfl (Nat.le_of_ble_eq_true rfl) rfl (fun Z K X => ?_)
  have hk := twK.rf (m := m) (ad := ad) (H := H)
  refine f_aload_n K dX9_waitingCount_0 rfl ?_
  refine f_iload_n K dX9_waitingCount_1 rfl ?_
  refine f_invS (As := [.int x]) (rest := [.ref m]) K (tm_isSide (E := E)  x) cs_X9_342 dX9_waitingCount_2 rfl rfl (Nat.le_of_ble_eq_true rfl) (Nat.le_of_ble_eq_true rfl) (Nat.le_of_ble_eq_true rfl) (Nat.le_of_ble_eq_true rfl) (fun v H1 hq hz => ?_) (fun _ _ _ h9 _ _ => h9.elim)
  obtain ⟨rfl, hq⟩ := hq
  rw [hq]
  change Go E Z 2 H (0) (0) 5 [(0, .ref m), (1, .int x)] [.int (bI (0 ≤ x ∧ x ≤ 1)), .ref m]
  refine f_invV (As := [.int (bI (0 ≤ x ∧ x ≤ 1))]) (rest := []) K (tm_passes (E := E)  ht (0 ≤ x ∧ x ≤ 1)) cs_X9_164 dX9_waitingCount_5 (tw_o ht) rfl rfl rfl (Nat.le_of_ble_eq_true rfl) (Nat.le_of_ble_eq_true rfl) (Nat.le_of_ble_eq_true rfl) (Nat.le_of_ble_eq_true rfl) (fun v H2 hq hz => ?_) (fun _ _ _ h9 _ _ => h9.elim)
  obtain ⟨rfl, ht, hk1⟩ := hq
  have hk := hk.tr hk1
  have ht : twAt E H2 m ad (upd sc 6 (if (0 ≤ x ∧ x ≤ 1) then 0 else 1)) f0 f1 f2 f3 f4 fb ft fo := ht
  change Go E Z 2 H2 (0) (0) 8 [(0, .ref m), (1, .int x)] [.int (bI (0 ≤ x ∧ x ≤ 1))]
  refine f_if_eqB (tgt := 23) K dX9_waitingCount_8 (by decide) (fun c_8 => ?_) (fun c_8 => ?_)
  · refine f_iconst (v := 0) K dX9_waitingCount_23 rfl ?_
    exact f_retI K X (Or.inl rfl) dX9_waitingCount_24 (Nat.le_of_ble_eq_true rfl) (Nat.le_of_ble_eq_true rfl) (⟨rI (if_neg c_8).symm, ht, hk⟩)
  · obtain ⟨hx, hxn⟩ := seg_in2 (n := 1) rfl (by decide) c_8
    refine f_aload_n K dX9_waitingCount_11 rfl ?_
    refine f_get (v := .ref (ad 0)) K fl_X9_7_X9 dX9_waitingCount_12 (tw_o ht) rfl ?_
    refine f_bipush (v := 125) K dX9_waitingCount_15 rfl ?_
    refine f_iload_n K dX9_waitingCount_17 rfl ?_
    refine f_iadd K dX9_waitingCount_18 ?_
    refine f_iald (j := (125 + x.toNatClampNeg)) K dX9_waitingCount_19 (tw_a0 ht) (nia nl_125 hx) (by omega) (by decide) ?_
    refine f_goto (tgt := 24) K dX9_waitingCount_20 (by decide) ?_
    exact f_retI K X (Or.inl rfl) dX9_waitingCount_24 (Nat.le_of_ble_eq_true rfl) (Nat.le_of_ble_eq_true rfl) (⟨rI (if_pos c_8).symm, ht, hk⟩)
/-- cartsCrossed(I)I -/
theorem tm_cartsCrossed {E : fE} {H : Heap} {m : Nat} {ad : Nat → Nat} {sc f0 f1 f2 f3 f4 fb ft fo : Row} (ht : twAt E H m ad sc f0 f1 f2 f3 f4 fb ft fo) (x : Int32) {n t : Nat} (ok : okr n t f0) : fM E yX9_cartsCrossed prog_17_method_122_code 2 (some .int) 3 0 0 [.ref m, .int x] H (fun r_ H' => r_ = some (.int (if 0 ≤ x ∧ x ≤ 1 then f0 (15 + x.toNatClampNeg) else 0)) ∧ twAt E H' m ad (upd sc 6 (if 0 ≤ x ∧ x ≤ 1 then 0 else 1)) f0 f1 f2 f3 f4 fb ft fo ∧ twK m ad H H') noX := by
  refine f_start (own := "SnowPassModel") (nm := "cartsCrossed") (lv := [(0, .ref m), (1, .int x)]) pn_X9 rfl rfl (Nat.le_of_ble_eq_true rfl) rfl (fun Z K X => ?_)
  have hk := twK.rf (m := m) (ad := ad) (H := H)
  refine f_aload_n K dX9_cartsCrossed_0 rfl ?_
  refine f_iload_n K dX9_cartsCrossed_1 rfl ?_
  refine f_invS (As := [.int x]) (rest := [.ref m]) K (tm_isSide (E := E)  x) cs_X9_342 dX9_cartsCrossed_2 rfl rfl (Nat.le_of_ble_eq_true rfl) (Nat.le_of_ble_eq_true rfl) (Nat.le_of_ble_eq_true rfl) (Nat.le_of_ble_eq_true rfl) (fun v H1 hq hz => ?_) (fun _ _ _ h9 _ _ => h9.elim)
  obtain ⟨rfl, hq⟩ := hq
  rw [hq]
  change Go E Z 2 H (0) (0) 5 [(0, .ref m), (1, .int x)] [.int (bI (0 ≤ x ∧ x ≤ 1)), .ref m]
  refine f_invV (As := [.int (bI (0 ≤ x ∧ x ≤ 1))]) (rest := []) K (tm_passes (E := E)  ht (0 ≤ x ∧ x ≤ 1)) cs_X9_164 dX9_cartsCrossed_5 (tw_o ht) rfl rfl rfl (Nat.le_of_ble_eq_true rfl) (Nat.le_of_ble_eq_true rfl) (Nat.le_of_ble_eq_true rfl) (Nat.le_of_ble_eq_true rfl) (fun v H2 hq hz => ?_) (fun _ _ _ h9 _ _ => h9.elim)
  obtain ⟨rfl, ht, hk1⟩ := hq
  have hk := hk.tr hk1
  have ht : twAt E H2 m ad (upd sc 6 (if (0 ≤ x ∧ x ≤ 1) then 0 else 1)) f0 f1 f2 f3 f4 fb ft fo := ht
  change Go E Z 2 H2 (0) (0) 8 [(0, .ref m), (1, .int x)] [.int (bI (0 ≤ x ∧ x ≤ 1))]
  refine f_if_eqB (tgt := 23) K dX9_cartsCrossed_8 (by decide) (fun c_8 => ?_) (fun c_8 => ?_)
  · refine f_iconst (v := 0) K dX9_cartsCrossed_23 rfl ?_
    exact f_retI K X (Or.inl rfl) dX9_cartsCrossed_24 (Nat.le_of_ble_eq_true rfl) (Nat.le_of_ble_eq_true rfl) (⟨rI (if_neg c_8).symm, ht, hk⟩)
  · obtain ⟨hx, hxn⟩ := seg_in2 (n := 1) rfl (by decide) c_8
    refine f_aload_n K dX9_cartsCrossed_11 rfl ?_
    refine f_get (v := .ref (ad 0)) K fl_X9_7_X9 dX9_cartsCrossed_12 (tw_o ht) rfl ?_
    refine f_bipush (v := 15) K dX9_cartsCrossed_15 rfl ?_
    refine f_iload_n K dX9_cartsCrossed_17 rfl ?_
    refine f_iadd K dX9_cartsCrossed_18 ?_
    refine f_iald (j := (15 + x.toNatClampNeg)) K dX9_cartsCrossed_19 (tw_a0 ht) (nia nl_15 hx) (by omega) (by decide) ?_
    refine f_goto (tgt := 24) K dX9_cartsCrossed_20 (by decide) ?_
    exact f_retI K X (Or.inl rfl) dX9_cartsCrossed_24 (Nat.le_of_ble_eq_true rfl) (Nat.le_of_ble_eq_true rfl) (⟨rI (if_pos c_8).symm, ht, hk⟩)
/-- hasSigned(I)Z -/
theorem tm_hasSigned {E : fE} {H : Heap} {m : Nat} {ad : Nat → Nat} {sc f0 f1 f2 f3 f4 fb ft fo : Row} (ht : twAt E H m ad sc f0 f1 f2 f3 f4 fb ft fo) (x : Int32) {n t : Nat} (ok : okr n t f0) : fM E yX9_hasSigned prog_17_method_97_code 2 (some .boolean) 3 0 0 [.ref m, .int x] H (fun r_ H' => r_ = some (.int (bI ((0 ≤ x ∧ x ≤ 1) ∧ f0 (17 + 4 * x.toNatClampNeg + 3) = 1))) ∧ twAt E H' m ad (upd sc 6 (if 0 ≤ x ∧ x ≤ 1 then 0 else 1)) f0 f1 f2 f3 f4 fb ft fo ∧ twK m ad H H') noX := by
  refine f_start (own := "SnowPassModel") (nm := "hasSigned") (lv := [(0, .ref m), (1, .int x)]) pn_X9 rfl rfl (Nat.le_of_ble_eq_true rfl) rfl (fun Z K X => ?_)
  have hk := twK.rf (m := m) (ad := ad) (H := H)
  refine f_aload_n K dX9_hasSigned_0 rfl ?_
  refine f_iload_n K dX9_hasSigned_1 rfl ?_
  refine f_invS (As := [.int x]) (rest := [.ref m]) K (tm_isSide (E := E)  x) cs_X9_342 dX9_hasSigned_2 rfl rfl (Nat.le_of_ble_eq_true rfl) (Nat.le_of_ble_eq_true rfl) (Nat.le_of_ble_eq_true rfl) (Nat.le_of_ble_eq_true rfl) (fun v H1 hq hz => ?_) (fun _ _ _ h9 _ _ => h9.elim)
  obtain ⟨rfl, hq⟩ := hq
  rw [hq]
  change Go E Z 2 H (0) (0) 5 [(0, .ref m), (1, .int x)] [.int (bI (0 ≤ x ∧ x ≤ 1)), .ref m]
  refine f_invV (As := [.int (bI (0 ≤ x ∧ x ≤ 1))]) (rest := []) K (tm_passes (E := E)  ht (0 ≤ x ∧ x ≤ 1)) cs_X9_164 dX9_hasSigned_5 (tw_o ht) rfl rfl rfl (Nat.le_of_ble_eq_true rfl) (Nat.le_of_ble_eq_true rfl) (Nat.le_of_ble_eq_true rfl) (Nat.le_of_ble_eq_true rfl) (fun v H2 hq hz => ?_) (fun _ _ _ h9 _ _ => h9.elim)
  obtain ⟨rfl, ht, hk1⟩ := hq
  have hk := hk.tr hk1
  have ht : twAt E H2 m ad (upd sc 6 (if (0 ≤ x ∧ x ≤ 1) then 0 else 1)) f0 f1 f2 f3 f4 fb ft fo := ht
  change Go E Z 2 H2 (0) (0) 8 [(0, .ref m), (1, .int x)] [.int (bI (0 ≤ x ∧ x ≤ 1))]
  refine f_if_eqB (tgt := 25) K dX9_hasSigned_8 (by decide) (fun c_8 => ?_) (fun c_8 => ?_)
  · refine f_iconst (v := 0) K dX9_hasSigned_25 rfl ?_
    exact f_retI K X (Or.inr ⟨rfl, Or.inl rfl⟩) dX9_hasSigned_26 (Nat.le_of_ble_eq_true rfl) (Nat.le_of_ble_eq_true rfl) (⟨rI0 (fun z => c_8 z.1), ht, hk⟩)
  · obtain ⟨hx, hxn⟩ := seg_in2 (n := 1) rfl (by decide) c_8
    refine f_aload_n K dX9_hasSigned_11 rfl ?_
    refine f_iload_n K dX9_hasSigned_12 rfl ?_
    refine f_iconst (v := 3) K dX9_hasSigned_13 rfl ?_
    refine f_invV (As := [.int x, .int 3]) (rest := []) K (tm_ofPlough (E := E) (p := x.toNatClampNeg) (w := 3) ht x hx 3 nl_3 (by omega)) cs_X9_70 dX9_hasSigned_14 (tw_o ht) rfl rfl rfl (Nat.le_of_ble_eq_true rfl) (Nat.le_of_ble_eq_true rfl) (Nat.le_of_ble_eq_true rfl) (Nat.le_of_ble_eq_true rfl) (fun v H5 hq hz => ?_) (fun _ _ _ h9 _ _ => h9.elim)
    obtain ⟨rfl, hq⟩ := hq
    rw [hq]
    change Go E Z 2 H2 (0) (0) 17 [(0, .ref m), (1, .int x)] [.int (f0 (17 + 4 * x.toNatClampNeg + 3))]
    refine f_iconst (v := 1) K dX9_hasSigned_17 rfl ?_
    refine f_icmp_ne (tgt := 25) K dX9_hasSigned_18 (by decide) (fun c_18 => ?_) (fun c_18 => ?_)
    · refine f_iconst (v := 0) K dX9_hasSigned_25 rfl ?_
      exact f_retI K X (Or.inr ⟨rfl, Or.inl rfl⟩) dX9_hasSigned_26 (Nat.le_of_ble_eq_true rfl) (Nat.le_of_ble_eq_true rfl) (⟨rI0 (fun z => c_18 z.2), ht, hk⟩)
    · refine f_iconst (v := 1) K dX9_hasSigned_21 rfl ?_
      refine f_goto (tgt := 26) K dX9_hasSigned_22 (by decide) ?_
      exact f_retI K X (Or.inr ⟨rfl, Or.inr rfl⟩) dX9_hasSigned_26 (Nat.le_of_ble_eq_true rfl) (Nat.le_of_ble_eq_true rfl) (⟨rI1 ⟨c_8, c_18⟩, ht, hk⟩)
/-- entry(II)I -/
theorem tm_entry {E : fE} {H : Heap} {m : Nat} {ad : Nat → Nat} {sc f0 f1 f2 f3 f4 fb ft fo : Row} (ht : twAt E H m ad sc f0 f1 f2 f3 f4 fb ft fo) (x : Int32) (x_w : Int32) {w : Nat} (h_w : x_w = nI w) {n t : Nat} (ok : okr n t f0) (hw : w < 2) : fM E yX9_entry prog_17_method_101_code 3 (some .int) 2 0 0 [.ref m, .int x, .int x_w] H (fun r_ H' => r_ = some (.int (if 0 ≤ x ∧ x ≤ f0 9 - 1 then f0 (85 + 2 * x.toNatClampNeg + w) else -1)) ∧ twAt E H' m ad (upd sc 6 0) f0 f1 f2 f3 f4 fb ft fo ∧ twK m ad H H') noX := by
  refine f_start (own := "SnowPassModel") (nm := "entry") (lv := [(0, .ref m), (1, .int x), (2, .int x_w)]) pn_X9 rfl rfl (Nat.le_of_ble_eq_true rfl) rfl (fun Z K X => ?_)
  have hk := twK.rf (m := m) (ad := ad) (H := H)
  refine f_aload_n K dX9_entry_0 rfl ?_
  refine f_iconst (v := 0) K dX9_entry_1 rfl ?_
  refine f_put K fp_X9_55_X9 dX9_entry_2 (tw_o ht) (tw_lo ht) (Nat.le_of_ble_eq_true rfl) rfl rfl (fun H1 hU ho => ?_)
  have ht := tw_put (sc' := (upd sc 6 0)) ht hU ho rfl
  have hk := hk.put hU
  refine f_iload_n K dX9_entry_5 rfl ?_
  refine f_i2l (v := x.toInt64) K dX9_entry_6 rfl ?_
  refine f_lconst (v := 0) K dX9_entry_7 rfl ?_
  refine f_aload_n K dX9_entry_8 rfl ?_
  refine f_get (v := .ref (ad 0)) K fl_X9_7_X9 dX9_entry_9 (tw_o ht) rfl ?_
  refine f_bipush (v := 9) K dX9_entry_12 rfl ?_
  refine f_iald (j := 9) K dX9_entry_14 (tw_a0 ht) nl_9 (by decide) (by decide) ?_
  refine f_iconst (v := 1) K dX9_entry_15 rfl ?_
  refine f_isub K dX9_entry_16 ?_
  refine f_i2l (v := ((f0 9) - 1).toInt64) K dX9_entry_17 rfl ?_
  refine f_invS (As := [.long x.toInt64, .long 0, .long (((f0 9) - 1).toInt64)]) (rest := []) K (tm_in (E := E)  x x.toInt64 (by rfl) 0 0 (by rfl) ((f0 9) - 1) (((f0 9) - 1).toInt64) (by rfl)) cs_X9_62 dX9_entry_18 rfl rfl (Nat.le_of_ble_eq_true rfl) (Nat.le_of_ble_eq_true rfl) (Nat.le_of_ble_eq_true rfl) (Nat.le_of_ble_eq_true rfl) (fun v H2 hq hz => ?_) (fun _ _ _ h9 _ _ => h9.elim)
  obtain ⟨rfl, hq⟩ := hq
  rw [hq]
  change Go E Z 3 H1 (0) (0) 21 [(0, .ref m), (1, .int x), (2, .int x_w)] [.int (bI (0 ≤ x ∧ x ≤ ((f0 9) - 1)))]
  refine f_if_eqB (tgt := 40) K dX9_entry_21 (by decide) (fun c_21 => ?_) (fun c_21 => ?_)
  · refine f_iconst (v := (-1)) K dX9_entry_40 rfl ?_
    exact f_retI K X (Or.inl rfl) dX9_entry_41 (Nat.le_of_ble_eq_true rfl) (Nat.le_of_ble_eq_true rfl) (⟨rI (if_neg c_21).symm, ht, hk⟩)
  · obtain ⟨b, hb2, hb⟩ := ok.b
    obtain ⟨hx, hxn⟩ := seg_in hb (by omega) c_21
    refine f_aload_n K dX9_entry_24 rfl ?_
    refine f_get (v := .ref (ad 0)) K fl_X9_7_X9 dX9_entry_25 (tw_o ht) rfl ?_
    refine f_bipush (v := 85) K dX9_entry_28 rfl ?_
    refine f_iconst (v := 2) K dX9_entry_30 rfl ?_
    refine f_iload_n K dX9_entry_31 rfl ?_
    refine f_imul K dX9_entry_32 ?_
    refine f_iadd K dX9_entry_33 ?_
    refine f_iload_n K dX9_entry_34 rfl ?_
    refine f_iadd K dX9_entry_35 ?_
    refine f_iald (j := ((85 + (2 * x.toNatClampNeg)) + w)) K dX9_entry_36 (tw_a0 ht) (nia (nia nl_85 (nim nl_2 hx)) h_w) (by omega) (by decide) ?_
    refine f_goto (tgt := 41) K dX9_entry_37 (by decide) ?_
    exact f_retI K X (Or.inl rfl) dX9_entry_41 (Nat.le_of_ble_eq_true rfl) (Nat.le_of_ble_eq_true rfl) (⟨rI (if_pos c_21).symm, ht, hk⟩)
/-- entryKind(I)I -/
theorem tm_entryKind {E : fE} {H : Heap} {m : Nat} {ad : Nat → Nat} {sc f0 f1 f2 f3 f4 fb ft fo : Row} (ht : twAt E H m ad sc f0 f1 f2 f3 f4 fb ft fo) (x : Int32) {n t : Nat} (ok : okr n t f0) : fM E yX9_entryKind prog_17_method_102_code 2 (some .int) 3 0 0 [.ref m, .int x] H (fun r_ H' => r_ = some (.int (if 0 ≤ x ∧ x ≤ f0 9 - 1 then f0 (85 + 2 * x.toNatClampNeg) else -1)) ∧ twAt E H' m ad (upd sc 6 0) f0 f1 f2 f3 f4 fb ft fo ∧ twK m ad H H') noX := by
  refine f_start (own := "SnowPassModel") (nm := "entryKind") (lv := [(0, .ref m), (1, .int x)]) pn_X9 rfl rfl (Nat.le_of_ble_eq_true rfl) rfl (fun Z K X => ?_)
  have hk := twK.rf (m := m) (ad := ad) (H := H)
  refine f_aload_n K dX9_entryKind_0 rfl ?_
  refine f_iload_n K dX9_entryKind_1 rfl ?_
  refine f_iconst (v := 0) K dX9_entryKind_2 rfl ?_
  refine f_invV (As := [.int x, .int 0]) (rest := []) K (tm_entry (E := E) (w := 0) ht x 0 nl_0 ok (by decide)) cs_X9_345 dX9_entryKind_3 (tw_o ht) rfl rfl rfl (Nat.le_of_ble_eq_true rfl) (Nat.le_of_ble_eq_true rfl) (Nat.le_of_ble_eq_true rfl) (Nat.le_of_ble_eq_true rfl) (fun v H1 hq hz => ?_) (fun _ _ _ h9 _ _ => h9.elim)
  obtain ⟨rfl, ht, hk1⟩ := hq
  have hk := hk.tr hk1
  have ht : twAt E H1 m ad (upd sc 6 0) f0 f1 f2 f3 f4 fb ft fo := ht
  change Go E Z 2 H1 (0) (0) 6 [(0, .ref m), (1, .int x)] [.int (if 0 ≤ x ∧ x ≤ f0 9 - 1 then f0 (85 + 2 * x.toNatClampNeg) else -1)]
  exact f_retI K X (Or.inl rfl) dX9_entryKind_6 (Nat.le_of_ble_eq_true rfl) (Nat.le_of_ble_eq_true rfl) (⟨rfl, ht, hk⟩)
/-- entryClock(I)I -/
theorem tm_entryClock {E : fE} {H : Heap} {m : Nat} {ad : Nat → Nat} {sc f0 f1 f2 f3 f4 fb ft fo : Row} (ht : twAt E H m ad sc f0 f1 f2 f3 f4 fb ft fo) (x : Int32) {n t : Nat} (ok : okr n t f0) : fM E yX9_entryClock prog_17_method_103_code 2 (some .int) 3 0 0 [.ref m, .int x] H (fun r_ H' => r_ = some (.int (if 0 ≤ x ∧ x ≤ f0 9 - 1 then f0 (85 + 2 * x.toNatClampNeg + 1) else -1)) ∧ twAt E H' m ad (upd sc 6 0) f0 f1 f2 f3 f4 fb ft fo ∧ twK m ad H H') noX := by
  refine f_start (own := "SnowPassModel") (nm := "entryClock") (lv := [(0, .ref m), (1, .int x)]) pn_X9 rfl rfl (Nat.le_of_ble_eq_true rfl) rfl (fun Z K X => ?_)
  have hk := twK.rf (m := m) (ad := ad) (H := H)
  refine f_aload_n K dX9_entryClock_0 rfl ?_
  refine f_iload_n K dX9_entryClock_1 rfl ?_
  refine f_iconst (v := 1) K dX9_entryClock_2 rfl ?_
  refine f_invV (As := [.int x, .int 1]) (rest := []) K (tm_entry (E := E) (w := 1) ht x 1 nl_1 ok (by decide)) cs_X9_345 dX9_entryClock_3 (tw_o ht) rfl rfl rfl (Nat.le_of_ble_eq_true rfl) (Nat.le_of_ble_eq_true rfl) (Nat.le_of_ble_eq_true rfl) (Nat.le_of_ble_eq_true rfl) (fun v H1 hq hz => ?_) (fun _ _ _ h9 _ _ => h9.elim)
  obtain ⟨rfl, ht, hk1⟩ := hq
  have hk := hk.tr hk1
  have ht : twAt E H1 m ad (upd sc 6 0) f0 f1 f2 f3 f4 fb ft fo := ht
  change Go E Z 2 H1 (0) (0) 6 [(0, .ref m), (1, .int x)] [.int (if 0 ≤ x ∧ x ≤ f0 9 - 1 then f0 (85 + 2 * x.toNatClampNeg + 1) else -1)]
  exact f_retI K X (Or.inl rfl) dX9_entryClock_6 (Nat.le_of_ble_eq_true rfl) (Nat.le_of_ble_eq_true rfl) (⟨rfl, ht, hk⟩)
/-- waitingTicket(II)I -/
theorem tm_waitingTicket {E : fE} {H : Heap} {m : Nat} {ad : Nat → Nat} {sc f0 f1 f2 f3 f4 fb ft fo : Row} (ht : twAt E H m ad sc f0 f1 f2 f3 f4 fb ft fo) (x : Int32) (y : Int32) {n t : Nat} (ok : okr n t f0) : fM E yX9_waitingTicket prog_17_method_105_code 3 (some .int) 3 0 0 [.ref m, .int x, .int y] H (fun r_ H' => r_ = some (.int (if 0 ≤ x ∧ x ≤ 1 then (if 0 ≤ y ∧ y ≤ f0 (125 + x.toNatClampNeg) - 1 then f0 (127 + 2 * (10 * x.toNatClampNeg + y.toNatClampNeg)) else -1) else 0)) ∧ twAt E H' m ad (upd sc 6 (if 0 ≤ x ∧ x ≤ 1 then 0 else 1)) f0 f1 f2 f3 f4 fb ft fo ∧ twK m ad H H') noX := by
  refine f_start (own := "SnowPassModel") (nm := "waitingTicket") (lv := [(0, .ref m), (1, .int x), (2, .int y)]) pn_X9 rfl rfl (Nat.le_of_ble_eq_true rfl) rfl (fun Z K X => ?_)
  have hk := twK.rf (m := m) (ad := ad) (H := H)
  refine f_aload_n K dX9_waitingTicket_0 rfl ?_
  refine f_iload_n K dX9_waitingTicket_1 rfl ?_
  refine f_invS (As := [.int x]) (rest := [.ref m]) K (tm_isSide (E := E)  x) cs_X9_342 dX9_waitingTicket_2 rfl rfl (Nat.le_of_ble_eq_true rfl) (Nat.le_of_ble_eq_true rfl) (Nat.le_of_ble_eq_true rfl) (Nat.le_of_ble_eq_true rfl) (fun v H1 hq hz => ?_) (fun _ _ _ h9 _ _ => h9.elim)
  obtain ⟨rfl, hq⟩ := hq
  rw [hq]
  change Go E Z 3 H (0) (0) 5 [(0, .ref m), (1, .int x), (2, .int y)] [.int (bI (0 ≤ x ∧ x ≤ 1)), .ref m]
  refine f_invV (As := [.int (bI (0 ≤ x ∧ x ≤ 1))]) (rest := []) K (tm_passes (E := E)  ht (0 ≤ x ∧ x ≤ 1)) cs_X9_164 dX9_waitingTicket_5 (tw_o ht) rfl rfl rfl (Nat.le_of_ble_eq_true rfl) (Nat.le_of_ble_eq_true rfl) (Nat.le_of_ble_eq_true rfl) (Nat.le_of_ble_eq_true rfl) (fun v H2 hq hz => ?_) (fun _ _ _ h9 _ _ => h9.elim)
  obtain ⟨rfl, ht, hk1⟩ := hq
  have hk := hk.tr hk1
  have ht : twAt E H2 m ad (upd sc 6 (if (0 ≤ x ∧ x ≤ 1) then 0 else 1)) f0 f1 f2 f3 f4 fb ft fo := ht
  change Go E Z 3 H2 (0) (0) 8 [(0, .ref m), (1, .int x), (2, .int y)] [.int (bI (0 ≤ x ∧ x ≤ 1))]
  refine f_if_neB (tgt := 13) K dX9_waitingTicket_8 (by decide) (fun c_8 => ?_) (fun c_8 => ?_)
  · obtain ⟨hx, hxn⟩ := seg_in2 (n := 1) rfl (by decide) c_8
    refine f_iload_n K dX9_waitingTicket_13 rfl ?_
    refine f_i2l (v := y.toInt64) K dX9_waitingTicket_14 rfl ?_
    refine f_lconst (v := 0) K dX9_waitingTicket_15 rfl ?_
    refine f_aload_n K dX9_waitingTicket_16 rfl ?_
    refine f_get (v := .ref (ad 0)) K fl_X9_7_X9 dX9_waitingTicket_17 (tw_o ht) rfl ?_
    refine f_bipush (v := 125) K dX9_waitingTicket_20 rfl ?_
    refine f_iload_n K dX9_waitingTicket_22 rfl ?_
    refine f_iadd K dX9_waitingTicket_23 ?_
    refine f_iald (j := (125 + x.toNatClampNeg)) K dX9_waitingTicket_24 (tw_a0 ht) (nia nl_125 hx) (by omega) (by decide) ?_
    refine f_iconst (v := 1) K dX9_waitingTicket_25 rfl ?_
    refine f_isub K dX9_waitingTicket_26 ?_
    refine f_i2l (v := ((f0 (125 + x.toNatClampNeg)) - 1).toInt64) K dX9_waitingTicket_27 rfl ?_
    refine f_invS (As := [.long y.toInt64, .long 0, .long (((f0 (125 + x.toNatClampNeg)) - 1).toInt64)]) (rest := []) K (tm_in (E := E)  y y.toInt64 (by rfl) 0 0 (by rfl) ((f0 (125 + x.toNatClampNeg)) - 1) (((f0 (125 + x.toNatClampNeg)) - 1).toInt64) (by rfl)) cs_X9_62 dX9_waitingTicket_28 rfl rfl (Nat.le_of_ble_eq_true rfl) (Nat.le_of_ble_eq_true rfl) (Nat.le_of_ble_eq_true rfl) (Nat.le_of_ble_eq_true rfl) (fun v H5 hq hz => ?_) (fun _ _ _ h9 _ _ => h9.elim)
    obtain ⟨rfl, hq⟩ := hq
    rw [hq]
    change Go E Z 3 H2 (0) (0) 31 [(0, .ref m), (1, .int x), (2, .int y)] [.int (bI (0 ≤ y ∧ y ≤ ((f0 (125 + x.toNatClampNeg)) - 1)))]
    refine f_if_eqB (tgt := 44) K dX9_waitingTicket_31 (by decide) (fun c_31 => ?_) (fun c_31 => ?_)
    · refine f_iconst (v := (-1)) K dX9_waitingTicket_44 rfl ?_
      exact f_retI K X (Or.inl rfl) dX9_waitingTicket_45 (Nat.le_of_ble_eq_true rfl) (Nat.le_of_ble_eq_true rfl) (⟨rI ((if_pos c_8).trans (if_neg c_31)).symm, ht, hk⟩)
    · obtain ⟨w, hw2, hw⟩ := ok.w (s := x.toNatClampNeg) (by omega)
      obtain ⟨hy, hyn⟩ := seg_in hw (by omega) c_31
      refine f_aload_n K dX9_waitingTicket_34 rfl ?_
      refine f_iload_n K dX9_waitingTicket_35 rfl ?_
      refine f_iload_n K dX9_waitingTicket_36 rfl ?_
      refine f_iconst (v := 0) K dX9_waitingTicket_37 rfl ?_
      refine f_invV (As := [.int x, .int y, .int 0]) (rest := []) K (tm_cartAt (E := E) (s := x.toNatClampNeg) (i := y.toNatClampNeg) (w := 0) ht x hx y hy 0 nl_0 (by omega)) cs_X9_116 dX9_waitingTicket_38 (tw_o ht) rfl rfl rfl (Nat.le_of_ble_eq_true rfl) (Nat.le_of_ble_eq_true rfl) (Nat.le_of_ble_eq_true rfl) (Nat.le_of_ble_eq_true rfl) (fun v H7 hq hz => ?_) (fun _ _ _ h9 _ _ => h9.elim)
      obtain ⟨rfl, hq⟩ := hq
      rw [hq]
      change Go E Z 3 H2 (0) (0) 41 [(0, .ref m), (1, .int x), (2, .int y)] [.int (f0 (127 + 2 * (10 * x.toNatClampNeg + y.toNatClampNeg)))]
      refine f_goto (tgt := 45) K dX9_waitingTicket_41 (by decide) ?_
      exact f_retI K X (Or.inl rfl) dX9_waitingTicket_45 (Nat.le_of_ble_eq_true rfl) (Nat.le_of_ble_eq_true rfl) (⟨rI ((if_pos c_8).trans (if_pos c_31)).symm, ht, hk⟩)
  · refine f_iconst (v := 0) K dX9_waitingTicket_11 rfl ?_
    exact f_retI K X (Or.inl rfl) dX9_waitingTicket_12 (Nat.le_of_ble_eq_true rfl) (Nat.le_of_ble_eq_true rfl) (⟨rI (if_neg c_8).symm, ht, hk⟩)
/-- sideOfTicket(I)I -/
theorem tm_sideOfTicket {E : fE} {H : Heap} {m : Nat} {ad : Nat → Nat} {sc f0 f1 f2 f3 f4 fb ft fo : Row} (ht : twAt E H m ad sc f0 f1 f2 f3 f4 fb ft fo) (x : Int32) {n t : Nat} (ok : okr n t f0) : fM E yX9_sideOfTicket prog_17_method_106_code 2 (some .int) 4 0 0 [.ref m, .int x] H (fun r_ H' => r_ = some (.int (sp_side f0 x)) ∧ twAt E H' m ad (upd sc 6 0) f0 f1 f2 f3 f4 fb ft fo ∧ twK m ad H H') noX := by
  refine f_start (own := "SnowPassModel") (nm := "sideOfTicket") (lv := [(0, .ref m), (1, .int x)]) pn_X9 rfl rfl (Nat.le_of_ble_eq_true rfl) rfl (fun Z K X => ?_)
  have hk := twK.rf (m := m) (ad := ad) (H := H)
  refine f_aload_n K dX9_sideOfTicket_0 rfl ?_
  refine f_iconst (v := 0) K dX9_sideOfTicket_1 rfl ?_
  refine f_put K fp_X9_55_X9 dX9_sideOfTicket_2 (tw_o ht) (tw_lo ht) (Nat.le_of_ble_eq_true rfl) rfl rfl (fun H1 hU ho => ?_)
  have ht := tw_put (sc' := (upd sc 6 0)) ht hU ho rfl
  have hk := hk.put hU
  refine f_aload_n K dX9_sideOfTicket_5 rfl ?_
  refine f_iload_n K dX9_sideOfTicket_6 rfl ?_
  refine f_invV (As := [.int x]) (rest := []) K (tm_sideOf (E := E)  ht x ok) cs_X9_161 dX9_sideOfTicket_7 (tw_o ht) rfl rfl rfl (Nat.le_of_ble_eq_true rfl) (Nat.le_of_ble_eq_true rfl) (Nat.le_of_ble_eq_true rfl) (Nat.le_of_ble_eq_true rfl) (fun v H2 hq hz => ?_) (fun _ _ _ h9 _ _ => h9.elim)
  obtain ⟨rfl, hq⟩ := hq
  rw [hq]
  change Go E Z 2 H1 (0) (0) 10 [(0, .ref m), (1, .int x)] [.int (sp_side f0 x)]
  exact f_retI K X (Or.inl rfl) dX9_sideOfTicket_10 (Nat.le_of_ble_eq_true rfl) (Nat.le_of_ble_eq_true rfl) (⟨rfl, ht, hk⟩)
def sp_chains (f : Row) (x : Int32) : Int32 := f (127 + 2 * (10 * (sp_side f x).toNatClampNeg + (sp_place f (sp_side f x).toNatClampNeg x).toNatClampNeg) + 1)
theorem sp_chains_eq {f : Row} {x : Int32} {s j : Nat} (hs : s < 2) (hj : j ≤ 10) (es : sp_side f x = nI s) (ep : sp_place f s x = nI j) : sp_chains f x = f (127 + 2 * (10 * s + j) + 1) := by
  unfold sp_chains
  rw [es, nI_clamp (by omega), ep, nI_clamp (by omega)]
/-- why a waiting cart would not cross now -/
def sp_reason (f : Row) (x : Int32) : Int32 := if 0 < sp_place f (sp_side f x).toNatClampNeg x then 1 else if sp_may f (127 + 2 * (10 * (sp_side f x).toNatClampNeg + 0)) then 0 else if f (127 + 2 * (10 * (sp_side f x).toNatClampNeg + 0) + 1) = 1 then 3 else 2
/-- hasChains(I)Z -/
theorem tm_hasChains {E : fE} {H : Heap} {m : Nat} {ad : Nat → Nat} {sc f0 f1 f2 f3 f4 fb ft fo : Row} (ht : twAt E H m ad sc f0 f1 f2 f3 f4 fb ft fo) (x : Int32) {n t : Nat} (ok : okr n t f0) : fM E yX9_hasChains prog_17_method_107_code 2 (some .boolean) 5 0 0 [.ref m, .int x] H (fun r_ H' => r_ = some (.int (bI (sp_waits f0 x ∧ sp_chains f0 x = 1))) ∧ twAt E H' m ad (upd sc 6 (if sp_waits f0 x then 0 else 1)) f0 f1 f2 f3 f4 fb ft fo ∧ twK m ad H H') noX := by
  refine f_start (own := "SnowPassModel") (nm := "hasChains") (lv := [(0, .ref m), (1, .int x)]) pn_X9 rfl rfl (Nat.le_of_ble_eq_true rfl) rfl (fun Z K X => ?_)
  have hk := twK.rf (m := m) (ad := ad) (H := H)
  refine f_aload_n K dX9_hasChains_0 rfl ?_
  refine f_aload_n K dX9_hasChains_1 rfl ?_
  refine f_iload_n K dX9_hasChains_2 rfl ?_
  refine f_invV (As := [.int x]) (rest := [.ref m]) K (tm_waits (E := E)  ht x ok) cs_X9_348 dX9_hasChains_3 (tw_o ht) rfl rfl rfl (Nat.le_of_ble_eq_true rfl) (Nat.le_of_ble_eq_true rfl) (Nat.le_of_ble_eq_true rfl) (Nat.le_of_ble_eq_true rfl) (fun v H1 hq hz => ?_) (fun _ _ _ h9 _ _ => h9.elim)
  obtain ⟨rfl, hq⟩ := hq
  rw [hq]
  change Go E Z 2 H (0) (0) 6 [(0, .ref m), (1, .int x)] [.int (bI (sp_waits f0 x)), .ref m]
  refine f_invV (As := [.int (bI (sp_waits f0 x))]) (rest := []) K (tm_passes (E := E)  ht (sp_waits f0 x)) cs_X9_164 dX9_hasChains_6 (tw_o ht) rfl rfl rfl (Nat.le_of_ble_eq_true rfl) (Nat.le_of_ble_eq_true rfl) (Nat.le_of_ble_eq_true rfl) (Nat.le_of_ble_eq_true rfl) (fun v H2 hq hz => ?_) (fun _ _ _ h9 _ _ => h9.elim)
  obtain ⟨rfl, ht, hk1⟩ := hq
  have hk := hk.tr hk1
  have ht : twAt E H2 m ad (upd sc 6 (if (sp_waits f0 x) then 0 else 1)) f0 f1 f2 f3 f4 fb ft fo := ht
  change Go E Z 2 H2 (0) (0) 9 [(0, .ref m), (1, .int x)] [.int (bI (sp_waits f0 x))]
  refine f_if_eqB (tgt := 40) K dX9_hasChains_9 (by decide) (fun c_9 => ?_) (fun c_9 => ?_)
  · refine f_iconst (v := 0) K dX9_hasChains_40 rfl ?_
    exact f_retI K X (Or.inr ⟨rfl, Or.inl rfl⟩) dX9_hasChains_41 (Nat.le_of_ble_eq_true rfl) (Nat.le_of_ble_eq_true rfl) (⟨rI0 (fun z => c_9 z.1), ht, hk⟩)
  · obtain ⟨s, w, j, hs, es, hw, hw2, hj, ep, -⟩ := sp_waits_in ok c_9
    refine f_aload_n K dX9_hasChains_12 rfl ?_
    refine f_aload_n K dX9_hasChains_13 rfl ?_
    refine f_iload_n K dX9_hasChains_14 rfl ?_
    refine f_invV (As := [.int x]) (rest := [.ref m]) K (tm_sideOf (E := E)  ht x ok) cs_X9_161 dX9_hasChains_15 (tw_o ht) rfl rfl rfl (Nat.le_of_ble_eq_true rfl) (Nat.le_of_ble_eq_true rfl) (Nat.le_of_ble_eq_true rfl) (Nat.le_of_ble_eq_true rfl) (fun v H5 hq hz => ?_) (fun _ _ _ h9 _ _ => h9.elim)
    obtain ⟨rfl, hq⟩ := hq
    rw [hq]
    change Go E Z 2 H2 (0) (0) 18 [(0, .ref m), (1, .int x)] [.int (sp_side f0 x), .ref m]
    refine f_aload_n K dX9_hasChains_18 rfl ?_
    refine f_aload_n K dX9_hasChains_19 rfl ?_
    refine f_iload_n K dX9_hasChains_20 rfl ?_
    refine f_invV (As := [.int x]) (rest := [.ref m, .int (sp_side f0 x), .ref m]) K (tm_sideOf (E := E)  ht x ok) cs_X9_161 dX9_hasChains_21 (tw_o ht) rfl rfl rfl (Nat.le_of_ble_eq_true rfl) (Nat.le_of_ble_eq_true rfl) (Nat.le_of_ble_eq_true rfl) (Nat.le_of_ble_eq_true rfl) (fun v H6 hq hz => ?_) (fun _ _ _ h9 _ _ => h9.elim)
    obtain ⟨rfl, hq⟩ := hq
    rw [hq]
    change Go E Z 2 H2 (0) (0) 24 [(0, .ref m), (1, .int x)] [.int (sp_side f0 x), .ref m, .int (sp_side f0 x), .ref m]
    refine f_iload_n K dX9_hasChains_24 rfl ?_
    refine f_invV (As := [.int (sp_side f0 x), .int x]) (rest := [.int (sp_side f0 x), .ref m]) K (tm_placeOf (E := E) (s := s) ht (sp_side f0 x) es x hs hw hw2) cs_X9_158 dX9_hasChains_25 (tw_o ht) rfl rfl rfl (Nat.le_of_ble_eq_true rfl) (Nat.le_of_ble_eq_true rfl) (Nat.le_of_ble_eq_true rfl) (Nat.le_of_ble_eq_true rfl) (fun v H7 hq hz => ?_) (fun _ _ _ h9 _ _ => h9.elim)
    obtain ⟨rfl, hq⟩ := hq
    rw [hq]
    change Go E Z 2 H2 (0) (0) 28 [(0, .ref m), (1, .int x)] [.int (sp_place f0 s x), .int (sp_side f0 x), .ref m]
    refine f_iconst (v := 1) K dX9_hasChains_28 rfl ?_
    refine f_invV (As := [.int (sp_side f0 x), .int (sp_place f0 s x), .int 1]) (rest := []) K (tm_cartAt (E := E) (s := s) (i := j) (w := 1) ht (sp_side f0 x) es (sp_place f0 s x) ep 1 nl_1 (by omega)) cs_X9_116 dX9_hasChains_29 (tw_o ht) rfl rfl rfl (Nat.le_of_ble_eq_true rfl) (Nat.le_of_ble_eq_true rfl) (Nat.le_of_ble_eq_true rfl) (Nat.le_of_ble_eq_true rfl) (fun v H8 hq hz => ?_) (fun _ _ _ h9 _ _ => h9.elim)
    obtain ⟨rfl, hq⟩ := hq
    rw [hq]
    change Go E Z 2 H2 (0) (0) 32 [(0, .ref m), (1, .int x)] [.int (f0 (127 + 2 * (10 * s + j) + 1))]
    refine f_iconst (v := 1) K dX9_hasChains_32 rfl ?_
    refine f_icmp_ne (tgt := 40) K dX9_hasChains_33 (by decide) (fun c_33 => ?_) (fun c_33 => ?_)
    · refine f_iconst (v := 0) K dX9_hasChains_40 rfl ?_
      exact f_retI K X (Or.inr ⟨rfl, Or.inl rfl⟩) dX9_hasChains_41 (Nat.le_of_ble_eq_true rfl) (Nat.le_of_ble_eq_true rfl) (⟨rI0 (fun z => c_33 ((sp_chains_eq hs (by omega) es ep).symm.trans z.2)), ht, hk⟩)
    · refine f_iconst (v := 1) K dX9_hasChains_36 rfl ?_
      refine f_goto (tgt := 41) K dX9_hasChains_37 (by decide) ?_
      exact f_retI K X (Or.inr ⟨rfl, Or.inr rfl⟩) dX9_hasChains_41 (Nat.le_of_ble_eq_true rfl) (Nat.le_of_ble_eq_true rfl) (⟨rI1 ⟨c_9, (sp_chains_eq hs (by omega) es ep).trans c_33⟩, ht, hk⟩)
/-- crossingReason(I)I -/
theorem tm_crossingReason {E : fE} {H : Heap} {m : Nat} {ad : Nat → Nat} {sc f0 f1 f2 f3 f4 fb ft fo : Row} (ht : twAt E H m ad sc f0 f1 f2 f3 f4 fb ft fo) (x : Int32) {n t : Nat} (ok : okr n t f0) : fM E yX9_crossingReason prog_17_method_108_code 4 (some .int) 5 0 0 [.ref m, .int x] H (fun r_ H' => r_ = some (.int (if sp_waits f0 x then sp_reason f0 x else 0)) ∧ twAt E H' m ad (upd sc 6 (if sp_waits f0 x then 0 else 1)) f0 f1 f2 f3 f4 fb ft fo ∧ twK m ad H H') noX := by
  refine f_start (own := "SnowPassModel") (nm := "crossingReason") (lv := [(0, .ref m), (1, .int x)]) pn_X9 rfl rfl (Nat.le_of_ble_eq_true rfl) rfl (fun Z K X => ?_)
  have hk := twK.rf (m := m) (ad := ad) (H := H)
  refine f_aload_n K dX9_crossingReason_0 rfl ?_
  refine f_aload_n K dX9_crossingReason_1 rfl ?_
  refine f_iload_n K dX9_crossingReason_2 rfl ?_
  refine f_invV (As := [.int x]) (rest := [.ref m]) K (tm_waits (E := E)  ht x ok) cs_X9_348 dX9_crossingReason_3 (tw_o ht) rfl rfl rfl (Nat.le_of_ble_eq_true rfl) (Nat.le_of_ble_eq_true rfl) (Nat.le_of_ble_eq_true rfl) (Nat.le_of_ble_eq_true rfl) (fun v H1 hq hz => ?_) (fun _ _ _ h9 _ _ => h9.elim)
  obtain ⟨rfl, hq⟩ := hq
  rw [hq]
  change Go E Z 4 H (0) (0) 6 [(0, .ref m), (1, .int x)] [.int (bI (sp_waits f0 x)), .ref m]
  refine f_invV (As := [.int (bI (sp_waits f0 x))]) (rest := []) K (tm_passes (E := E)  ht (sp_waits f0 x)) cs_X9_164 dX9_crossingReason_6 (tw_o ht) rfl rfl rfl (Nat.le_of_ble_eq_true rfl) (Nat.le_of_ble_eq_true rfl) (Nat.le_of_ble_eq_true rfl) (Nat.le_of_ble_eq_true rfl) (fun v H2 hq hz => ?_) (fun _ _ _ h9 _ _ => h9.elim)
  obtain ⟨rfl, ht, hk1⟩ := hq
  have hk := hk.tr hk1
  have ht : twAt E H2 m ad (upd sc 6 (if (sp_waits f0 x) then 0 else 1)) f0 f1 f2 f3 f4 fb ft fo := ht
  change Go E Z 4 H2 (0) (0) 9 [(0, .ref m), (1, .int x)] [.int (bI (sp_waits f0 x))]
  refine f_if_neB (tgt := 14) K dX9_crossingReason_9 (by decide) (fun c_9 => ?_) (fun c_9 => ?_)
  · obtain ⟨s, w, j, hs, es, hw, hw2, hj, ep, -⟩ := sp_waits_in ok c_9
    refine f_aload_n K dX9_crossingReason_14 rfl ?_
    refine f_iload_n K dX9_crossingReason_15 rfl ?_
    refine f_invV (As := [.int x]) (rest := []) K (tm_sideOf (E := E)  ht x ok) cs_X9_161 dX9_crossingReason_16 (tw_o ht) rfl rfl rfl (Nat.le_of_ble_eq_true rfl) (Nat.le_of_ble_eq_true rfl) (Nat.le_of_ble_eq_true rfl) (Nat.le_of_ble_eq_true rfl) (fun v H5 hq hz => ?_) (fun _ _ _ h9 _ _ => h9.elim)
    obtain ⟨rfl, hq⟩ := hq
    rw [hq]
    change Go E Z 4 H2 (0) (0) 19 [(0, .ref m), (1, .int x)] [.int (sp_side f0 x)]
    refine f_istore_n (lv' := [(2, .int (sp_side f0 x)), (0, .ref m), (1, .int x)]) K dX9_crossingReason_19 (by decide) rfl ?_
    refine f_aload_n K dX9_crossingReason_20 rfl ?_
    refine f_iload_n K dX9_crossingReason_21 rfl ?_
    refine f_iload_n K dX9_crossingReason_22 rfl ?_
    refine f_invV (As := [.int (sp_side f0 x), .int x]) (rest := []) K (tm_placeOf (E := E) (s := s) ht (sp_side f0 x) es x hs hw hw2) cs_X9_158 dX9_crossingReason_23 (tw_o ht) rfl rfl rfl (Nat.le_of_ble_eq_true rfl) (Nat.le_of_ble_eq_true rfl) (Nat.le_of_ble_eq_true rfl) (Nat.le_of_ble_eq_true rfl) (fun v H6 hq hz => ?_) (fun _ _ _ h9 _ _ => h9.elim)
    obtain ⟨rfl, hq⟩ := hq
    rw [hq]
    change Go E Z 4 H2 (0) (0) 26 [(2, .int (sp_side f0 x)), (0, .ref m), (1, .int x)] [.int (sp_place f0 s x)]
    refine f_istore_n (lv' := [(3, .int (sp_place f0 s x)), (2, .int (sp_side f0 x)), (0, .ref m), (1, .int x)]) K dX9_crossingReason_26 (by decide) rfl ?_
    refine f_iload_n K dX9_crossingReason_27 rfl ?_
    refine f_if_le (tgt := 33) K dX9_crossingReason_28 (by decide) (fun c_28 => ?_) (fun c_28 => ?_)
    · refine f_aload_n K dX9_crossingReason_33 rfl ?_
      refine f_iload_n K dX9_crossingReason_34 rfl ?_
      refine f_iconst (v := 0) K dX9_crossingReason_35 rfl ?_
      refine f_invV (As := [.int (sp_side f0 x), .int 0]) (rest := []) K (tm_mayCross (E := E) (s := s) (i := 0) ht (sp_side f0 x) es 0 nl_0 hs (by decide) ok) cs_X9_123 dX9_crossingReason_36 (tw_o ht) rfl rfl rfl (Nat.le_of_ble_eq_true rfl) (Nat.le_of_ble_eq_true rfl) (Nat.le_of_ble_eq_true rfl) (Nat.le_of_ble_eq_true rfl) (fun v H8 hq hz => ?_) (fun _ _ _ h9 _ _ => h9.elim)
      obtain ⟨rfl, hq⟩ := hq
      rw [hq]
      change Go E Z 4 H2 (0) (0) 39 [(3, .int (sp_place f0 s x)), (2, .int (sp_side f0 x)), (0, .ref m), (1, .int x)] [.int (bI (sp_may f0 (127 + 2 * (10 * s + 0))))]
      refine f_if_eqB (tgt := 44) K dX9_crossingReason_39 (by decide) (fun c_39 => ?_) (fun c_39 => ?_)
      · refine f_aload_n K dX9_crossingReason_44 rfl ?_
        refine f_iload_n K dX9_crossingReason_45 rfl ?_
        refine f_iconst (v := 0) K dX9_crossingReason_46 rfl ?_
        refine f_iconst (v := 1) K dX9_crossingReason_47 rfl ?_
        refine f_invV (As := [.int (sp_side f0 x), .int 0, .int 1]) (rest := []) K (tm_cartAt (E := E) (s := s) (i := 0) (w := 1) ht (sp_side f0 x) es 0 nl_0 1 nl_1 (by omega)) cs_X9_116 dX9_crossingReason_48 (tw_o ht) rfl rfl rfl (Nat.le_of_ble_eq_true rfl) (Nat.le_of_ble_eq_true rfl) (Nat.le_of_ble_eq_true rfl) (Nat.le_of_ble_eq_true rfl) (fun v H10 hq hz => ?_) (fun _ _ _ h9 _ _ => h9.elim)
        obtain ⟨rfl, hq⟩ := hq
        rw [hq]
        change Go E Z 4 H2 (0) (0) 51 [(3, .int (sp_place f0 s x)), (2, .int (sp_side f0 x)), (0, .ref m), (1, .int x)] [.int (f0 (127 + 2 * (10 * s + 0) + 1))]
        refine f_iconst (v := 1) K dX9_crossingReason_51 rfl ?_
        refine f_icmp_ne (tgt := 59) K dX9_crossingReason_52 (by decide) (fun c_52 => ?_) (fun c_52 => ?_)
        · refine f_iconst (v := 2) K dX9_crossingReason_59 rfl ?_
          exact f_retI K X (Or.inl rfl) dX9_crossingReason_60 (Nat.le_of_ble_eq_true rfl) (Nat.le_of_ble_eq_true rfl) (⟨rI (by rw [if_pos c_9, sp_reason, es, nI_clamp (by omega), if_neg (Int32.not_lt.mpr c_28), if_neg c_39, if_neg c_52]), ht, hk⟩)
        · refine f_iconst (v := 3) K dX9_crossingReason_55 rfl ?_
          refine f_goto (tgt := 60) K dX9_crossingReason_56 (by decide) ?_
          exact f_retI K X (Or.inl rfl) dX9_crossingReason_60 (Nat.le_of_ble_eq_true rfl) (Nat.le_of_ble_eq_true rfl) (⟨rI (by rw [if_pos c_9, sp_reason, es, nI_clamp (by omega), if_neg (Int32.not_lt.mpr c_28), if_neg c_39, if_pos c_52]), ht, hk⟩)
      · refine f_iconst (v := 0) K dX9_crossingReason_42 rfl ?_
        exact f_retI K X (Or.inl rfl) dX9_crossingReason_43 (Nat.le_of_ble_eq_true rfl) (Nat.le_of_ble_eq_true rfl) (⟨rI (by rw [if_pos c_9, sp_reason, es, nI_clamp (by omega), if_neg (Int32.not_lt.mpr c_28), if_pos c_39]), ht, hk⟩)
    · refine f_iconst (v := 1) K dX9_crossingReason_31 rfl ?_
      exact f_retI K X (Or.inl rfl) dX9_crossingReason_32 (Nat.le_of_ble_eq_true rfl) (Nat.le_of_ble_eq_true rfl) (⟨rI (by rw [if_pos c_9, sp_reason, es, nI_clamp (by omega), if_pos (Int32.not_le.mp c_28)]), ht, hk⟩)
  · refine f_iconst (v := 0) K dX9_crossingReason_12 rfl ?_
    exact f_retI K X (Or.inl rfl) dX9_crossingReason_13 (Nat.le_of_ble_eq_true rfl) (Nat.le_of_ble_eq_true rfl) (⟨rI (if_neg c_9).symm, ht, hk⟩)
theorem go_s {f : Row} {i : Nat} (h : 1 ≤ i) : sp_hour (sp_go f (i - 1)) = sp_go f i := by
  obtain ⟨z, rfl⟩ : ∃ z, i = z + 1 := ⟨i - 1, by omega⟩
  rfl
def sp_until (f : Row) (v : Int32) : Nat → Nat → Int32
  | 0, _ => -1
  | d + 1, i => if bI (sp_open (sp_go f i)) = v then nI i else sp_until f v d (i + 1)
def sp_untilC (f : Row) (x : Int32) : Nat → Nat → Int32
  | 0, _ => -1
  | d + 1, i => if sp_waits (sp_go f i) x then sp_untilC f x d (i + 1) else nI i
def sp_least (f : Row) (p k : Nat) : Nat → Nat → Int32
  | 0, _ => -1
  | d + 1, i => if sp_go (upd f (17 + 4 * p + 1) (nI i)) k (17 + 4 * p + 3) = 1 then nI i else sp_least f p k d (i + 1)
def sp_salted (f : Row) (n k h : Nat) : Int32 := sp_sum (sp_go (upd f (25 + 3 * k + 2) 6) h) n
def sp_best (f : Row) (n h : Nat) : Nat → Int32 × Int32
  | 0 => (-1, 0)
  | d + 1 => if 0 < f (25 + 3 * d + 2) then sp_best f n h d else if (sp_best f n h d).1 = -1 ∨ sp_salted f n d h < (sp_best f n h d).2 then (nI d, sp_salted f n d h) else sp_best f n h d
theorem okr_cap {n t p i : Nat} {f : Row} (h : okr n t f) (hp : p < 2) (hi : i ≤ 200) : okr n t (upd f (17 + 4 * p + 1) (nI i)) := by
  rcases (by omega : p = 0 ∨ p = 1) with rfl | rfl
  · exact h.up (j := 18) ⟨i, hi, rfl⟩
  · exact h.up (j := 22) ⟨i, hi, rfl⟩
/-- depthAfter(II)I -/
theorem tm_depthAfter {E : fE} {H : Heap} {m : Nat} {ad : Nat → Nat} {sc f0 f1 f2 f3 f4 fb ft fo : Row} (ht : twAt E H m ad sc f0 f1 f2 f3 f4 fb ft fo) (x : Int32) (h : Int32) {n t : Nat} (ok : okr n t f0) : fM E yX9_depthAfter prog_17_method_110_code 3 (some .int) 8 0 0 [.ref m, .int x, .int h] H (fun r_ H' => r_ = some (.int (if (0 ≤ x ∧ x ≤ f0 0 - 1) ∧ (0 ≤ h ∧ h ≤ 240) then sp_go f0 h.toNatClampNeg (25 + 3 * x.toNatClampNeg) else 0)) ∧ ∃ x_f3 : Row, twAt E H' m ad (upd sc 6 (if 0 ≤ x ∧ x ≤ f0 0 - 1 then (if 0 ≤ h ∧ h ≤ 240 then 0 else 2) else 1)) f0 f1 f2 x_f3 f4 fb ft fo ∧ twK m ad H H') noX := by
  refine f_start (own := "SnowPassModel") (nm := "depthAfter") (lv := [(0, .ref m), (1, .int x), (2, .int h)]) pn_X9 rfl rfl (Nat.le_of_ble_eq_true rfl) rfl (fun Z K X => ?_)
  have hk := twK.rf (m := m) (ad := ad) (H := H)
  refine f_aload_n K dX9_depthAfter_0 rfl ?_
  refine f_aload_n K dX9_depthAfter_1 rfl ?_
  refine f_iload_n K dX9_depthAfter_2 rfl ?_
  refine f_invV (As := [.int x]) (rest := [.ref m]) K (tm_isSegment (E := E)  ht x) cs_X9_332 dX9_depthAfter_3 (tw_o ht) rfl rfl rfl (Nat.le_of_ble_eq_true rfl) (Nat.le_of_ble_eq_true rfl) (Nat.le_of_ble_eq_true rfl) (Nat.le_of_ble_eq_true rfl) (fun v H1 hq hz => ?_) (fun _ _ _ h9 _ _ => h9.elim)
  obtain ⟨rfl, hq⟩ := hq
  rw [hq]
  change Go E Z 3 H (0) (0) 6 [(0, .ref m), (1, .int x), (2, .int h)] [.int (bI (0 ≤ x ∧ x ≤ f0 0 - 1)), .ref m]
  refine f_iload_n K dX9_depthAfter_6 rfl ?_
  refine f_invS (As := [.int h]) (rest := [.int (bI (0 ≤ x ∧ x ≤ f0 0 - 1)), .ref m]) K (tm_areHours (E := E)  h) cs_X9_353 dX9_depthAfter_7 rfl rfl (Nat.le_of_ble_eq_true rfl) (Nat.le_of_ble_eq_true rfl) (Nat.le_of_ble_eq_true rfl) (Nat.le_of_ble_eq_true rfl) (fun v H2 hq hz => ?_) (fun _ _ _ h9 _ _ => h9.elim)
  obtain ⟨rfl, hq⟩ := hq
  rw [hq]
  change Go E Z 3 H (0) (0) 10 [(0, .ref m), (1, .int x), (2, .int h)] [.int (bI (0 ≤ h ∧ h ≤ 240)), .int (bI (0 ≤ x ∧ x ≤ f0 0 - 1)), .ref m]
  refine f_invV (As := [.int (bI (0 ≤ x ∧ x ≤ f0 0 - 1)), .int (bI (0 ≤ h ∧ h ≤ 240))]) (rest := []) K (tm_passesBoth (E := E)  ht (0 ≤ x ∧ x ≤ f0 0 - 1) (0 ≤ h ∧ h ≤ 240)) cs_X9_356 dX9_depthAfter_10 (tw_o ht) rfl rfl rfl (Nat.le_of_ble_eq_true rfl) (Nat.le_of_ble_eq_true rfl) (Nat.le_of_ble_eq_true rfl) (Nat.le_of_ble_eq_true rfl) (fun v H3 hq hz => ?_) (fun _ _ _ h9 _ _ => h9.elim)
  obtain ⟨rfl, ht, hk1⟩ := hq
  have hk := hk.tr hk1
  have ht : twAt E H3 m ad (upd sc 6 (if (0 ≤ x ∧ x ≤ f0 0 - 1) then (if (0 ≤ h ∧ h ≤ 240) then 0 else 2) else 1)) f0 f1 f2 f3 f4 fb ft fo := ht
  change Go E Z 3 H3 (0) (0) 13 [(0, .ref m), (1, .int x), (2, .int h)] [.int (bI ((0 ≤ x ∧ x ≤ f0 0 - 1) ∧ (0 ≤ h ∧ h ≤ 240)))]
  refine f_if_neB (tgt := 18) K dX9_depthAfter_13 (by decide) (fun c_13 => ?_) (fun c_13 => ?_)
  · obtain ⟨c_a, c_b⟩ := c_13
    obtain ⟨hx, hxn⟩ := seg_in ok.n (by have := ok.1; omega) c_a
    have hb9 := ok.1
    obtain ⟨hh, hhn⟩ := seg_in2 (n := 240) rfl (by decide) c_b
    refine f_aload_n K dX9_depthAfter_18 rfl ?_
    refine f_invV (As := []) (rest := []) K (tm_tries (E := E)  ht ) cs_X9_360 dX9_depthAfter_19 (tw_o ht) rfl rfl rfl (Nat.le_of_ble_eq_true rfl) (Nat.le_of_ble_eq_true rfl) (Nat.le_of_ble_eq_true rfl) (Nat.le_of_ble_eq_true rfl) (fun v H6 hq hz => ?_) (fun _ _ _ h9 _ _ => h9.elim)
    obtain ⟨rfl, ht, hk1⟩ := hq
    have hk := hk.tr hk1
    have ht : twAt E H6 m ad (upd sc 6 (if (0 ≤ x ∧ x ≤ f0 0 - 1) then (if (0 ≤ h ∧ h ≤ 240) then 0 else 2) else 1)) f0 f1 f2 f0 f4 fb ft fo := ht
    change Go E Z 3 H6 (0) (0) 22 [(0, .ref m), (1, .int x), (2, .int h)] []
    refine f_aload_n K dX9_depthAfter_22 rfl ?_
    refine f_iload_n K dX9_depthAfter_23 rfl ?_
    refine f_invV (As := [.int h]) (rest := []) K (tm_goBy (E := E) (h := h.toNatClampNeg) ht h hh ok (by omega)) cs_X9_152 dX9_depthAfter_24 (tw_o ht) rfl rfl rfl (Nat.le_of_ble_eq_true rfl) (Nat.le_of_ble_eq_true rfl) (Nat.le_of_ble_eq_true rfl) (Nat.le_of_ble_eq_true rfl) (fun v H8 hq hz => ?_) (fun _ _ _ h9 _ _ => h9.elim)
    obtain ⟨rfl, ht, hk1⟩ := hq
    have hk := hk.tr hk1
    have ht : twAt E H8 m ad (upd sc 6 (if (0 ≤ x ∧ x ≤ f0 0 - 1) then (if (0 ≤ h ∧ h ≤ 240) then 0 else 2) else 1)) (sp_go f0 h.toNatClampNeg) f1 f2 f0 f4 fb ft fo := ht
    change Go E Z 3 H8 (0) (0) 27 [(0, .ref m), (1, .int x), (2, .int h)] []
    refine f_aload_n K dX9_depthAfter_27 rfl ?_
    refine f_aload_n K dX9_depthAfter_28 rfl ?_
    refine f_iload_n K dX9_depthAfter_29 rfl ?_
    refine f_iconst (v := 0) K dX9_depthAfter_30 rfl ?_
    refine f_invV (As := [.int x, .int 0]) (rest := [.ref m]) K (tm_of (E := E) (k := x.toNatClampNeg) (w := 0) ht x hx 0 nl_0 (by omega)) cs_X9_66 dX9_depthAfter_31 (tw_o ht) rfl rfl rfl (Nat.le_of_ble_eq_true rfl) (Nat.le_of_ble_eq_true rfl) (Nat.le_of_ble_eq_true rfl) (Nat.le_of_ble_eq_true rfl) (fun v H10 hq hz => ?_) (fun _ _ _ h9 _ _ => h9.elim)
    obtain ⟨rfl, hq⟩ := hq
    rw [hq]
    change Go E Z 3 H8 (0) (0) 34 [(0, .ref m), (1, .int x), (2, .int h)] [.int ((sp_go f0 h.toNatClampNeg) (25 + 3 * x.toNatClampNeg)), .ref m]
    refine f_invV (As := [.int ((sp_go f0 h.toNatClampNeg) (25 + 3 * x.toNatClampNeg))]) (rest := []) K (tm_laidBack (E := E)  ht ((sp_go f0 h.toNatClampNeg) (25 + 3 * x.toNatClampNeg))) cs_X9_363 dX9_depthAfter_34 (tw_o ht) rfl rfl rfl (Nat.le_of_ble_eq_true rfl) (Nat.le_of_ble_eq_true rfl) (Nat.le_of_ble_eq_true rfl) (Nat.le_of_ble_eq_true rfl) (fun v H11 hq hz => ?_) (fun _ _ _ h9 _ _ => h9.elim)
    obtain ⟨rfl, ht, hk1⟩ := hq
    have hk := hk.tr hk1
    have ht : twAt E H11 m ad (upd sc 6 (if (0 ≤ x ∧ x ≤ f0 0 - 1) then (if (0 ≤ h ∧ h ≤ 240) then 0 else 2) else 1)) f0 f1 f2 f0 f4 fb ft fo := ht
    change Go E Z 3 H11 (0) (0) 37 [(0, .ref m), (1, .int x), (2, .int h)] [.int ((sp_go f0 h.toNatClampNeg) (25 + 3 * x.toNatClampNeg))]
    exact f_retI K X (Or.inl rfl) dX9_depthAfter_37 (Nat.le_of_ble_eq_true rfl) (Nat.le_of_ble_eq_true rfl) (⟨rI (if_pos ⟨c_a, c_b⟩).symm, _, ht, hk⟩)
  · refine f_iconst (v := 0) K dX9_depthAfter_16 rfl ?_
    exact f_retI K X (Or.inl rfl) dX9_depthAfter_17 (Nat.le_of_ble_eq_true rfl) (Nat.le_of_ble_eq_true rfl) (⟨rI (if_neg c_13).symm, _, ht, hk⟩)
/-- crossedAfter(II)I -/
theorem tm_crossedAfter {E : fE} {H : Heap} {m : Nat} {ad : Nat → Nat} {sc f0 f1 f2 f3 f4 fb ft fo : Row} (ht : twAt E H m ad sc f0 f1 f2 f3 f4 fb ft fo) (x : Int32) (h : Int32) {n t : Nat} (ok : okr n t f0) : fM E yX9_crossedAfter prog_17_method_115_code 4 (some .int) 8 0 0 [.ref m, .int x, .int h] H (fun r_ H' => r_ = some (.int (if (0 ≤ x ∧ x ≤ 1) ∧ (0 ≤ h ∧ h ≤ 240) then sp_go f0 h.toNatClampNeg (15 + x.toNatClampNeg) - f0 (15 + x.toNatClampNeg) else 0)) ∧ ∃ x_f3 : Row, twAt E H' m ad (upd sc 6 (if 0 ≤ x ∧ x ≤ 1 then (if 0 ≤ h ∧ h ≤ 240 then 0 else 2) else 1)) f0 f1 f2 x_f3 f4 fb ft fo ∧ twK m ad H H') noX := by
  refine f_start (own := "SnowPassModel") (nm := "crossedAfter") (lv := [(0, .ref m), (1, .int x), (2, .int h)]) pn_X9 rfl rfl (Nat.le_of_ble_eq_true rfl) rfl (fun Z K X => ?_)
  have hk := twK.rf (m := m) (ad := ad) (H := H)
  refine f_aload_n K dX9_crossedAfter_0 rfl ?_
  refine f_iload_n K dX9_crossedAfter_1 rfl ?_
  refine f_invS (As := [.int x]) (rest := [.ref m]) K (tm_isSide (E := E)  x) cs_X9_342 dX9_crossedAfter_2 rfl rfl (Nat.le_of_ble_eq_true rfl) (Nat.le_of_ble_eq_true rfl) (Nat.le_of_ble_eq_true rfl) (Nat.le_of_ble_eq_true rfl) (fun v H1 hq hz => ?_) (fun _ _ _ h9 _ _ => h9.elim)
  obtain ⟨rfl, hq⟩ := hq
  rw [hq]
  change Go E Z 4 H (0) (0) 5 [(0, .ref m), (1, .int x), (2, .int h)] [.int (bI (0 ≤ x ∧ x ≤ 1)), .ref m]
  refine f_iload_n K dX9_crossedAfter_5 rfl ?_
  refine f_invS (As := [.int h]) (rest := [.int (bI (0 ≤ x ∧ x ≤ 1)), .ref m]) K (tm_areHours (E := E)  h) cs_X9_353 dX9_crossedAfter_6 rfl rfl (Nat.le_of_ble_eq_true rfl) (Nat.le_of_ble_eq_true rfl) (Nat.le_of_ble_eq_true rfl) (Nat.le_of_ble_eq_true rfl) (fun v H2 hq hz => ?_) (fun _ _ _ h9 _ _ => h9.elim)
  obtain ⟨rfl, hq⟩ := hq
  rw [hq]
  change Go E Z 4 H (0) (0) 9 [(0, .ref m), (1, .int x), (2, .int h)] [.int (bI (0 ≤ h ∧ h ≤ 240)), .int (bI (0 ≤ x ∧ x ≤ 1)), .ref m]
  refine f_invV (As := [.int (bI (0 ≤ x ∧ x ≤ 1)), .int (bI (0 ≤ h ∧ h ≤ 240))]) (rest := []) K (tm_passesBoth (E := E)  ht (0 ≤ x ∧ x ≤ 1) (0 ≤ h ∧ h ≤ 240)) cs_X9_356 dX9_crossedAfter_9 (tw_o ht) rfl rfl rfl (Nat.le_of_ble_eq_true rfl) (Nat.le_of_ble_eq_true rfl) (Nat.le_of_ble_eq_true rfl) (Nat.le_of_ble_eq_true rfl) (fun v H3 hq hz => ?_) (fun _ _ _ h9 _ _ => h9.elim)
  obtain ⟨rfl, ht, hk1⟩ := hq
  have hk := hk.tr hk1
  have ht : twAt E H3 m ad (upd sc 6 (if (0 ≤ x ∧ x ≤ 1) then (if (0 ≤ h ∧ h ≤ 240) then 0 else 2) else 1)) f0 f1 f2 f3 f4 fb ft fo := ht
  change Go E Z 4 H3 (0) (0) 12 [(0, .ref m), (1, .int x), (2, .int h)] [.int (bI ((0 ≤ x ∧ x ≤ 1) ∧ (0 ≤ h ∧ h ≤ 240)))]
  refine f_if_neB (tgt := 17) K dX9_crossedAfter_12 (by decide) (fun c_12 => ?_) (fun c_12 => ?_)
  · obtain ⟨c_a, c_b⟩ := c_12
    obtain ⟨hx, hxn⟩ := seg_in2 (n := 1) rfl (by decide) c_a
    obtain ⟨hh, hhn⟩ := seg_in2 (n := 240) rfl (by decide) c_b
    refine f_aload_n K dX9_crossedAfter_17 rfl ?_
    refine f_get (v := .ref (ad 0)) K fl_X9_7_X9 dX9_crossedAfter_18 (tw_o ht) rfl ?_
    refine f_bipush (v := 15) K dX9_crossedAfter_21 rfl ?_
    refine f_iload_n K dX9_crossedAfter_23 rfl ?_
    refine f_iadd K dX9_crossedAfter_24 ?_
    refine f_iald (j := (15 + x.toNatClampNeg)) K dX9_crossedAfter_25 (tw_a0 ht) (nia nl_15 hx) (by omega) (by decide) ?_
    refine f_istore_n (lv' := [(3, .int (f0 (15 + x.toNatClampNeg))), (0, .ref m), (1, .int x), (2, .int h)]) K dX9_crossedAfter_26 (by decide) rfl ?_
    refine f_aload_n K dX9_crossedAfter_27 rfl ?_
    refine f_invV (As := []) (rest := []) K (tm_tries (E := E)  ht ) cs_X9_360 dX9_crossedAfter_28 (tw_o ht) rfl rfl rfl (Nat.le_of_ble_eq_true rfl) (Nat.le_of_ble_eq_true rfl) (Nat.le_of_ble_eq_true rfl) (Nat.le_of_ble_eq_true rfl) (fun v H6 hq hz => ?_) (fun _ _ _ h9 _ _ => h9.elim)
    obtain ⟨rfl, ht, hk1⟩ := hq
    have hk := hk.tr hk1
    have ht : twAt E H6 m ad (upd sc 6 (if (0 ≤ x ∧ x ≤ 1) then (if (0 ≤ h ∧ h ≤ 240) then 0 else 2) else 1)) f0 f1 f2 f0 f4 fb ft fo := ht
    change Go E Z 4 H6 (0) (0) 31 [(3, .int (f0 (15 + x.toNatClampNeg))), (0, .ref m), (1, .int x), (2, .int h)] []
    refine f_aload_n K dX9_crossedAfter_31 rfl ?_
    refine f_iload_n K dX9_crossedAfter_32 rfl ?_
    refine f_invV (As := [.int h]) (rest := []) K (tm_goBy (E := E) (h := h.toNatClampNeg) ht h hh ok (by omega)) cs_X9_152 dX9_crossedAfter_33 (tw_o ht) rfl rfl rfl (Nat.le_of_ble_eq_true rfl) (Nat.le_of_ble_eq_true rfl) (Nat.le_of_ble_eq_true rfl) (Nat.le_of_ble_eq_true rfl) (fun v H8 hq hz => ?_) (fun _ _ _ h9 _ _ => h9.elim)
    obtain ⟨rfl, ht, hk1⟩ := hq
    have hk := hk.tr hk1
    have ht : twAt E H8 m ad (upd sc 6 (if (0 ≤ x ∧ x ≤ 1) then (if (0 ≤ h ∧ h ≤ 240) then 0 else 2) else 1)) (sp_go f0 h.toNatClampNeg) f1 f2 f0 f4 fb ft fo := ht
    change Go E Z 4 H8 (0) (0) 36 [(3, .int (f0 (15 + x.toNatClampNeg))), (0, .ref m), (1, .int x), (2, .int h)] []
    refine f_aload_n K dX9_crossedAfter_36 rfl ?_
    refine f_aload_n K dX9_crossedAfter_37 rfl ?_
    refine f_get (v := .ref (ad 0)) K fl_X9_7_X9 dX9_crossedAfter_38 (tw_o ht) rfl ?_
    refine f_bipush (v := 15) K dX9_crossedAfter_41 rfl ?_
    refine f_iload_n K dX9_crossedAfter_43 rfl ?_
    refine f_iadd K dX9_crossedAfter_44 ?_
    refine f_iald (j := (15 + x.toNatClampNeg)) K dX9_crossedAfter_45 (tw_a0 ht) (nia nl_15 hx) (by omega) (by decide) ?_
    refine f_invV (As := [.int ((sp_go f0 h.toNatClampNeg) (15 + x.toNatClampNeg))]) (rest := []) K (tm_laidBack (E := E)  ht ((sp_go f0 h.toNatClampNeg) (15 + x.toNatClampNeg))) cs_X9_363 dX9_crossedAfter_46 (tw_o ht) rfl rfl rfl (Nat.le_of_ble_eq_true rfl) (Nat.le_of_ble_eq_true rfl) (Nat.le_of_ble_eq_true rfl) (Nat.le_of_ble_eq_true rfl) (fun v H10 hq hz => ?_) (fun _ _ _ h9 _ _ => h9.elim)
    obtain ⟨rfl, ht, hk1⟩ := hq
    have hk := hk.tr hk1
    have ht : twAt E H10 m ad (upd sc 6 (if (0 ≤ x ∧ x ≤ 1) then (if (0 ≤ h ∧ h ≤ 240) then 0 else 2) else 1)) f0 f1 f2 f0 f4 fb ft fo := ht
    change Go E Z 4 H10 (0) (0) 49 [(3, .int (f0 (15 + x.toNatClampNeg))), (0, .ref m), (1, .int x), (2, .int h)] [.int ((sp_go f0 h.toNatClampNeg) (15 + x.toNatClampNeg))]
    refine f_iload_n K dX9_crossedAfter_49 rfl ?_
    refine f_isub K dX9_crossedAfter_50 ?_
    exact f_retI K X (Or.inl rfl) dX9_crossedAfter_51 (Nat.le_of_ble_eq_true rfl) (Nat.le_of_ble_eq_true rfl) (⟨rI (if_pos ⟨c_a, c_b⟩).symm, _, ht, hk⟩)
  · refine f_iconst (v := 0) K dX9_crossedAfter_15 rfl ?_
    exact f_retI K X (Or.inl rfl) dX9_crossedAfter_16 (Nat.le_of_ble_eq_true rfl) (Nat.le_of_ble_eq_true rfl) (⟨rI (if_neg c_12).symm, _, ht, hk⟩)
/-- hoursUntil(Z)I -/
theorem tm_hoursUntil {E : fE} {H : Heap} {m : Nat} {ad : Nat → Nat} {sc f0 f1 f2 f3 f4 fb ft fo : Row} (ht : twAt E H m ad sc f0 f1 f2 f3 f4 fb ft fo) (P : Prop) [Decidable P] {n t : Nat} (ok : okr n t f0) : fM E yX9_hoursUntil prog_17_method_111_code 3 (some .int) 7 0 0 [.ref m, .int (bI P)] H (fun r_ H' => r_ = some (.int (sp_until f0 (bI P) 241 0)) ∧ ∃ x_f3 : Row, twAt E H' m ad sc f0 f1 f2 x_f3 f4 fb ft fo ∧ twK m ad H H') noX := by
  refine f_start (own := "SnowPassModel") (nm := "hoursUntil") (lv := [(0, .ref m), (1, .int (bI P))]) pn_X9 rfl rfl (Nat.le_of_ble_eq_true rfl) rfl (fun Z K X => ?_)
  have hk := twK.rf (m := m) (ad := ad) (H := H)
  refine f_aload_n K dX9_hoursUntil_0 rfl ?_
  refine f_invV (As := []) (rest := []) K (tm_tries (E := E)  ht ) cs_X9_360 dX9_hoursUntil_1 (tw_o ht) rfl rfl rfl (Nat.le_of_ble_eq_true rfl) (Nat.le_of_ble_eq_true rfl) (Nat.le_of_ble_eq_true rfl) (Nat.le_of_ble_eq_true rfl) (fun v H1 hq hz => ?_) (fun _ _ _ h9 _ _ => h9.elim)
  obtain ⟨rfl, ht, hk1⟩ := hq
  have hk := hk.tr hk1
  have ht : twAt E H1 m ad sc f0 f1 f2 f0 f4 fb ft fo := ht
  change Go E Z 3 H1 (0) (0) 4 [(0, .ref m), (1, .int (bI P))] []
  refine f_iconst (v := 0) K dX9_hoursUntil_4 rfl ?_
  refine f_istore_n (lv' := [(2, .int 0), (0, .ref m), (1, .int (bI P))]) K dX9_hoursUntil_5 (by decide) rfl ?_
  have loop : ∀ (d i : Nat) (x_i : Int32) (G : Heap), x_i = nI i → i + d = 241 → twAt E G m ad sc (sp_go f0 i) f1 f2 f0 f4 fb ft fo → twK m ad H G → sp_until f0 (bI P) 241 0 = sp_until f0 (bI P) d i → Go E Z 3 G (0) (0) 6 [(2, .int x_i), (0, .ref m), (1, .int (bI P))] [] := by
    intro d
    induction d with
    | zero =>
      intro i x_i G h_i hd ht hk hu
      have hiu : i = 241 := by omega
      rw [hiu] at ht
      refine f_iload_n K dX9_hoursUntil_6 rfl ?_
      refine f_sipush (v := 240) K dX9_hoursUntil_7 rfl ?_
      refine f_icmp_gt (tgt := 37) K dX9_hoursUntil_10 (by decide) (fun c_10 => ?_) (fun c_10 => ?_)
      · refine f_aload_n K dX9_hoursUntil_37 rfl ?_
        refine f_iconst (v := (-1)) K dX9_hoursUntil_38 rfl ?_
        refine f_invV (As := [.int (-1)]) (rest := []) K (tm_laidBack (E := E)  ht (-1)) cs_X9_363 dX9_hoursUntil_39 (tw_o ht) rfl rfl rfl (Nat.le_of_ble_eq_true rfl) (Nat.le_of_ble_eq_true rfl) (Nat.le_of_ble_eq_true rfl) (Nat.le_of_ble_eq_true rfl) (fun v H4 hq hz => ?_) (fun _ _ _ h9 _ _ => h9.elim)
        obtain ⟨rfl, ht, hk1⟩ := hq
        have hk := hk.tr hk1
        have ht : twAt E H4 m ad sc f0 f1 f2 f0 f4 fb ft fo := ht
        change Go E Z 3 H4 (0) (0) 42 [(2, .int x_i), (0, .ref m), (1, .int (bI P))] [.int (-1)]
        exact f_retI K X (Or.inl rfl) dX9_hoursUntil_42 (Nat.le_of_ble_eq_true rfl) (Nat.le_of_ble_eq_true rfl) (⟨rI (by rw [hu]; rfl), _, ht, hk⟩)
      · exact absurd (by rw [h_i]; exact nI_lt (a := 240) (b := i) (by omega) (by omega)) c_10
    | succ d ih =>
      intro i x_i G h_i hd ht hk hu
      refine f_iload_n K dX9_hoursUntil_6 rfl ?_
      refine f_sipush (v := 240) K dX9_hoursUntil_7 rfl ?_
      refine f_icmp_gt (tgt := 37) K dX9_hoursUntil_10 (by decide) (fun c_10 => ?_) (fun c_10 => ?_)
      · exact absurd c_10 (by rw [h_i]; exact nI_nlt (a := 240) (b := i) (by omega) (by decide))
      · refine f_aload_n K dX9_hoursUntil_13 rfl ?_
        refine f_invV (As := []) (rest := []) K (tm_isOpenNow (E := E)  ht ) cs_X9_95 dX9_hoursUntil_14 (tw_o ht) rfl rfl rfl (Nat.le_of_ble_eq_true rfl) (Nat.le_of_ble_eq_true rfl) (Nat.le_of_ble_eq_true rfl) (Nat.le_of_ble_eq_true rfl) (fun v H7 hq hz => ?_) (fun _ _ _ h9 _ _ => h9.elim)
        obtain ⟨rfl, hq⟩ := hq
        rw [hq]
        change Go E Z 3 G (0) (0) 17 [(2, .int x_i), (0, .ref m), (1, .int (bI P))] [.int (bI (sp_open (sp_go f0 i)))]
        refine f_iload_n K dX9_hoursUntil_17 rfl ?_
        refine f_icmp_ne (tgt := 27) K dX9_hoursUntil_18 (by decide) (fun c_18 => ?_) (fun c_18 => ?_)
        · refine f_aload_n K dX9_hoursUntil_27 rfl ?_
          refine f_invV (As := []) (rest := []) K (tm_hourOnce (E := E)  ht (okr_go ok i)) cs_X9_146 dX9_hoursUntil_28 (tw_o ht) rfl rfl rfl (Nat.le_of_ble_eq_true rfl) (Nat.le_of_ble_eq_true rfl) (Nat.le_of_ble_eq_true rfl) (Nat.le_of_ble_eq_true rfl) (fun v H9 hq hz => ?_) (fun _ _ _ h9 _ _ => h9.elim)
          obtain ⟨rfl, ht, hk1⟩ := hq
          have hk := hk.tr hk1
          have ht : twAt E H9 m ad sc (sp_hour (sp_go f0 i)) f1 f2 f0 f4 fb ft fo := ht
          change Go E Z 3 H9 (0) (0) 31 [(2, .int x_i), (0, .ref m), (1, .int (bI P))] []
          refine f_iinc (v := x_i + 1) (lv' := [(2, .int (x_i + 1)), (0, .ref m), (1, .int (bI P))]) K dX9_hoursUntil_31 rfl rfl (by decide) rfl ?_
          refine f_goto (tgt := 6) K dX9_hoursUntil_34 (by decide) ?_
          exact ih ((i + 1)) _ _ (nia h_i nl_1) (by omega) ht hk (hu.trans (if_neg c_18))
        · refine f_aload_n K dX9_hoursUntil_21 rfl ?_
          refine f_iload_n K dX9_hoursUntil_22 rfl ?_
          refine f_invV (As := [.int x_i]) (rest := []) K (tm_laidBack (E := E)  ht x_i) cs_X9_363 dX9_hoursUntil_23 (tw_o ht) rfl rfl rfl (Nat.le_of_ble_eq_true rfl) (Nat.le_of_ble_eq_true rfl) (Nat.le_of_ble_eq_true rfl) (Nat.le_of_ble_eq_true rfl) (fun v H11 hq hz => ?_) (fun _ _ _ h9 _ _ => h9.elim)
          obtain ⟨rfl, ht, hk1⟩ := hq
          have hk := hk.tr hk1
          have ht : twAt E H11 m ad sc f0 f1 f2 f0 f4 fb ft fo := ht
          change Go E Z 3 H11 (0) (0) 26 [(2, .int x_i), (0, .ref m), (1, .int (bI P))] [.int x_i]
          exact f_retI K X (Or.inl rfl) dX9_hoursUntil_26 (Nat.le_of_ble_eq_true rfl) (Nat.le_of_ble_eq_true rfl) (⟨rI (by rw [hu, show sp_until f0 (bI P) (d + 1) i = nI i from if_pos c_18]; exact h_i), _, ht, hk⟩)
  exact loop (241) 0 _ _ nl_0 (by omega) ht hk rfl
/-- hoursUntilOpen()I -/
theorem tm_hoursUntilOpen {E : fE} {H : Heap} {m : Nat} {ad : Nat → Nat} {sc f0 f1 f2 f3 f4 fb ft fo : Row} (ht : twAt E H m ad sc f0 f1 f2 f3 f4 fb ft fo)  {n t : Nat} (ok : okr n t f0) : fM E yX9_hoursUntilOpen prog_17_method_112_code 1 (some .int) 8 0 0 [.ref m] H (fun r_ H' => r_ = some (.int (sp_until f0 1 241 0)) ∧ ∃ x_f3 : Row, twAt E H' m ad (upd sc 6 0) f0 f1 f2 x_f3 f4 fb ft fo ∧ twK m ad H H') noX := by
  refine f_start (own := "SnowPassModel") (nm := "hoursUntilOpen") (lv := [(0, .ref m)]) pn_X9 rfl rfl (Nat.le_of_ble_eq_true rfl) rfl (fun Z K X => ?_)
  have hk := twK.rf (m := m) (ad := ad) (H := H)
  refine f_aload_n K dX9_hoursUntilOpen_0 rfl ?_
  refine f_iconst (v := 0) K dX9_hoursUntilOpen_1 rfl ?_
  refine f_put K fp_X9_55_X9 dX9_hoursUntilOpen_2 (tw_o ht) (tw_lo ht) (Nat.le_of_ble_eq_true rfl) rfl rfl (fun H1 hU ho => ?_)
  have ht := tw_put (sc' := (upd sc 6 0)) ht hU ho rfl
  have hk := hk.put hU
  refine f_aload_n K dX9_hoursUntilOpen_5 rfl ?_
  refine f_iconst (v := 1) K dX9_hoursUntilOpen_6 rfl ?_
  refine f_invV (As := [.int 1]) (rest := []) K (tm_hoursUntil (E := E)  ht True ok) cs_X9_366 dX9_hoursUntilOpen_7 (tw_o ht) rfl rfl rfl (Nat.le_of_ble_eq_true rfl) (Nat.le_of_ble_eq_true rfl) (Nat.le_of_ble_eq_true rfl) (Nat.le_of_ble_eq_true rfl) (fun v H2 hq hz => ?_) (fun _ _ _ h9 _ _ => h9.elim)
  obtain ⟨rfl, gf3_3, ht, hk1⟩ := hq
  have hk := hk.tr hk1
  have ht : twAt E H2 m ad (upd sc 6 0) f0 f1 f2 gf3_3 f4 fb ft fo := ht
  change Go E Z 1 H2 (0) (0) 10 [(0, .ref m)] [.int (sp_until f0 (bI True) 241 0)]
  exact f_retI K X (Or.inl rfl) dX9_hoursUntilOpen_10 (Nat.le_of_ble_eq_true rfl) (Nat.le_of_ble_eq_true rfl) (⟨rI rfl, _, ht, hk⟩)
/-- hoursUntilClosed()I -/
theorem tm_hoursUntilClosed {E : fE} {H : Heap} {m : Nat} {ad : Nat → Nat} {sc f0 f1 f2 f3 f4 fb ft fo : Row} (ht : twAt E H m ad sc f0 f1 f2 f3 f4 fb ft fo)  {n t : Nat} (ok : okr n t f0) : fM E yX9_hoursUntilClosed prog_17_method_113_code 1 (some .int) 8 0 0 [.ref m] H (fun r_ H' => r_ = some (.int (sp_until f0 0 241 0)) ∧ ∃ x_f3 : Row, twAt E H' m ad (upd sc 6 0) f0 f1 f2 x_f3 f4 fb ft fo ∧ twK m ad H H') noX := by
  refine f_start (own := "SnowPassModel") (nm := "hoursUntilClosed") (lv := [(0, .ref m)]) pn_X9 rfl rfl (Nat.le_of_ble_eq_true rfl) rfl (fun Z K X => ?_)
  have hk := twK.rf (m := m) (ad := ad) (H := H)
  refine f_aload_n K dX9_hoursUntilClosed_0 rfl ?_
  refine f_iconst (v := 0) K dX9_hoursUntilClosed_1 rfl ?_
  refine f_put K fp_X9_55_X9 dX9_hoursUntilClosed_2 (tw_o ht) (tw_lo ht) (Nat.le_of_ble_eq_true rfl) rfl rfl (fun H1 hU ho => ?_)
  have ht := tw_put (sc' := (upd sc 6 0)) ht hU ho rfl
  have hk := hk.put hU
  refine f_aload_n K dX9_hoursUntilClosed_5 rfl ?_
  refine f_iconst (v := 0) K dX9_hoursUntilClosed_6 rfl ?_
  refine f_invV (As := [.int 0]) (rest := []) K (tm_hoursUntil (E := E)  ht False ok) cs_X9_366 dX9_hoursUntilClosed_7 (tw_o ht) rfl rfl rfl (Nat.le_of_ble_eq_true rfl) (Nat.le_of_ble_eq_true rfl) (Nat.le_of_ble_eq_true rfl) (Nat.le_of_ble_eq_true rfl) (fun v H2 hq hz => ?_) (fun _ _ _ h9 _ _ => h9.elim)
  obtain ⟨rfl, gf3_3, ht, hk1⟩ := hq
  have hk := hk.tr hk1
  have ht : twAt E H2 m ad (upd sc 6 0) f0 f1 f2 gf3_3 f4 fb ft fo := ht
  change Go E Z 1 H2 (0) (0) 10 [(0, .ref m)] [.int (sp_until f0 (bI False) 241 0)]
  exact f_retI K X (Or.inl rfl) dX9_hoursUntilClosed_10 (Nat.le_of_ble_eq_true rfl) (Nat.le_of_ble_eq_true rfl) (⟨rI rfl, _, ht, hk⟩)
/-- hoursUntilCrossed(I)I -/
theorem tm_hoursUntilCrossed {E : fE} {H : Heap} {m : Nat} {ad : Nat → Nat} {sc f0 f1 f2 f3 f4 fb ft fo : Row} (ht : twAt E H m ad sc f0 f1 f2 f3 f4 fb ft fo) (x : Int32) {n t : Nat} (ok : okr n t f0) : fM E yX9_hoursUntilCrossed prog_17_method_114_code 3 (some .int) 7 0 0 [.ref m, .int x] H (fun r_ H' => r_ = some (.int (if sp_waits f0 x then sp_untilC f0 x 240 1 else 0)) ∧ ∃ x_f3 : Row, twAt E H' m ad (upd sc 6 (if sp_waits f0 x then 0 else 1)) f0 f1 f2 x_f3 f4 fb ft fo ∧ twK m ad H H') noX := by
  refine f_start (own := "SnowPassModel") (nm := "hoursUntilCrossed") (lv := [(0, .ref m), (1, .int x)]) pn_X9 rfl rfl (Nat.le_of_ble_eq_true rfl) rfl (fun Z K X => ?_)
  have hk := twK.rf (m := m) (ad := ad) (H := H)
  refine f_aload_n K dX9_hoursUntilCrossed_0 rfl ?_
  refine f_aload_n K dX9_hoursUntilCrossed_1 rfl ?_
  refine f_iload_n K dX9_hoursUntilCrossed_2 rfl ?_
  refine f_invV (As := [.int x]) (rest := [.ref m]) K (tm_waits (E := E)  ht x ok) cs_X9_348 dX9_hoursUntilCrossed_3 (tw_o ht) rfl rfl rfl (Nat.le_of_ble_eq_true rfl) (Nat.le_of_ble_eq_true rfl) (Nat.le_of_ble_eq_true rfl) (Nat.le_of_ble_eq_true rfl) (fun v H1 hq hz => ?_) (fun _ _ _ h9 _ _ => h9.elim)
  obtain ⟨rfl, hq⟩ := hq
  rw [hq]
  change Go E Z 3 H (0) (0) 6 [(0, .ref m), (1, .int x)] [.int (bI (sp_waits f0 x)), .ref m]
  refine f_invV (As := [.int (bI (sp_waits f0 x))]) (rest := []) K (tm_passes (E := E)  ht (sp_waits f0 x)) cs_X9_164 dX9_hoursUntilCrossed_6 (tw_o ht) rfl rfl rfl (Nat.le_of_ble_eq_true rfl) (Nat.le_of_ble_eq_true rfl) (Nat.le_of_ble_eq_true rfl) (Nat.le_of_ble_eq_true rfl) (fun v H2 hq hz => ?_) (fun _ _ _ h9 _ _ => h9.elim)
  obtain ⟨rfl, ht, hk1⟩ := hq
  have hk := hk.tr hk1
  have ht : twAt E H2 m ad (upd sc 6 (if (sp_waits f0 x) then 0 else 1)) f0 f1 f2 f3 f4 fb ft fo := ht
  change Go E Z 3 H2 (0) (0) 9 [(0, .ref m), (1, .int x)] [.int (bI (sp_waits f0 x))]
  refine f_if_neB (tgt := 14) K dX9_hoursUntilCrossed_9 (by decide) (fun c_9 => ?_) (fun c_9 => ?_)
  · refine f_aload_n K dX9_hoursUntilCrossed_14 rfl ?_
    refine f_invV (As := []) (rest := []) K (tm_tries (E := E)  ht ) cs_X9_360 dX9_hoursUntilCrossed_15 (tw_o ht) rfl rfl rfl (Nat.le_of_ble_eq_true rfl) (Nat.le_of_ble_eq_true rfl) (Nat.le_of_ble_eq_true rfl) (Nat.le_of_ble_eq_true rfl) (fun v H5 hq hz => ?_) (fun _ _ _ h9 _ _ => h9.elim)
    obtain ⟨rfl, ht, hk1⟩ := hq
    have hk := hk.tr hk1
    have ht : twAt E H5 m ad (upd sc 6 (if (sp_waits f0 x) then 0 else 1)) f0 f1 f2 f0 f4 fb ft fo := ht
    change Go E Z 3 H5 (0) (0) 18 [(0, .ref m), (1, .int x)] []
    refine f_iconst (v := 1) K dX9_hoursUntilCrossed_18 rfl ?_
    refine f_istore_n (lv' := [(2, .int 1), (0, .ref m), (1, .int x)]) K dX9_hoursUntilCrossed_19 (by decide) rfl ?_
    have loop : ∀ (d i : Nat) (x_i : Int32) (G : Heap), x_i = nI i → i + d = 241 → twAt E G m ad (upd sc 6 (if (sp_waits f0 x) then 0 else 1)) (sp_go f0 (i - 1)) f1 f2 f0 f4 fb ft fo → twK m ad H G → 1 ≤ i ∧ sp_untilC f0 x 240 1 = sp_untilC f0 x d i → Go E Z 3 G (0) (0) 20 [(2, .int x_i), (0, .ref m), (1, .int x)] [] := by
      intro d
      induction d with
      | zero =>
        intro i x_i G h_i hd ht hk ⟨hi1, hu⟩
        have hiu : i = 241 := by omega
        rw [hiu] at ht
        refine f_iload_n K dX9_hoursUntilCrossed_20 rfl ?_
        refine f_sipush (v := 240) K dX9_hoursUntilCrossed_21 rfl ?_
        refine f_icmp_gt (tgt := 51) K dX9_hoursUntilCrossed_24 (by decide) (fun c_24 => ?_) (fun c_24 => ?_)
        · refine f_aload_n K dX9_hoursUntilCrossed_51 rfl ?_
          refine f_iconst (v := (-1)) K dX9_hoursUntilCrossed_52 rfl ?_
          refine f_invV (As := [.int (-1)]) (rest := []) K (tm_laidBack (E := E)  ht (-1)) cs_X9_363 dX9_hoursUntilCrossed_53 (tw_o ht) rfl rfl rfl (Nat.le_of_ble_eq_true rfl) (Nat.le_of_ble_eq_true rfl) (Nat.le_of_ble_eq_true rfl) (Nat.le_of_ble_eq_true rfl) (fun v H8 hq hz => ?_) (fun _ _ _ h9 _ _ => h9.elim)
          obtain ⟨rfl, ht, hk1⟩ := hq
          have hk := hk.tr hk1
          have ht : twAt E H8 m ad (upd sc 6 (if (sp_waits f0 x) then 0 else 1)) f0 f1 f2 f0 f4 fb ft fo := ht
          change Go E Z 3 H8 (0) (0) 56 [(2, .int x_i), (0, .ref m), (1, .int x)] [.int (-1)]
          exact f_retI K X (Or.inl rfl) dX9_hoursUntilCrossed_56 (Nat.le_of_ble_eq_true rfl) (Nat.le_of_ble_eq_true rfl) (⟨rI (by rw [if_pos c_9, hu]; rfl), _, ht, hk⟩)
        · exact absurd (by rw [h_i]; exact nI_lt (a := 240) (b := i) (by omega) (by omega)) c_24
      | succ d ih =>
        intro i x_i G h_i hd ht hk ⟨hi1, hu⟩
        refine f_iload_n K dX9_hoursUntilCrossed_20 rfl ?_
        refine f_sipush (v := 240) K dX9_hoursUntilCrossed_21 rfl ?_
        refine f_icmp_gt (tgt := 51) K dX9_hoursUntilCrossed_24 (by decide) (fun c_24 => ?_) (fun c_24 => ?_)
        · exact absurd c_24 (by rw [h_i]; exact nI_nlt (a := 240) (b := i) (by omega) (by decide))
        · refine f_aload_n K dX9_hoursUntilCrossed_27 rfl ?_
          refine f_invV (As := []) (rest := []) K (tm_hourOnce (E := E)  ht (okr_go ok (i - 1))) cs_X9_146 dX9_hoursUntilCrossed_28 (tw_o ht) rfl rfl rfl (Nat.le_of_ble_eq_true rfl) (Nat.le_of_ble_eq_true rfl) (Nat.le_of_ble_eq_true rfl) (Nat.le_of_ble_eq_true rfl) (fun v H11 hq hz => ?_) (fun _ _ _ h9 _ _ => h9.elim)
          obtain ⟨rfl, ht, hk1⟩ := hq
          have hk := hk.tr hk1
          have ht : twAt E H11 m ad (upd sc 6 (if (sp_waits f0 x) then 0 else 1)) (sp_hour (sp_go f0 (i - 1))) f1 f2 f0 f4 fb ft fo := ht
          change Go E Z 3 H11 (0) (0) 31 [(2, .int x_i), (0, .ref m), (1, .int x)] []
          rw [go_s hi1] at ht
          refine f_aload_n K dX9_hoursUntilCrossed_31 rfl ?_
          refine f_iload_n K dX9_hoursUntilCrossed_32 rfl ?_
          refine f_invV (As := [.int x]) (rest := []) K (tm_waits (E := E)  ht x (okr_go ok i)) cs_X9_348 dX9_hoursUntilCrossed_33 (tw_o ht) rfl rfl rfl (Nat.le_of_ble_eq_true rfl) (Nat.le_of_ble_eq_true rfl) (Nat.le_of_ble_eq_true rfl) (Nat.le_of_ble_eq_true rfl) (fun v H13 hq hz => ?_) (fun _ _ _ h9 _ _ => h9.elim)
          obtain ⟨rfl, hq⟩ := hq
          rw [hq]
          change Go E Z 3 H11 (0) (0) 36 [(2, .int x_i), (0, .ref m), (1, .int x)] [.int (bI (sp_waits (sp_go f0 i) x))]
          refine f_if_neB (tgt := 45) K dX9_hoursUntilCrossed_36 (by decide) (fun c_36 => ?_) (fun c_36 => ?_)
          · refine f_iinc (v := x_i + 1) (lv' := [(2, .int (x_i + 1)), (0, .ref m), (1, .int x)]) K dX9_hoursUntilCrossed_45 rfl rfl (by decide) rfl ?_
            refine f_goto (tgt := 20) K dX9_hoursUntilCrossed_48 (by decide) ?_
            exact ih ((i + 1)) _ _ (nia h_i nl_1) (by omega) ht hk ⟨by omega, hu.trans (if_pos c_36)⟩
          · refine f_aload_n K dX9_hoursUntilCrossed_39 rfl ?_
            refine f_iload_n K dX9_hoursUntilCrossed_40 rfl ?_
            refine f_invV (As := [.int x_i]) (rest := []) K (tm_laidBack (E := E)  ht x_i) cs_X9_363 dX9_hoursUntilCrossed_41 (tw_o ht) rfl rfl rfl (Nat.le_of_ble_eq_true rfl) (Nat.le_of_ble_eq_true rfl) (Nat.le_of_ble_eq_true rfl) (Nat.le_of_ble_eq_true rfl) (fun v H15 hq hz => ?_) (fun _ _ _ h9 _ _ => h9.elim)
            obtain ⟨rfl, ht, hk1⟩ := hq
            have hk := hk.tr hk1
            have ht : twAt E H15 m ad (upd sc 6 (if (sp_waits f0 x) then 0 else 1)) f0 f1 f2 f0 f4 fb ft fo := ht
            change Go E Z 3 H15 (0) (0) 44 [(2, .int x_i), (0, .ref m), (1, .int x)] [.int x_i]
            exact f_retI K X (Or.inl rfl) dX9_hoursUntilCrossed_44 (Nat.le_of_ble_eq_true rfl) (Nat.le_of_ble_eq_true rfl) (⟨rI (by rw [if_pos c_9, hu, show sp_untilC f0 x (d + 1) i = nI i from if_neg c_36]; exact h_i), _, ht, hk⟩)
    exact loop (240) 1 _ _ nl_1 (by omega) ht hk ⟨by omega, rfl⟩
  · refine f_iconst (v := 0) K dX9_hoursUntilCrossed_12 rfl ?_
    exact f_retI K X (Or.inl rfl) dX9_hoursUntilCrossed_13 (Nat.le_of_ble_eq_true rfl) (Nat.le_of_ble_eq_true rfl) (⟨rI (if_neg c_9).symm, _, ht, hk⟩)
/-- leastCapacity(II)I -/
theorem tm_leastCapacity {E : fE} {H : Heap} {m : Nat} {ad : Nat → Nat} {sc f0 f1 f2 f3 f4 fb ft fo : Row} (ht : twAt E H m ad sc f0 f1 f2 f3 f4 fb ft fo) (x : Int32) (h : Int32) {n t : Nat} (ok : okr n t f0) : fM E yX9_leastCapacity prog_17_method_116_code 4 (some .int) 8 0 0 [.ref m, .int x, .int h] H (fun r_ H' => r_ = some (.int (if (0 ≤ x ∧ x ≤ 1) ∧ (0 ≤ h ∧ h ≤ 240) then sp_least f0 x.toNatClampNeg h.toNatClampNeg 200 1 else 0)) ∧ ∃ x_f3 : Row, twAt E H' m ad (upd sc 6 (if 0 ≤ x ∧ x ≤ 1 then (if 0 ≤ h ∧ h ≤ 240 then 0 else 2) else 1)) f0 f1 f2 x_f3 f4 fb ft fo ∧ twK m ad H H') noX := by
  refine f_start (own := "SnowPassModel") (nm := "leastCapacity") (lv := [(0, .ref m), (1, .int x), (2, .int h)]) pn_X9 rfl rfl (Nat.le_of_ble_eq_true rfl) rfl (fun Z K X => ?_)
  have hk := twK.rf (m := m) (ad := ad) (H := H)
  refine f_aload_n K dX9_leastCapacity_0 rfl ?_
  refine f_iload_n K dX9_leastCapacity_1 rfl ?_
  refine f_invS (As := [.int x]) (rest := [.ref m]) K (tm_isSide (E := E)  x) cs_X9_342 dX9_leastCapacity_2 rfl rfl (Nat.le_of_ble_eq_true rfl) (Nat.le_of_ble_eq_true rfl) (Nat.le_of_ble_eq_true rfl) (Nat.le_of_ble_eq_true rfl) (fun v H1 hq hz => ?_) (fun _ _ _ h9 _ _ => h9.elim)
  obtain ⟨rfl, hq⟩ := hq
  rw [hq]
  change Go E Z 4 H (0) (0) 5 [(0, .ref m), (1, .int x), (2, .int h)] [.int (bI (0 ≤ x ∧ x ≤ 1)), .ref m]
  refine f_iload_n K dX9_leastCapacity_5 rfl ?_
  refine f_invS (As := [.int h]) (rest := [.int (bI (0 ≤ x ∧ x ≤ 1)), .ref m]) K (tm_areHours (E := E)  h) cs_X9_353 dX9_leastCapacity_6 rfl rfl (Nat.le_of_ble_eq_true rfl) (Nat.le_of_ble_eq_true rfl) (Nat.le_of_ble_eq_true rfl) (Nat.le_of_ble_eq_true rfl) (fun v H2 hq hz => ?_) (fun _ _ _ h9 _ _ => h9.elim)
  obtain ⟨rfl, hq⟩ := hq
  rw [hq]
  change Go E Z 4 H (0) (0) 9 [(0, .ref m), (1, .int x), (2, .int h)] [.int (bI (0 ≤ h ∧ h ≤ 240)), .int (bI (0 ≤ x ∧ x ≤ 1)), .ref m]
  refine f_invV (As := [.int (bI (0 ≤ x ∧ x ≤ 1)), .int (bI (0 ≤ h ∧ h ≤ 240))]) (rest := []) K (tm_passesBoth (E := E)  ht (0 ≤ x ∧ x ≤ 1) (0 ≤ h ∧ h ≤ 240)) cs_X9_356 dX9_leastCapacity_9 (tw_o ht) rfl rfl rfl (Nat.le_of_ble_eq_true rfl) (Nat.le_of_ble_eq_true rfl) (Nat.le_of_ble_eq_true rfl) (Nat.le_of_ble_eq_true rfl) (fun v H3 hq hz => ?_) (fun _ _ _ h9 _ _ => h9.elim)
  obtain ⟨rfl, ht, hk1⟩ := hq
  have hk := hk.tr hk1
  have ht : twAt E H3 m ad (upd sc 6 (if (0 ≤ x ∧ x ≤ 1) then (if (0 ≤ h ∧ h ≤ 240) then 0 else 2) else 1)) f0 f1 f2 f3 f4 fb ft fo := ht
  change Go E Z 4 H3 (0) (0) 12 [(0, .ref m), (1, .int x), (2, .int h)] [.int (bI ((0 ≤ x ∧ x ≤ 1) ∧ (0 ≤ h ∧ h ≤ 240)))]
  refine f_if_neB (tgt := 17) K dX9_leastCapacity_12 (by decide) (fun c_12 => ?_) (fun c_12 => ?_)
  · obtain ⟨c_a, c_b⟩ := c_12
    obtain ⟨hx, hxn⟩ := seg_in2 (n := 1) rfl (by decide) c_a
    obtain ⟨hh, hhn⟩ := seg_in2 (n := 240) rfl (by decide) c_b
    refine f_iconst (v := 1) K dX9_leastCapacity_17 rfl ?_
    refine f_istore_n (lv' := [(3, .int 1), (0, .ref m), (1, .int x), (2, .int h)]) K dX9_leastCapacity_18 (by decide) rfl ?_
    have loop : ∀ (d i : Nat) (x_i : Int32) (g3 : Row) (G : Heap), x_i = nI i → i + d = 201 → twAt E G m ad (upd sc 6 (if (0 ≤ x ∧ x ≤ 1) then (if (0 ≤ h ∧ h ≤ 240) then 0 else 2) else 1)) f0 f1 f2 g3 f4 fb ft fo → twK m ad H G → 1 ≤ i ∧ sp_least f0 x.toNatClampNeg h.toNatClampNeg 200 1 = sp_least f0 x.toNatClampNeg h.toNatClampNeg d i → Go E Z 4 G (0) (0) 19 [(3, .int x_i), (0, .ref m), (1, .int x), (2, .int h)] [] := by
      intro d
      induction d with
      | zero =>
        intro i x_i g3 G h_i hd ht hk ⟨hi1, hu⟩
        have okq := okr_cap (p := x.toNatClampNeg) (i := i) ok (by omega)
        refine f_iload_n K dX9_leastCapacity_19 rfl ?_
        refine f_sipush (v := 200) K dX9_leastCapacity_20 rfl ?_
        refine f_icmp_gt (tgt := 64) K dX9_leastCapacity_23 (by decide) (fun c_23 => ?_) (fun c_23 => ?_)
        · refine f_iconst (v := (-1)) K dX9_leastCapacity_64 rfl ?_
          exact f_retI K X (Or.inl rfl) dX9_leastCapacity_65 (Nat.le_of_ble_eq_true rfl) (Nat.le_of_ble_eq_true rfl) (⟨rI (by rw [if_pos ⟨c_a, c_b⟩, hu]; rfl), _, ht, hk⟩)
        · exact absurd (by rw [h_i]; exact nI_lt (a := 200) (b := i) (by omega) (by omega)) c_23
      | succ d ih =>
        intro i x_i g3 G h_i hd ht hk ⟨hi1, hu⟩
        have okq := okr_cap (p := x.toNatClampNeg) (i := i) ok (by omega)
        refine f_iload_n K dX9_leastCapacity_19 rfl ?_
        refine f_sipush (v := 200) K dX9_leastCapacity_20 rfl ?_
        refine f_icmp_gt (tgt := 64) K dX9_leastCapacity_23 (by decide) (fun c_23 => ?_) (fun c_23 => ?_)
        · exact absurd c_23 (by rw [h_i]; exact nI_nlt (a := 200) (b := i) (by omega) (by decide))
        · refine f_aload_n K dX9_leastCapacity_26 rfl ?_
          refine f_invV (As := []) (rest := []) K (tm_tries (E := E)  ht ) cs_X9_360 dX9_leastCapacity_27 (tw_o ht) rfl rfl rfl (Nat.le_of_ble_eq_true rfl) (Nat.le_of_ble_eq_true rfl) (Nat.le_of_ble_eq_true rfl) (Nat.le_of_ble_eq_true rfl) (fun v H8 hq hz => ?_) (fun _ _ _ h9 _ _ => h9.elim)
          obtain ⟨rfl, ht, hk1⟩ := hq
          have hk := hk.tr hk1
          have ht : twAt E H8 m ad (upd sc 6 (if (0 ≤ x ∧ x ≤ 1) then (if (0 ≤ h ∧ h ≤ 240) then 0 else 2) else 1)) f0 f1 f2 f0 f4 fb ft fo := ht
          change Go E Z 4 H8 (0) (0) 30 [(3, .int x_i), (0, .ref m), (1, .int x), (2, .int h)] []
          refine f_aload_n K dX9_leastCapacity_30 rfl ?_
          refine f_iload_n K dX9_leastCapacity_31 rfl ?_
          refine f_iconst (v := 1) K dX9_leastCapacity_32 rfl ?_
          refine f_iload_n K dX9_leastCapacity_33 rfl ?_
          refine f_invV (As := [.int x, .int 1, .int x_i]) (rest := []) K (tm_putsPlough (E := E) (p := x.toNatClampNeg) (w := 1) ht x hx 1 nl_1 x_i (by omega)) cs_X9_87 dX9_leastCapacity_34 (tw_o ht) rfl rfl rfl (Nat.le_of_ble_eq_true rfl) (Nat.le_of_ble_eq_true rfl) (Nat.le_of_ble_eq_true rfl) (Nat.le_of_ble_eq_true rfl) (fun v H10 hq hz => ?_) (fun _ _ _ h9 _ _ => h9.elim)
          obtain ⟨rfl, ht, hk1⟩ := hq
          have hk := hk.tr hk1
          have ht : twAt E H10 m ad (upd sc 6 (if (0 ≤ x ∧ x ≤ 1) then (if (0 ≤ h ∧ h ≤ 240) then 0 else 2) else 1)) (upd f0 (17 + 4 * x.toNatClampNeg + 1) x_i) f1 f2 f0 f4 fb ft fo := ht
          change Go E Z 4 H10 (0) (0) 37 [(3, .int x_i), (0, .ref m), (1, .int x), (2, .int h)] []
          rw [show upd f0 (17 + 4 * x.toNatClampNeg + 1) x_i = upd f0 (17 + 4 * x.toNatClampNeg + 1) (nI i) by rw [h_i]] at ht
          refine f_aload_n K dX9_leastCapacity_37 rfl ?_
          refine f_iload_n K dX9_leastCapacity_38 rfl ?_
          refine f_invV (As := [.int h]) (rest := []) K (tm_goBy (E := E) (h := h.toNatClampNeg) ht h hh (okq (by omega)) (by omega)) cs_X9_152 dX9_leastCapacity_39 (tw_o ht) rfl rfl rfl (Nat.le_of_ble_eq_true rfl) (Nat.le_of_ble_eq_true rfl) (Nat.le_of_ble_eq_true rfl) (Nat.le_of_ble_eq_true rfl) (fun v H12 hq hz => ?_) (fun _ _ _ h9 _ _ => h9.elim)
          obtain ⟨rfl, ht, hk1⟩ := hq
          have hk := hk.tr hk1
          have ht : twAt E H12 m ad (upd sc 6 (if (0 ≤ x ∧ x ≤ 1) then (if (0 ≤ h ∧ h ≤ 240) then 0 else 2) else 1)) (sp_go (upd f0 (17 + 4 * x.toNatClampNeg + 1) (nI i)) h.toNatClampNeg) f1 f2 f0 f4 fb ft fo := ht
          change Go E Z 4 H12 (0) (0) 42 [(3, .int x_i), (0, .ref m), (1, .int x), (2, .int h)] []
          refine f_aload_n K dX9_leastCapacity_42 rfl ?_
          refine f_aload_n K dX9_leastCapacity_43 rfl ?_
          refine f_iload_n K dX9_leastCapacity_44 rfl ?_
          refine f_iconst (v := 3) K dX9_leastCapacity_45 rfl ?_
          refine f_invV (As := [.int x, .int 3]) (rest := [.ref m]) K (tm_ofPlough (E := E) (p := x.toNatClampNeg) (w := 3) ht x hx 3 nl_3 (by omega)) cs_X9_70 dX9_leastCapacity_46 (tw_o ht) rfl rfl rfl (Nat.le_of_ble_eq_true rfl) (Nat.le_of_ble_eq_true rfl) (Nat.le_of_ble_eq_true rfl) (Nat.le_of_ble_eq_true rfl) (fun v H14 hq hz => ?_) (fun _ _ _ h9 _ _ => h9.elim)
          obtain ⟨rfl, hq⟩ := hq
          rw [hq]
          change Go E Z 4 H12 (0) (0) 49 [(3, .int x_i), (0, .ref m), (1, .int x), (2, .int h)] [.int ((sp_go (upd f0 (17 + 4 * x.toNatClampNeg + 1) (nI i)) h.toNatClampNeg) (17 + 4 * x.toNatClampNeg + 3)), .ref m]
          refine f_invV (As := [.int ((sp_go (upd f0 (17 + 4 * x.toNatClampNeg + 1) (nI i)) h.toNatClampNeg) (17 + 4 * x.toNatClampNeg + 3))]) (rest := []) K (tm_laidBack (E := E)  ht ((sp_go (upd f0 (17 + 4 * x.toNatClampNeg + 1) (nI i)) h.toNatClampNeg) (17 + 4 * x.toNatClampNeg + 3))) cs_X9_363 dX9_leastCapacity_49 (tw_o ht) rfl rfl rfl (Nat.le_of_ble_eq_true rfl) (Nat.le_of_ble_eq_true rfl) (Nat.le_of_ble_eq_true rfl) (Nat.le_of_ble_eq_true rfl) (fun v H15 hq hz => ?_) (fun _ _ _ h9 _ _ => h9.elim)
          obtain ⟨rfl, ht, hk1⟩ := hq
          have hk := hk.tr hk1
          have ht : twAt E H15 m ad (upd sc 6 (if (0 ≤ x ∧ x ≤ 1) then (if (0 ≤ h ∧ h ≤ 240) then 0 else 2) else 1)) f0 f1 f2 f0 f4 fb ft fo := ht
          change Go E Z 4 H15 (0) (0) 52 [(3, .int x_i), (0, .ref m), (1, .int x), (2, .int h)] [.int ((sp_go (upd f0 (17 + 4 * x.toNatClampNeg + 1) (nI i)) h.toNatClampNeg) (17 + 4 * x.toNatClampNeg + 3))]
          refine f_iconst (v := 1) K dX9_leastCapacity_52 rfl ?_
          refine f_icmp_ne (tgt := 58) K dX9_leastCapacity_53 (by decide) (fun c_53 => ?_) (fun c_53 => ?_)
          · refine f_iinc (v := x_i + 1) (lv' := [(3, .int (x_i + 1)), (0, .ref m), (1, .int x), (2, .int h)]) K dX9_leastCapacity_58 rfl rfl (by decide) rfl ?_
            refine f_goto (tgt := 19) K dX9_leastCapacity_61 (by decide) ?_
            exact ih ((i + 1)) _ _ _ (nia h_i nl_1) (by omega) ht hk ⟨by omega, hu.trans (if_neg c_53)⟩
          · refine f_iload_n K dX9_leastCapacity_56 rfl ?_
            exact f_retI K X (Or.inl rfl) dX9_leastCapacity_57 (Nat.le_of_ble_eq_true rfl) (Nat.le_of_ble_eq_true rfl) (⟨rI (by rw [if_pos ⟨c_a, c_b⟩, hu, show sp_least f0 x.toNatClampNeg h.toNatClampNeg (d + 1) i = nI i from if_pos c_53]; exact h_i), _, ht, hk⟩)
    exact loop (200) 1 _ _ _ nl_1 (by omega) ht hk ⟨by omega, rfl⟩
  · refine f_iconst (v := 0) K dX9_leastCapacity_15 rfl ?_
    exact f_retI K X (Or.inl rfl) dX9_leastCapacity_16 (Nat.le_of_ble_eq_true rfl) (Nat.le_of_ble_eq_true rfl) (⟨rI (if_neg c_12).symm, _, ht, hk⟩)
/-- depthsWithSalt(II)I -/
theorem tm_depthsWithSalt {E : fE} {H : Heap} {m : Nat} {ad : Nat → Nat} {sc f0 f1 f2 f3 f4 fb ft fo : Row} (ht : twAt E H m ad sc f0 f1 f2 f3 f4 fb ft fo) (x_k : Int32) {k : Nat} (h_k : x_k = nI k) (x_h : Int32) {h : Nat} (h_h : x_h = nI h) {n t : Nat} (ok : okr n t f0) (hkn : k < n) (hh : h ≤ 240) : fM E yX9_depthsWithSalt prog_17_method_117_code 3 (some .int) 8 0 0 [.ref m, .int x_k, .int x_h] H (fun r_ H' => r_ = some (.int (sp_salted f0 n k h)) ∧ ∃ x_f3 : Row, twAt E H' m ad sc f0 f1 f2 x_f3 f4 fb ft fo ∧ twK m ad H H') noX := by
  refine f_start (own := "SnowPassModel") (nm := "depthsWithSalt") (lv := [(0, .ref m), (1, .int x_k), (2, .int x_h)]) pn_X9 rfl rfl (Nat.le_of_ble_eq_true rfl) rfl (fun Z K X => ?_)
  have hb9 := ok.1
  have okq := ok.up (okc_s (d := 6) hkn (by decide))
  have okg := okr_go okq h
  have hk := twK.rf (m := m) (ad := ad) (H := H)
  refine f_aload_n K dX9_depthsWithSalt_0 rfl ?_
  refine f_invV (As := []) (rest := []) K (tm_tries (E := E)  ht ) cs_X9_360 dX9_depthsWithSalt_1 (tw_o ht) rfl rfl rfl (Nat.le_of_ble_eq_true rfl) (Nat.le_of_ble_eq_true rfl) (Nat.le_of_ble_eq_true rfl) (Nat.le_of_ble_eq_true rfl) (fun v H1 hq hz => ?_) (fun _ _ _ h9 _ _ => h9.elim)
  obtain ⟨rfl, ht, hk1⟩ := hq
  have hk := hk.tr hk1
  have ht : twAt E H1 m ad sc f0 f1 f2 f0 f4 fb ft fo := ht
  change Go E Z 3 H1 (0) (0) 4 [(0, .ref m), (1, .int x_k), (2, .int x_h)] []
  refine f_aload_n K dX9_depthsWithSalt_4 rfl ?_
  refine f_iload_n K dX9_depthsWithSalt_5 rfl ?_
  refine f_iconst (v := 2) K dX9_depthsWithSalt_6 rfl ?_
  refine f_bipush (v := 6) K dX9_depthsWithSalt_7 rfl ?_
  refine f_invV (As := [.int x_k, .int 2, .int 6]) (rest := []) K (tm_puts (E := E) (k := k) (w := 2) ht x_k h_k 2 nl_2 6 (by omega)) cs_X9_104 dX9_depthsWithSalt_9 (tw_o ht) rfl rfl rfl (Nat.le_of_ble_eq_true rfl) (Nat.le_of_ble_eq_true rfl) (Nat.le_of_ble_eq_true rfl) (Nat.le_of_ble_eq_true rfl) (fun v H3 hq hz => ?_) (fun _ _ _ h9 _ _ => h9.elim)
  obtain ⟨rfl, ht, hk1⟩ := hq
  have hk := hk.tr hk1
  have ht : twAt E H3 m ad sc (upd f0 (25 + 3 * k + 2) 6) f1 f2 f0 f4 fb ft fo := ht
  change Go E Z 3 H3 (0) (0) 12 [(0, .ref m), (1, .int x_k), (2, .int x_h)] []
  refine f_aload_n K dX9_depthsWithSalt_12 rfl ?_
  refine f_iload_n K dX9_depthsWithSalt_13 rfl ?_
  refine f_invV (As := [.int x_h]) (rest := []) K (tm_goBy (E := E) (h := h) ht x_h h_h okq (by omega)) cs_X9_152 dX9_depthsWithSalt_14 (tw_o ht) rfl rfl rfl (Nat.le_of_ble_eq_true rfl) (Nat.le_of_ble_eq_true rfl) (Nat.le_of_ble_eq_true rfl) (Nat.le_of_ble_eq_true rfl) (fun v H5 hq hz => ?_) (fun _ _ _ h9 _ _ => h9.elim)
  obtain ⟨rfl, ht, hk1⟩ := hq
  have hk := hk.tr hk1
  have ht : twAt E H5 m ad sc (sp_go (upd f0 (25 + 3 * k + 2) 6) h) f1 f2 f0 f4 fb ft fo := ht
  change Go E Z 3 H5 (0) (0) 17 [(0, .ref m), (1, .int x_k), (2, .int x_h)] []
  refine f_aload_n K dX9_depthsWithSalt_17 rfl ?_
  refine f_aload_n K dX9_depthsWithSalt_18 rfl ?_
  refine f_invV (As := []) (rest := [.ref m]) K (tm_depths (E := E)  ht okg.n (by omega)) cs_X9_266 dX9_depthsWithSalt_19 (tw_o ht) rfl rfl rfl (Nat.le_of_ble_eq_true rfl) (Nat.le_of_ble_eq_true rfl) (Nat.le_of_ble_eq_true rfl) (Nat.le_of_ble_eq_true rfl) (fun v H7 hq hz => ?_) (fun _ _ _ h9 _ _ => h9.elim)
  obtain ⟨rfl, hq⟩ := hq
  rw [hq]
  change Go E Z 3 H5 (0) (0) 22 [(0, .ref m), (1, .int x_k), (2, .int x_h)] [.int (sp_sum (sp_go (upd f0 (25 + 3 * k + 2) 6) h) n), .ref m]
  refine f_invV (As := [.int (sp_sum (sp_go (upd f0 (25 + 3 * k + 2) 6) h) n)]) (rest := []) K (tm_laidBack (E := E)  ht (sp_sum (sp_go (upd f0 (25 + 3 * k + 2) 6) h) n)) cs_X9_363 dX9_depthsWithSalt_22 (tw_o ht) rfl rfl rfl (Nat.le_of_ble_eq_true rfl) (Nat.le_of_ble_eq_true rfl) (Nat.le_of_ble_eq_true rfl) (Nat.le_of_ble_eq_true rfl) (fun v H8 hq hz => ?_) (fun _ _ _ h9 _ _ => h9.elim)
  obtain ⟨rfl, ht, hk1⟩ := hq
  have hk := hk.tr hk1
  have ht : twAt E H8 m ad sc f0 f1 f2 f0 f4 fb ft fo := ht
  change Go E Z 3 H8 (0) (0) 25 [(0, .ref m), (1, .int x_k), (2, .int x_h)] [.int (sp_sum (sp_go (upd f0 (25 + 3 * k + 2) 6) h) n)]
  exact f_retI K X (Or.inl rfl) dX9_depthsWithSalt_25 (Nat.le_of_ble_eq_true rfl) (Nat.le_of_ble_eq_true rfl) (⟨rI rfl, _, ht, hk⟩)
/-- bestSaltSegment(I)I -/
theorem tm_bestSaltSegment {E : fE} {H : Heap} {m : Nat} {ad : Nat → Nat} {sc f0 f1 f2 f3 f4 fb ft fo : Row} (ht : twAt E H m ad sc f0 f1 f2 f3 f4 fb ft fo) (h : Int32) {n t : Nat} (ok : okr n t f0) : fM E yX9_bestSaltSegment prog_17_method_118_code 6 (some .int) 9 0 0 [.ref m, .int h] H (fun r_ H' => r_ = some (.int (if 0 ≤ h ∧ h ≤ 240 then (sp_best f0 n h.toNatClampNeg n).1 else 0)) ∧ ∃ x_f3 : Row, twAt E H' m ad (upd sc 6 (if 0 ≤ h ∧ h ≤ 240 then 0 else 1)) f0 f1 f2 x_f3 f4 fb ft fo ∧ twK m ad H H') noX := by
  refine f_start (own := "SnowPassModel") (nm := "bestSaltSegment") (lv := [(0, .ref m), (1, .int h)]) pn_X9 rfl rfl (Nat.le_of_ble_eq_true rfl) rfl (fun Z K X => ?_)
  have hk := twK.rf (m := m) (ad := ad) (H := H)
  refine f_aload_n K dX9_bestSaltSegment_0 rfl ?_
  refine f_iload_n K dX9_bestSaltSegment_1 rfl ?_
  refine f_invS (As := [.int h]) (rest := [.ref m]) K (tm_areHours (E := E)  h) cs_X9_353 dX9_bestSaltSegment_2 rfl rfl (Nat.le_of_ble_eq_true rfl) (Nat.le_of_ble_eq_true rfl) (Nat.le_of_ble_eq_true rfl) (Nat.le_of_ble_eq_true rfl) (fun v H1 hq hz => ?_) (fun _ _ _ h9 _ _ => h9.elim)
  obtain ⟨rfl, hq⟩ := hq
  rw [hq]
  change Go E Z 6 H (0) (0) 5 [(0, .ref m), (1, .int h)] [.int (bI (0 ≤ h ∧ h ≤ 240)), .ref m]
  refine f_invV (As := [.int (bI (0 ≤ h ∧ h ≤ 240))]) (rest := []) K (tm_passes (E := E)  ht (0 ≤ h ∧ h ≤ 240)) cs_X9_164 dX9_bestSaltSegment_5 (tw_o ht) rfl rfl rfl (Nat.le_of_ble_eq_true rfl) (Nat.le_of_ble_eq_true rfl) (Nat.le_of_ble_eq_true rfl) (Nat.le_of_ble_eq_true rfl) (fun v H2 hq hz => ?_) (fun _ _ _ h9 _ _ => h9.elim)
  obtain ⟨rfl, ht, hk1⟩ := hq
  have hk := hk.tr hk1
  have ht : twAt E H2 m ad (upd sc 6 (if (0 ≤ h ∧ h ≤ 240) then 0 else 1)) f0 f1 f2 f3 f4 fb ft fo := ht
  change Go E Z 6 H2 (0) (0) 8 [(0, .ref m), (1, .int h)] [.int (bI (0 ≤ h ∧ h ≤ 240))]
  refine f_if_neB (tgt := 13) K dX9_bestSaltSegment_8 (by decide) (fun c_8 => ?_) (fun c_8 => ?_)
  · have hb9 := ok.1
    obtain ⟨hh, hhn⟩ := seg_in2 (n := 240) rfl (by decide) c_8
    refine f_iconst (v := (-1)) K dX9_bestSaltSegment_13 rfl ?_
    refine f_istore_n (lv' := [(2, .int (-1)), (0, .ref m), (1, .int h)]) K dX9_bestSaltSegment_14 (by decide) rfl ?_
    refine f_iconst (v := 0) K dX9_bestSaltSegment_15 rfl ?_
    refine f_istore_n (lv' := [(3, .int 0), (2, .int (-1)), (0, .ref m), (1, .int h)]) K dX9_bestSaltSegment_16 (by decide) rfl ?_
    refine f_iconst (v := 0) K dX9_bestSaltSegment_17 rfl ?_
    refine f_istore (lv' := [(4, .int 0), (3, .int 0), (2, .int (-1)), (0, .ref m), (1, .int h)]) K dX9_bestSaltSegment_18 (by decide) rfl ?_
    have loop : ∀ (d i : Nat) (x_i : Int32) (x_b : Int32) (x_l : Int32) (g3 : Row) (G : Heap), x_i = nI i → i + d = n → x_b = (sp_best f0 n h.toNatClampNeg i).1 → x_l = (sp_best f0 n h.toNatClampNeg i).2 → twAt E G m ad (upd sc 6 (if (0 ≤ h ∧ h ≤ 240) then 0 else 1)) f0 f1 f2 g3 f4 fb ft fo → twK m ad H G → Go E Z 6 G (0) (0) 20 [(4, .int x_i), (3, .int x_l), (2, .int x_b), (0, .ref m), (1, .int h)] [] := by
      intro d
      induction d with
      | zero =>
        intro i x_i x_b x_l g3 G h_i hd h_x_b h_x_l ht hk
        have hb9 := ok.1
        refine f_iload K dX9_bestSaltSegment_20 rfl ?_
        refine f_aload_n K dX9_bestSaltSegment_22 rfl ?_
        refine f_get (v := .ref (ad 0)) K fl_X9_7_X9 dX9_bestSaltSegment_23 (tw_o ht) rfl ?_
        refine f_iconst (v := 0) K dX9_bestSaltSegment_26 rfl ?_
        refine f_iald (j := 0) K dX9_bestSaltSegment_27 (tw_a0 ht) nl_0 (by decide) (by decide) ?_
        refine f_icmp_ge (tgt := 76) K dX9_bestSaltSegment_28 (by decide) (fun c_28 => ?_) (fun c_28 => ?_)
        · refine f_iload_n K dX9_bestSaltSegment_76 rfl ?_
          exact f_retI K X (Or.inl rfl) dX9_bestSaltSegment_77 (Nat.le_of_ble_eq_true rfl) (Nat.le_of_ble_eq_true rfl) (⟨rI (by rw [if_pos c_8, h_x_b, show i = n by omega]), _, ht, hk⟩)
        · exact absurd (by rw [h_i, ok.n]; exact nI_le (by omega) (by omega)) c_28
      | succ d ih =>
        intro i x_i x_b x_l g3 G h_i hd h_x_b h_x_l ht hk
        have hb9 := ok.1
        refine f_iload K dX9_bestSaltSegment_20 rfl ?_
        refine f_aload_n K dX9_bestSaltSegment_22 rfl ?_
        refine f_get (v := .ref (ad 0)) K fl_X9_7_X9 dX9_bestSaltSegment_23 (tw_o ht) rfl ?_
        refine f_iconst (v := 0) K dX9_bestSaltSegment_26 rfl ?_
        refine f_iald (j := 0) K dX9_bestSaltSegment_27 (tw_a0 ht) nl_0 (by decide) (by decide) ?_
        refine f_icmp_ge (tgt := 76) K dX9_bestSaltSegment_28 (by decide) (fun c_28 => ?_) (fun c_28 => ?_)
        · exact absurd c_28 (by rw [h_i, ok.n]; exact nI_ge (by omega) (by omega))
        · refine f_aload_n K dX9_bestSaltSegment_31 rfl ?_
          refine f_iload K dX9_bestSaltSegment_32 rfl ?_
          refine f_iconst (v := 2) K dX9_bestSaltSegment_34 rfl ?_
          refine f_invV (As := [.int x_i, .int 2]) (rest := []) K (tm_of (E := E) (k := i) (w := 2) ht x_i h_i 2 nl_2 (by omega)) cs_X9_66 dX9_bestSaltSegment_35 (tw_o ht) rfl rfl rfl (Nat.le_of_ble_eq_true rfl) (Nat.le_of_ble_eq_true rfl) (Nat.le_of_ble_eq_true rfl) (Nat.le_of_ble_eq_true rfl) (fun v H7 hq hz => ?_) (fun _ _ _ h9 _ _ => h9.elim)
          obtain ⟨rfl, hq⟩ := hq
          rw [hq]
          change Go E Z 6 G (0) (0) 38 [(4, .int x_i), (3, .int x_l), (2, .int x_b), (0, .ref m), (1, .int h)] [.int (f0 (25 + 3 * i + 2))]
          refine f_if_le (tgt := 44) K dX9_bestSaltSegment_38 (by decide) (fun c_38 => ?_) (fun c_38 => ?_)
          · refine f_aload_n K dX9_bestSaltSegment_44 rfl ?_
            refine f_iload K dX9_bestSaltSegment_45 rfl ?_
            refine f_iload_n K dX9_bestSaltSegment_47 rfl ?_
            refine f_invV (As := [.int x_i, .int h]) (rest := []) K (tm_depthsWithSalt (E := E) (k := i) (h := h.toNatClampNeg) ht x_i h_i h hh ok (by omega) (by omega)) cs_X9_369 dX9_bestSaltSegment_48 (tw_o ht) rfl rfl rfl (Nat.le_of_ble_eq_true rfl) (Nat.le_of_ble_eq_true rfl) (Nat.le_of_ble_eq_true rfl) (Nat.le_of_ble_eq_true rfl) (fun v H9 hq hz => ?_) (fun _ _ _ h9 _ _ => h9.elim)
            obtain ⟨rfl, gf3_10, ht, hk1⟩ := hq
            have hk := hk.tr hk1
            have ht : twAt E H9 m ad (upd sc 6 (if (0 ≤ h ∧ h ≤ 240) then 0 else 1)) f0 f1 f2 gf3_10 f4 fb ft fo := ht
            change Go E Z 6 H9 (0) (0) 51 [(4, .int x_i), (3, .int x_l), (2, .int x_b), (0, .ref m), (1, .int h)] [.int (sp_salted f0 n i h.toNatClampNeg)]
            refine f_istore (lv' := [(5, .int (sp_salted f0 n i h.toNatClampNeg)), (4, .int x_i), (3, .int x_l), (2, .int x_b), (0, .ref m), (1, .int h)]) K dX9_bestSaltSegment_51 (by decide) rfl ?_
            refine f_iload_n K dX9_bestSaltSegment_53 rfl ?_
            refine f_iconst (v := (-1)) K dX9_bestSaltSegment_54 rfl ?_
            refine f_icmp_eq (tgt := 64) K dX9_bestSaltSegment_55 (by decide) (fun c_55 => ?_) (fun c_55 => ?_)
            · refine f_iload K dX9_bestSaltSegment_64 rfl ?_
              refine f_istore_n (lv' := [(2, .int x_i), (5, .int (sp_salted f0 n i h.toNatClampNeg)), (4, .int x_i), (3, .int x_l), (0, .ref m), (1, .int h)]) K dX9_bestSaltSegment_66 (by decide) rfl ?_
              refine f_iload K dX9_bestSaltSegment_67 rfl ?_
              refine f_istore_n (lv' := [(3, .int (sp_salted f0 n i h.toNatClampNeg)), (2, .int x_i), (5, .int (sp_salted f0 n i h.toNatClampNeg)), (4, .int x_i), (0, .ref m), (1, .int h)]) K dX9_bestSaltSegment_69 (by decide) rfl ?_
              refine f_iinc (v := x_i + 1) (lv' := [(4, .int (x_i + 1)), (3, .int (sp_salted f0 n i h.toNatClampNeg)), (2, .int x_i), (5, .int (sp_salted f0 n i h.toNatClampNeg)), (0, .ref m), (1, .int h)]) K dX9_bestSaltSegment_70 rfl rfl (by decide) rfl ?_
              refine f_goto (tgt := 20) K dX9_bestSaltSegment_73 (by decide) ?_
              refine Go.subQ (lv' := [(4, .int (x_i + 1)), (3, .int (sp_salted f0 n i h.toNatClampNeg)), (2, .int x_i), (0, .ref m), (1, .int h)]) (List.forall_mem_cons.mpr ⟨rfl, (List.forall_mem_cons.mpr ⟨rfl, (List.forall_mem_cons.mpr ⟨rfl, (List.forall_mem_cons.mpr ⟨rfl, (List.forall_mem_cons.mpr ⟨rfl, (fun _ h9 => absurd h9 List.not_mem_nil)⟩)⟩)⟩)⟩)⟩) ?_
              exact ih ((i + 1)) _ x_i (sp_salted f0 n i h.toNatClampNeg) _ _ (nia h_i nl_1) (by omega) (by rw [show sp_best f0 n h.toNatClampNeg (i + 1) = (nI i, sp_salted f0 n i h.toNatClampNeg) from (if_neg (Int32.not_lt.mpr c_38)).trans (if_pos (Or.inl (h_x_b.symm.trans c_55)))]; exact h_i) (by rw [show sp_best f0 n h.toNatClampNeg (i + 1) = (nI i, sp_salted f0 n i h.toNatClampNeg) from (if_neg (Int32.not_lt.mpr c_38)).trans (if_pos (Or.inl (h_x_b.symm.trans c_55)))]) ht hk
            · refine f_iload K dX9_bestSaltSegment_58 rfl ?_
              refine f_iload_n K dX9_bestSaltSegment_60 rfl ?_
              refine f_icmp_ge (tgt := 70) K dX9_bestSaltSegment_61 (by decide) (fun c_61 => ?_) (fun c_61 => ?_)
              · refine f_iinc (v := x_i + 1) (lv' := [(4, .int (x_i + 1)), (5, .int (sp_salted f0 n i h.toNatClampNeg)), (3, .int x_l), (2, .int x_b), (0, .ref m), (1, .int h)]) K dX9_bestSaltSegment_70 rfl rfl (by decide) rfl ?_
                refine f_goto (tgt := 20) K dX9_bestSaltSegment_73 (by decide) ?_
                refine Go.subQ (lv' := [(4, .int (x_i + 1)), (3, .int x_l), (2, .int x_b), (0, .ref m), (1, .int h)]) (List.forall_mem_cons.mpr ⟨rfl, (List.forall_mem_cons.mpr ⟨rfl, (List.forall_mem_cons.mpr ⟨rfl, (List.forall_mem_cons.mpr ⟨rfl, (List.forall_mem_cons.mpr ⟨rfl, (fun _ h9 => absurd h9 List.not_mem_nil)⟩)⟩)⟩)⟩)⟩) ?_
                exact ih ((i + 1)) _ x_b x_l _ _ (nia h_i nl_1) (by omega) (by rw [show sp_best f0 n h.toNatClampNeg (i + 1) = sp_best f0 n h.toNatClampNeg i from (if_neg (Int32.not_lt.mpr c_38)).trans (if_neg (fun z => z.elim (fun z => c_55 (h_x_b.trans z)) (fun z => Int32.not_lt.mpr c_61 (by rw [h_x_l]; exact z))))]; exact h_x_b) (by rw [show sp_best f0 n h.toNatClampNeg (i + 1) = sp_best f0 n h.toNatClampNeg i from (if_neg (Int32.not_lt.mpr c_38)).trans (if_neg (fun z => z.elim (fun z => c_55 (h_x_b.trans z)) (fun z => Int32.not_lt.mpr c_61 (by rw [h_x_l]; exact z))))]; exact h_x_l) ht hk
              · refine f_iload K dX9_bestSaltSegment_64 rfl ?_
                refine f_istore_n (lv' := [(2, .int x_i), (5, .int (sp_salted f0 n i h.toNatClampNeg)), (4, .int x_i), (3, .int x_l), (0, .ref m), (1, .int h)]) K dX9_bestSaltSegment_66 (by decide) rfl ?_
                refine f_iload K dX9_bestSaltSegment_67 rfl ?_
                refine f_istore_n (lv' := [(3, .int (sp_salted f0 n i h.toNatClampNeg)), (2, .int x_i), (5, .int (sp_salted f0 n i h.toNatClampNeg)), (4, .int x_i), (0, .ref m), (1, .int h)]) K dX9_bestSaltSegment_69 (by decide) rfl ?_
                refine f_iinc (v := x_i + 1) (lv' := [(4, .int (x_i + 1)), (3, .int (sp_salted f0 n i h.toNatClampNeg)), (2, .int x_i), (5, .int (sp_salted f0 n i h.toNatClampNeg)), (0, .ref m), (1, .int h)]) K dX9_bestSaltSegment_70 rfl rfl (by decide) rfl ?_
                refine f_goto (tgt := 20) K dX9_bestSaltSegment_73 (by decide) ?_
                refine Go.subQ (lv' := [(4, .int (x_i + 1)), (3, .int (sp_salted f0 n i h.toNatClampNeg)), (2, .int x_i), (0, .ref m), (1, .int h)]) (List.forall_mem_cons.mpr ⟨rfl, (List.forall_mem_cons.mpr ⟨rfl, (List.forall_mem_cons.mpr ⟨rfl, (List.forall_mem_cons.mpr ⟨rfl, (List.forall_mem_cons.mpr ⟨rfl, (fun _ h9 => absurd h9 List.not_mem_nil)⟩)⟩)⟩)⟩)⟩) ?_
                exact ih ((i + 1)) _ x_i (sp_salted f0 n i h.toNatClampNeg) _ _ (nia h_i nl_1) (by omega) (by rw [show sp_best f0 n h.toNatClampNeg (i + 1) = (nI i, sp_salted f0 n i h.toNatClampNeg) from (if_neg (Int32.not_lt.mpr c_38)).trans (if_pos (Or.inr (by rw [← h_x_l]; exact Int32.not_le.mp c_61)))]; exact h_i) (by rw [show sp_best f0 n h.toNatClampNeg (i + 1) = (nI i, sp_salted f0 n i h.toNatClampNeg) from (if_neg (Int32.not_lt.mpr c_38)).trans (if_pos (Or.inr (by rw [← h_x_l]; exact Int32.not_le.mp c_61)))]) ht hk
          · refine f_goto (tgt := 70) K dX9_bestSaltSegment_41 (by decide) ?_
            refine f_iinc (v := x_i + 1) (lv' := [(4, .int (x_i + 1)), (3, .int x_l), (2, .int x_b), (0, .ref m), (1, .int h)]) K dX9_bestSaltSegment_70 rfl rfl (by decide) rfl ?_
            refine f_goto (tgt := 20) K dX9_bestSaltSegment_73 (by decide) ?_
            exact ih ((i + 1)) _ x_b x_l _ _ (nia h_i nl_1) (by omega) (by rw [show sp_best f0 n h.toNatClampNeg (i + 1) = sp_best f0 n h.toNatClampNeg i from if_pos (Int32.not_le.mp c_38)]; exact h_x_b) (by rw [show sp_best f0 n h.toNatClampNeg (i + 1) = sp_best f0 n h.toNatClampNeg i from if_pos (Int32.not_le.mp c_38)]; exact h_x_l) ht hk
    exact loop (n) 0 _ _ _ _ _ nl_0 (by omega) rfl rfl ht hk
  · refine f_iconst (v := 0) K dX9_bestSaltSegment_11 rfl ?_
    exact f_retI K X (Or.inl rfl) dX9_bestSaltSegment_12 (Nat.le_of_ble_eq_true rfl) (Nat.le_of_ble_eq_true rfl) (⟨rI (if_neg c_8).symm, _, ht, hk⟩)
/-- clears()I -/
theorem tm_clears {E : fE} {H : Heap} {m : Nat} {ad : Nat → Nat} {sc f0 f1 f2 f3 f4 fb ft fo : Row} (ht : twAt E H m ad sc f0 f1 f2 f3 f4 fb ft fo)  {n : Nat} (hn : f0 0 = nI n) (h2 : n ≤ 20) : fM E yX9_clears prog_17_method_90_code 3 (some .int) 3 0 0 [.ref m] H (fun r_ H' => r_ = some (.int (sp_clears f0 n)) ∧ H' = H) noX := by
  refine f_start (own := "SnowPassModel") (nm := "clears") (lv := [(0, .ref m)]) pn_X9 rfl rfl (Nat.le_of_ble_eq_true rfl) rfl (fun Z K X => ?_)
  refine f_iconst (v := 0) K dX9_clears_0 rfl ?_
  refine f_istore_n (lv' := [(1, .int 0), (0, .ref m)]) K dX9_clears_1 (by decide) rfl ?_
  refine f_iconst (v := 0) K dX9_clears_2 rfl ?_
  refine f_istore_n (lv' := [(2, .int 0), (1, .int 0), (0, .ref m)]) K dX9_clears_3 (by decide) rfl ?_
  have loop : ∀ (d i : Nat) (x_i : Int32) (x_b : Int32) (G : Heap), x_i = nI i → i + d = n → x_b = sp_clears f0 i → Go E Z 3 H (0) (0) 4 [(2, .int x_i), (1, .int x_b), (0, .ref m)] [] := by
    intro d
    induction d with
    | zero =>
      intro i x_i x_b G h_i hd h_x_b
      refine f_iload_n K dX9_clears_4 rfl ?_
      refine f_aload_n K dX9_clears_5 rfl ?_
      refine f_get (v := .ref (ad 0)) K fl_X9_7_X9 dX9_clears_6 (tw_o ht) rfl ?_
      refine f_iconst (v := 0) K dX9_clears_9 rfl ?_
      refine f_iald (j := 0) K dX9_clears_10 (tw_a0 ht) nl_0 (by decide) (by decide) ?_
      refine f_icmp_ge (tgt := 31) K dX9_clears_11 (by decide) (fun c_11 => ?_) (fun c_11 => ?_)
      · refine f_iload_n K dX9_clears_31 rfl ?_
        exact f_retI K X (Or.inl rfl) dX9_clears_32 (Nat.le_of_ble_eq_true rfl) (Nat.le_of_ble_eq_true rfl) (⟨by rw [h_x_b, show i = n by omega], rfl⟩)
      · exact absurd (by rw [h_i, hn]; exact nI_le (by omega) (by omega)) c_11
    | succ d ih =>
      intro i x_i x_b G h_i hd h_x_b
      refine f_iload_n K dX9_clears_4 rfl ?_
      refine f_aload_n K dX9_clears_5 rfl ?_
      refine f_get (v := .ref (ad 0)) K fl_X9_7_X9 dX9_clears_6 (tw_o ht) rfl ?_
      refine f_iconst (v := 0) K dX9_clears_9 rfl ?_
      refine f_iald (j := 0) K dX9_clears_10 (tw_a0 ht) nl_0 (by decide) (by decide) ?_
      refine f_icmp_ge (tgt := 31) K dX9_clears_11 (by decide) (fun c_11 => ?_) (fun c_11 => ?_)
      · exact absurd c_11 (by rw [h_i, hn]; exact nI_ge (by omega) (by omega))
      · refine f_iload_n K dX9_clears_14 rfl ?_
        refine f_aload_n K dX9_clears_15 rfl ?_
        refine f_iload_n K dX9_clears_16 rfl ?_
        refine f_invV (As := [.int x_i]) (rest := [.int x_b]) K (tm_isClearNow (E := E) (k := i) ht x_i h_i (by omega)) cs_X9_80 dX9_clears_17 (tw_o ht) rfl rfl rfl (Nat.le_of_ble_eq_true rfl) (Nat.le_of_ble_eq_true rfl) (Nat.le_of_ble_eq_true rfl) (Nat.le_of_ble_eq_true rfl) (fun v H3 hq hz => ?_) (fun _ _ _ h9 _ _ => h9.elim)
        obtain ⟨rfl, hq⟩ := hq
        rw [hq]
        change Go E Z 3 H (0) (0) 20 [(2, .int x_i), (1, .int x_b), (0, .ref m)] [.int (bI (sp_clear f0 i)), .int x_b]
        refine f_invS (As := [.int (bI (sp_clear f0 i))]) (rest := [.int x_b]) K (tm_truth (E := E)  (sp_clear f0 i)) cs_X9_335 dX9_clears_20 rfl rfl (Nat.le_of_ble_eq_true rfl) (Nat.le_of_ble_eq_true rfl) (Nat.le_of_ble_eq_true rfl) (Nat.le_of_ble_eq_true rfl) (fun v H4 hq hz => ?_) (fun _ _ _ h9 _ _ => h9.elim)
        obtain ⟨rfl, hq⟩ := hq
        rw [hq]
        change Go E Z 3 H (0) (0) 23 [(2, .int x_i), (1, .int x_b), (0, .ref m)] [.int (bI (sp_clear f0 i)), .int x_b]
        refine f_iadd K dX9_clears_23 ?_
        refine f_istore_n (lv' := [(1, .int (x_b + (bI (sp_clear f0 i)))), (2, .int x_i), (0, .ref m)]) K dX9_clears_24 (by decide) rfl ?_
        refine f_iinc (v := x_i + 1) (lv' := [(2, .int (x_i + 1)), (1, .int (x_b + (bI (sp_clear f0 i)))), (0, .ref m)]) K dX9_clears_25 rfl rfl (by decide) rfl ?_
        refine f_goto (tgt := 4) K dX9_clears_28 (by decide) ?_
        exact ih ((i + 1)) _ (x_b + (bI (sp_clear f0 i))) H (nia h_i nl_1) (by omega) (by rw [h_x_b]; rfl)
  exact loop (n) 0 _ _ H nl_0 (by omega) rfl
/-- clearCount()I -/
theorem tm_clearCount {E : fE} {H : Heap} {m : Nat} {ad : Nat → Nat} {sc f0 f1 f2 f3 f4 fb ft fo : Row} (ht : twAt E H m ad sc f0 f1 f2 f3 f4 fb ft fo)  {n t : Nat} (ok : okr n t f0) : fM E yX9_clearCount prog_17_method_91_code 1 (some .int) 4 0 0 [.ref m] H (fun r_ H' => r_ = some (.int (sp_clears f0 n)) ∧ twAt E H' m ad (upd sc 6 0) f0 f1 f2 f3 f4 fb ft fo ∧ twK m ad H H') noX := by
  refine f_start (own := "SnowPassModel") (nm := "clearCount") (lv := [(0, .ref m)]) pn_X9 rfl rfl (Nat.le_of_ble_eq_true rfl) rfl (fun Z K X => ?_)
  have hk := twK.rf (m := m) (ad := ad) (H := H)
  refine f_aload_n K dX9_clearCount_0 rfl ?_
  refine f_iconst (v := 0) K dX9_clearCount_1 rfl ?_
  refine f_put K fp_X9_55_X9 dX9_clearCount_2 (tw_o ht) (tw_lo ht) (Nat.le_of_ble_eq_true rfl) rfl rfl (fun H1 hU ho => ?_)
  have ht := tw_put (sc' := (upd sc 6 0)) ht hU ho rfl
  have hk := hk.put hU
  refine f_aload_n K dX9_clearCount_5 rfl ?_
  refine f_invV (As := []) (rest := []) K (tm_clears (E := E)  ht ok.n (by have := ok.1; omega)) cs_X9_339 dX9_clearCount_6 (tw_o ht) rfl rfl rfl (Nat.le_of_ble_eq_true rfl) (Nat.le_of_ble_eq_true rfl) (Nat.le_of_ble_eq_true rfl) (Nat.le_of_ble_eq_true rfl) (fun v H2 hq hz => ?_) (fun _ _ _ h9 _ _ => h9.elim)
  obtain ⟨rfl, hq⟩ := hq
  rw [hq]
  change Go E Z 1 H1 (0) (0) 9 [(0, .ref m)] [.int (sp_clears f0 n)]
  exact f_retI K X (Or.inl rfl) dX9_clearCount_9 (Nat.le_of_ble_eq_true rfl) (Nat.le_of_ble_eq_true rfl) (⟨rfl, ht, hk⟩)
