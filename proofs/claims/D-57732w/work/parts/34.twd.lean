/-! TWIN 5: contracts, operations by name -/
set_option maxRecDepth 100000
set_option maxHeartbeats 400000
theorem nl_48 : (48 : Int32) = nI 48 := rfl
theorem nl_100 : (100 : Int32) = nI 100 := rfl
theorem cs_X9_372 : CSV "SnowPassModel" 372 yX9_tried prog_17_method_130_code 2 (some .boolean) 1 := ⟨⟨by decide +kernel, by decide +kernel, by decide +kernel⟩, q3886, q3888, qs117, q161, q3889, by decide⟩
theorem cs_X9_301 : CSV "SnowPassModel" 301 yX9_passNow prog_17_method_38_code 3 (some .boolean) 1 := ⟨⟨by decide +kernel, by decide +kernel, by decide +kernel⟩, q3536, q3538, qs79, q161, q3539, by decide⟩
theorem cs_X9_375 : CSV "SnowPassModel" 375 yX9_done prog_17_method_131_code 2 (some .int) 1 := ⟨⟨by decide +kernel, by decide +kernel, by decide +kernel⟩, q3890, q3892, qs118, q161, q3893, by decide⟩
theorem cs_X9_307 : CSV "SnowPassModel" 307 yX9_recallNow prog_17_method_40_code 2 (some .boolean) 1 := ⟨⟨by decide +kernel, by decide +kernel, by decide +kernel⟩, q3628, q3630, qs101, q161, q3631, by decide⟩
theorem cs_X9_310 : CSV "SnowPassModel" 310 yX9_sacksNow prog_17_method_41_code 3 (some .boolean) 2 := ⟨⟨by decide +kernel, by decide +kernel, by decide +kernel⟩, q3632, q3634, qs102, q161, q3635, by decide⟩
theorem cs_X9_313 : CSV "SnowPassModel" 313 yX9_setNow prog_17_method_42_code 3 (some .boolean) 2 := ⟨⟨by decide +kernel, by decide +kernel, by decide +kernel⟩, q3636, q3638, qs103, q161, q3639, by decide⟩
theorem cs_X9_304 : CSV "SnowPassModel" 304 yX9_saltNow prog_17_method_39_code 3 (some .boolean) 1 := ⟨⟨by decide +kernel, by decide +kernel, by decide +kernel⟩, q3624, q3626, qs100, q161, q3627, by decide⟩
theorem cs_X9_238 : CSV "SnowPassModel" 238 yX9_cartNow prog_17_method_43_code 4 (some .boolean) 2 := ⟨⟨by decide +kernel, by decide +kernel, by decide +kernel⟩, q3385, q3387, qs66, q161, q3388, by decide⟩
theorem cs_X9_316 : CSV "SnowPassModel" 316 yX9_cancelNow prog_17_method_47_code 3 (some .boolean) 1 := ⟨⟨by decide +kernel, by decide +kernel, by decide +kernel⟩, q3640, q3642, qs104, q161, q3643, by decide⟩
theorem fl_X9_13_X9 : FL "SnowPassModel" 13 8 1 := ⟨RX9, TX9, 22, "SnowPassModel", rfl, in_X9, by decide, Or.inl rfl, Or.inl q3406⟩
theorem fp_X9_382_X9 {nm : String} : FLp "SnowPassModel" 382 8 7 .boolean nm := ⟨RX9, TX9, 22, "SnowPassModel", tyX9, rfl, in_X9, by decide, Or.inl rfl, tyX9_ok, nmX9, by decide +kernel, Or.inl ⟨q3412, Or.inl rfl⟩⟩
theorem fl_X9_382_X9 : FL "SnowPassModel" 382 8 7 := ⟨RX9, TX9, 22, "SnowPassModel", rfl, in_X9, by decide, Or.inl rfl, Or.inl q3412⟩
theorem fl_X9_35_X9 : FL "SnowPassModel" 35 8 20 := ⟨RX9, TX9, 22, "SnowPassModel", rfl, in_X9, by decide, Or.inl rfl, Or.inl q3425⟩
theorem fl_X9_386_X9 : FL "SnowPassModel" 386 8 21 := ⟨RX9, TX9, 22, "SnowPassModel", rfl, in_X9, by decide, Or.inl rfl, Or.inl q3426⟩
theorem fp_X9_386_X9 {nm : String} : FLp "SnowPassModel" 386 8 21 .int nm := ⟨RX9, TX9, 22, "SnowPassModel", tyX9, rfl, in_X9, by decide, Or.inl rfl, tyX9_ok, nmX9, by decide +kernel, Or.inl ⟨q3426, Or.inl rfl⟩⟩
theorem cs_X9_389 : CSV "SnowPassModel" 389 yX9_writes prog_17_method_143_code 2 none 1 := ⟨⟨by decide +kernel, by decide +kernel, by decide +kernel⟩, q3940, q3942, qs119, q161, q3943, by decide⟩
/-- passHours(I)I -/
theorem tm_passHours {E : fE} {H : Heap} {m : Nat} {ad : Nat → Nat} {sc f0 f1 f2 f3 f4 fb ft fo : Row} (ht : twAt E H m ad sc f0 f1 f2 f3 f4 fb ft fo) (h : Int32) {n t b : Nat} (ok : okr n t f0) (hm : sc 5 = nI b) (hm2 : b ≤ 8) : fM E yX9_passHours prog_17_method_132_code 2 (some .int) 9 0 0 [.ref m, .int h] H (fun r_ H' => r_ = some (.int (if 1 ≤ h ∧ h ≤ 48 then (sp_crossed (sp_go f0 h.toNatClampNeg) - sp_crossed f0) else 0)) ∧ ∃ x_sc : Row, (x_sc 6 = (if 1 ≤ h ∧ h ≤ 48 then 0 else 1) ∧ x_sc 5 = (if 1 ≤ h ∧ h ≤ 48 then nI (kp_n b) else nI b) ∧ ∀ j : Nat, j ≠ 5 → j ≠ 6 → j ≠ 8 → x_sc j = sc j) ∧ ∃ x_f2 : Row, twAt E H' m ad x_sc (if 1 ≤ h ∧ h ≤ 48 then sp_go f0 h.toNatClampNeg else f0) f1 x_f2 f3 (if 1 ≤ h ∧ h ≤ 48 then kp_f f0 f4 b else f4) fb ft fo ∧ twK m ad H H') noX := by
  refine f_start (own := "SnowPassModel") (nm := "passHours") (lv := [(0, .ref m), (1, .int h)]) pn_X9 rfl rfl (Nat.le_of_ble_eq_true rfl) rfl (fun Z K X => ?_)
  have hk := twK.rf (m := m) (ad := ad) (H := H)
  refine f_aload_n K dX9_passHours_0 rfl ?_
  refine f_aload_n K dX9_passHours_1 rfl ?_
  refine f_iload_n K dX9_passHours_2 rfl ?_
  refine f_i2l (v := h.toInt64) K dX9_passHours_3 rfl ?_
  refine f_lconst (v := 1) K dX9_passHours_4 rfl ?_
  refine f_ldc2 (v := 48) K q3338 dX9_passHours_5 ?_
  refine f_invS (As := [.long h.toInt64, .long 1, .long 48]) (rest := [.ref m, .ref m]) K (tm_in (E := E)  h h.toInt64 (by rfl) 1 1 (by rfl) 48 48 (by rfl)) cs_X9_62 dX9_passHours_8 rfl rfl (Nat.le_of_ble_eq_true rfl) (Nat.le_of_ble_eq_true rfl) (Nat.le_of_ble_eq_true rfl) (Nat.le_of_ble_eq_true rfl) (fun v H1 hq hz => ?_) (fun _ _ _ h9 _ _ => h9.elim)
  obtain ⟨rfl, hq⟩ := hq
  rw [hq]
  change Go E Z 2 H (0) (0) 11 [(0, .ref m), (1, .int h)] [.int (bI (1 ≤ h ∧ h ≤ 48)), .ref m, .ref m]
  refine f_invV (As := [.int (bI (1 ≤ h ∧ h ≤ 48))]) (rest := [.ref m]) K (tm_passes (E := E)  ht (1 ≤ h ∧ h ≤ 48)) cs_X9_164 dX9_passHours_11 (tw_o ht) rfl rfl rfl (Nat.le_of_ble_eq_true rfl) (Nat.le_of_ble_eq_true rfl) (Nat.le_of_ble_eq_true rfl) (Nat.le_of_ble_eq_true rfl) (fun v H2 hq hz => ?_) (fun _ _ _ h9 _ _ => h9.elim)
  obtain ⟨rfl, ht, hk1⟩ := hq
  have hk := hk.tr hk1
  have ht : twAt E H2 m ad (upd sc 6 (if (1 ≤ h ∧ h ≤ 48) then 0 else 1)) f0 f1 f2 f3 f4 fb ft fo := ht
  change Go E Z 2 H2 (0) (0) 14 [(0, .ref m), (1, .int h)] [.int (bI (1 ≤ h ∧ h ≤ 48)), .ref m]
  refine f_invV (As := [.int (bI (1 ≤ h ∧ h ≤ 48))]) (rest := []) K (tm_tried (E := E)  ht (1 ≤ h ∧ h ≤ 48)) cs_X9_372 dX9_passHours_14 (tw_o ht) rfl rfl rfl (Nat.le_of_ble_eq_true rfl) (Nat.le_of_ble_eq_true rfl) (Nat.le_of_ble_eq_true rfl) (Nat.le_of_ble_eq_true rfl) (fun v H4 hq hz => ?_) (fun _ _ _ h9 _ _ => h9.elim)
  obtain ⟨rfl, ht, hk1⟩ := hq
  have hk := hk.tr hk1
  have ht : twAt E H4 m ad (upd sc 6 (if (1 ≤ h ∧ h ≤ 48) then 0 else 1)) f0 f1 (if (1 ≤ h ∧ h ≤ 48) then f0 else f2) f3 f4 fb ft fo := ht
  change Go E Z 2 H4 (0) (0) 17 [(0, .ref m), (1, .int h)] [.int (bI (1 ≤ h ∧ h ≤ 48))]
  refine f_if_eqB (tgt := 32) K dX9_passHours_17 (by decide) (fun c_17 => ?_) (fun c_17 => ?_)
  · refine f_iconst (v := 0) K dX9_passHours_32 rfl ?_
    exact f_retI K X (Or.inl rfl) dX9_passHours_33 (Nat.le_of_ble_eq_true rfl) (Nat.le_of_ble_eq_true rfl) (⟨rI (if_neg c_17).symm, (upd sc 6 (if (1 ≤ h ∧ h ≤ 48) then 0 else 1)), ⟨rfl, hm.trans (if_neg c_17).symm, fun j h5 h6 h8 => upd_ne h6⟩, _, by rw [show (if 1 ≤ h ∧ h ≤ 48 then sp_go f0 h.toNatClampNeg else f0) = f0 from if_neg c_17, show (if 1 ≤ h ∧ h ≤ 48 then kp_f f0 f4 b else f4) = f4 from if_neg c_17]; exact ht, hk⟩)
  · rw [show (if (1 ≤ h ∧ h ≤ 48) then f0 else f2) = f0 from if_pos c_17] at ht
    obtain ⟨hx, hxn⟩ := seg_in2 (x := h) (n := 48) rfl (by decide) ⟨Int32.le_trans (by decide) (c_17).1, (c_17).2⟩
    refine f_aload_n K dX9_passHours_20 rfl ?_
    refine f_aload_n K dX9_passHours_21 rfl ?_
    refine f_iload_n K dX9_passHours_22 rfl ?_
    refine f_invV (As := [.int h]) (rest := [.ref m]) K (tm_passNow (E := E) (h := h.toNatClampNeg) ht h hx ok (by omega)) cs_X9_301 dX9_passHours_23 (tw_o ht) rfl rfl rfl (Nat.le_of_ble_eq_true rfl) (Nat.le_of_ble_eq_true rfl) (Nat.le_of_ble_eq_true rfl) (Nat.le_of_ble_eq_true rfl) (fun v H7 hq hz => ?_) (fun _ _ _ h9 _ _ => h9.elim)
    obtain ⟨rfl, ht, hk1⟩ := hq
    have hk := hk.tr hk1
    have ht : twAt E H7 m ad (upd (upd sc 6 (if (1 ≤ h ∧ h ≤ 48) then 0 else 1)) 8 (sp_crossed (sp_go f0 h.toNatClampNeg) - sp_crossed f0)) (sp_go f0 h.toNatClampNeg) f1 f0 f3 f4 fb ft fo := ht
    change Go E Z 2 H7 (0) (0) 26 [(0, .ref m), (1, .int h)] [.int (bI True), .ref m]
    refine f_invV (As := [.int (bI True)]) (rest := []) K (tm_done (E := E)  ht True hm hm2) cs_X9_375 dX9_passHours_26 (tw_o ht) rfl rfl rfl (Nat.le_of_ble_eq_true rfl) (Nat.le_of_ble_eq_true rfl) (Nat.le_of_ble_eq_true rfl) (Nat.le_of_ble_eq_true rfl) (fun v H9 hq hz => ?_) (fun _ _ _ h9 _ _ => h9.elim)
    obtain ⟨rfl, ht, hk1⟩ := hq
    have hk := hk.tr hk1
    have ht : twAt E H9 m ad (upd (upd (upd sc 6 (if (1 ≤ h ∧ h ≤ 48) then 0 else 1)) 8 (sp_crossed (sp_go f0 h.toNatClampNeg) - sp_crossed f0)) 5 (nI (kp_n b))) (sp_go f0 h.toNatClampNeg) f1 f0 f3 (kp_f f0 f4 b) fb ft fo := ht
    change Go E Z 2 H9 (0) (0) 29 [(0, .ref m), (1, .int h)] [.int ((upd (upd sc 6 (if (1 ≤ h ∧ h ≤ 48) then 0 else 1)) 8 (sp_crossed (sp_go f0 h.toNatClampNeg) - sp_crossed f0)) 8)]
    refine f_goto (tgt := 33) K dX9_passHours_29 (by decide) ?_
    exact f_retI K X (Or.inl rfl) dX9_passHours_33 (Nat.le_of_ble_eq_true rfl) (Nat.le_of_ble_eq_true rfl) (⟨rI (if_pos c_17).symm, (upd (upd (upd sc 6 (if (1 ≤ h ∧ h ≤ 48) then 0 else 1)) 8 (sp_crossed (sp_go f0 h.toNatClampNeg) - sp_crossed f0)) 5 (nI (kp_n b))), ⟨rfl, (if_pos c_17).symm, fun j h5 h6 h8 => (upd_ne h5).trans ((upd_ne h8).trans (upd_ne h6))⟩, _, by rw [show (if 1 ≤ h ∧ h ≤ 48 then sp_go f0 h.toNatClampNeg else f0) = sp_go f0 h.toNatClampNeg from if_pos c_17, show (if 1 ≤ h ∧ h ≤ 48 then kp_f f0 f4 b else f4) = kp_f f0 f4 b from if_pos c_17]; exact ht, hk⟩)
/-- recall(I)I -/
theorem tm_recall {E : fE} {H : Heap} {m : Nat} {ad : Nat → Nat} {sc f0 f1 f2 f3 f4 fb ft fo : Row} (ht : twAt E H m ad sc f0 f1 f2 f3 f4 fb ft fo) (x : Int32) {n t b : Nat} (ok : okr n t f0) (hm : sc 5 = nI b) (hm2 : b ≤ 8) : fM E yX9_recall prog_17_method_134_code 2 (some .int) 5 0 0 [.ref m, .int x] H (fun r_ H' => r_ = some (.int (if 0 ≤ x ∧ x ≤ 1 then (sp_recall f0 x.toNatClampNeg (17 + 4 * x.toNatClampNeg)) else 0)) ∧ ∃ x_sc : Row, (x_sc 6 = (if 0 ≤ x ∧ x ≤ 1 then 0 else 1) ∧ x_sc 5 = (if 0 ≤ x ∧ x ≤ 1 then nI (kp_n b) else nI b) ∧ ∀ j : Nat, j ≠ 5 → j ≠ 6 → j ≠ 8 → x_sc j = sc j) ∧ ∃ x_f2 : Row, twAt E H' m ad x_sc (if 0 ≤ x ∧ x ≤ 1 then sp_recall f0 x.toNatClampNeg else f0) f1 x_f2 f3 (if 0 ≤ x ∧ x ≤ 1 then kp_f f0 f4 b else f4) fb ft fo ∧ twK m ad H H') noX := by
  refine f_start (own := "SnowPassModel") (nm := "recall") (lv := [(0, .ref m), (1, .int x)]) pn_X9 rfl rfl (Nat.le_of_ble_eq_true rfl) rfl (fun Z K X => ?_)
  have hk := twK.rf (m := m) (ad := ad) (H := H)
  refine f_aload_n K dX9_recall_0 rfl ?_
  refine f_aload_n K dX9_recall_1 rfl ?_
  refine f_iload_n K dX9_recall_2 rfl ?_
  refine f_invS (As := [.int x]) (rest := [.ref m, .ref m]) K (tm_isSide (E := E)  x) cs_X9_342 dX9_recall_3 rfl rfl (Nat.le_of_ble_eq_true rfl) (Nat.le_of_ble_eq_true rfl) (Nat.le_of_ble_eq_true rfl) (Nat.le_of_ble_eq_true rfl) (fun v H1 hq hz => ?_) (fun _ _ _ h9 _ _ => h9.elim)
  obtain ⟨rfl, hq⟩ := hq
  rw [hq]
  change Go E Z 2 H (0) (0) 6 [(0, .ref m), (1, .int x)] [.int (bI (0 ≤ x ∧ x ≤ 1)), .ref m, .ref m]
  refine f_invV (As := [.int (bI (0 ≤ x ∧ x ≤ 1))]) (rest := [.ref m]) K (tm_passes (E := E)  ht (0 ≤ x ∧ x ≤ 1)) cs_X9_164 dX9_recall_6 (tw_o ht) rfl rfl rfl (Nat.le_of_ble_eq_true rfl) (Nat.le_of_ble_eq_true rfl) (Nat.le_of_ble_eq_true rfl) (Nat.le_of_ble_eq_true rfl) (fun v H2 hq hz => ?_) (fun _ _ _ h9 _ _ => h9.elim)
  obtain ⟨rfl, ht, hk1⟩ := hq
  have hk := hk.tr hk1
  have ht : twAt E H2 m ad (upd sc 6 (if (0 ≤ x ∧ x ≤ 1) then 0 else 1)) f0 f1 f2 f3 f4 fb ft fo := ht
  change Go E Z 2 H2 (0) (0) 9 [(0, .ref m), (1, .int x)] [.int (bI (0 ≤ x ∧ x ≤ 1)), .ref m]
  refine f_invV (As := [.int (bI (0 ≤ x ∧ x ≤ 1))]) (rest := []) K (tm_tried (E := E)  ht (0 ≤ x ∧ x ≤ 1)) cs_X9_372 dX9_recall_9 (tw_o ht) rfl rfl rfl (Nat.le_of_ble_eq_true rfl) (Nat.le_of_ble_eq_true rfl) (Nat.le_of_ble_eq_true rfl) (Nat.le_of_ble_eq_true rfl) (fun v H4 hq hz => ?_) (fun _ _ _ h9 _ _ => h9.elim)
  obtain ⟨rfl, ht, hk1⟩ := hq
  have hk := hk.tr hk1
  have ht : twAt E H4 m ad (upd sc 6 (if (0 ≤ x ∧ x ≤ 1) then 0 else 1)) f0 f1 (if (0 ≤ x ∧ x ≤ 1) then f0 else f2) f3 f4 fb ft fo := ht
  change Go E Z 2 H4 (0) (0) 12 [(0, .ref m), (1, .int x)] [.int (bI (0 ≤ x ∧ x ≤ 1))]
  refine f_if_eqB (tgt := 27) K dX9_recall_12 (by decide) (fun c_12 => ?_) (fun c_12 => ?_)
  · refine f_iconst (v := 0) K dX9_recall_27 rfl ?_
    exact f_retI K X (Or.inl rfl) dX9_recall_28 (Nat.le_of_ble_eq_true rfl) (Nat.le_of_ble_eq_true rfl) (⟨rI (if_neg c_12).symm, (upd sc 6 (if (0 ≤ x ∧ x ≤ 1) then 0 else 1)), ⟨rfl, hm.trans (if_neg c_12).symm, fun j h5 h6 h8 => upd_ne h6⟩, _, by rw [show (if 0 ≤ x ∧ x ≤ 1 then sp_recall f0 x.toNatClampNeg else f0) = f0 from if_neg c_12, show (if 0 ≤ x ∧ x ≤ 1 then kp_f f0 f4 b else f4) = f4 from if_neg c_12]; exact ht, hk⟩)
  · rw [show (if (0 ≤ x ∧ x ≤ 1) then f0 else f2) = f0 from if_pos c_12] at ht
    obtain ⟨hx, hxn⟩ := seg_in2 (n := 1) rfl (by decide) c_12
    refine f_aload_n K dX9_recall_15 rfl ?_
    refine f_aload_n K dX9_recall_16 rfl ?_
    refine f_iload_n K dX9_recall_17 rfl ?_
    refine f_invV (As := [.int x]) (rest := [.ref m]) K (tm_recallNow (E := E) (p := x.toNatClampNeg) ht x hx (by omega) ok) cs_X9_307 dX9_recall_18 (tw_o ht) rfl rfl rfl (Nat.le_of_ble_eq_true rfl) (Nat.le_of_ble_eq_true rfl) (Nat.le_of_ble_eq_true rfl) (Nat.le_of_ble_eq_true rfl) (fun v H7 hq hz => ?_) (fun _ _ _ h9 _ _ => h9.elim)
    obtain ⟨rfl, ht, hk1⟩ := hq
    have hk := hk.tr hk1
    have ht : twAt E H7 m ad (upd (upd sc 6 (if (0 ≤ x ∧ x ≤ 1) then 0 else 1)) 8 (sp_recall f0 x.toNatClampNeg (17 + 4 * x.toNatClampNeg))) (sp_recall f0 x.toNatClampNeg) f1 f0 f3 f4 fb ft fo := ht
    change Go E Z 2 H7 (0) (0) 21 [(0, .ref m), (1, .int x)] [.int (bI True), .ref m]
    refine f_invV (As := [.int (bI True)]) (rest := []) K (tm_done (E := E)  ht True hm hm2) cs_X9_375 dX9_recall_21 (tw_o ht) rfl rfl rfl (Nat.le_of_ble_eq_true rfl) (Nat.le_of_ble_eq_true rfl) (Nat.le_of_ble_eq_true rfl) (Nat.le_of_ble_eq_true rfl) (fun v H9 hq hz => ?_) (fun _ _ _ h9 _ _ => h9.elim)
    obtain ⟨rfl, ht, hk1⟩ := hq
    have hk := hk.tr hk1
    have ht : twAt E H9 m ad (upd (upd (upd sc 6 (if (0 ≤ x ∧ x ≤ 1) then 0 else 1)) 8 (sp_recall f0 x.toNatClampNeg (17 + 4 * x.toNatClampNeg))) 5 (nI (kp_n b))) (sp_recall f0 x.toNatClampNeg) f1 f0 f3 (kp_f f0 f4 b) fb ft fo := ht
    change Go E Z 2 H9 (0) (0) 24 [(0, .ref m), (1, .int x)] [.int ((upd (upd sc 6 (if (0 ≤ x ∧ x ≤ 1) then 0 else 1)) 8 (sp_recall f0 x.toNatClampNeg (17 + 4 * x.toNatClampNeg))) 8)]
    refine f_goto (tgt := 28) K dX9_recall_24 (by decide) ?_
    exact f_retI K X (Or.inl rfl) dX9_recall_28 (Nat.le_of_ble_eq_true rfl) (Nat.le_of_ble_eq_true rfl) (⟨rI (if_pos c_12).symm, (upd (upd (upd sc 6 (if (0 ≤ x ∧ x ≤ 1) then 0 else 1)) 8 (sp_recall f0 x.toNatClampNeg (17 + 4 * x.toNatClampNeg))) 5 (nI (kp_n b))), ⟨rfl, (if_pos c_12).symm, fun j h5 h6 h8 => (upd_ne h5).trans ((upd_ne h8).trans (upd_ne h6))⟩, _, by rw [show (if 0 ≤ x ∧ x ≤ 1 then sp_recall f0 x.toNatClampNeg else f0) = sp_recall f0 x.toNatClampNeg from if_pos c_12, show (if 0 ≤ x ∧ x ≤ 1 then kp_f f0 f4 b else f4) = kp_f f0 f4 b from if_pos c_12]; exact ht, hk⟩)
/-- addSacks(II)I -/
theorem tm_addSacks {E : fE} {H : Heap} {m : Nat} {ad : Nat → Nat} {sc f0 f1 f2 f3 f4 fb ft fo : Row} (ht : twAt E H m ad sc f0 f1 f2 f3 f4 fb ft fo) (x : Int32) (y : Int32) {n t b : Nat} (ok : okr n t f0) (hm : sc 5 = nI b) (hm2 : b ≤ 8) : fM E yX9_addSacks prog_17_method_135_code 3 (some .int) 4 0 0 [.ref m, .int x, .int y] H (fun r_ H' => r_ = some (.int (if (0 ≤ x ∧ x ≤ 1) ∧ (1 ≤ y ∧ y ≤ 99) then (sp_sacks f0 x.toNatClampNeg y (17 + 4 * x.toNatClampNeg + 2)) else 0)) ∧ ∃ x_sc : Row, (x_sc 6 = (if 0 ≤ x ∧ x ≤ 1 then (if 1 ≤ y ∧ y ≤ 99 then 0 else 2) else 1) ∧ x_sc 5 = (if (0 ≤ x ∧ x ≤ 1) ∧ (1 ≤ y ∧ y ≤ 99) then nI (kp_n b) else nI b) ∧ ∀ j : Nat, j ≠ 5 → j ≠ 6 → j ≠ 8 → x_sc j = sc j) ∧ ∃ x_f2 : Row, twAt E H' m ad x_sc (if (0 ≤ x ∧ x ≤ 1) ∧ (1 ≤ y ∧ y ≤ 99) then sp_sacks f0 x.toNatClampNeg y else f0) f1 x_f2 f3 (if (0 ≤ x ∧ x ≤ 1) ∧ (1 ≤ y ∧ y ≤ 99) then kp_f f0 f4 b else f4) fb ft fo ∧ twK m ad H H') noX := by
  refine f_start (own := "SnowPassModel") (nm := "addSacks") (lv := [(0, .ref m), (1, .int x), (2, .int y)]) pn_X9 rfl rfl (Nat.le_of_ble_eq_true rfl) rfl (fun Z K X => ?_)
  have hk := twK.rf (m := m) (ad := ad) (H := H)
  refine f_aload_n K dX9_addSacks_0 rfl ?_
  refine f_aload_n K dX9_addSacks_1 rfl ?_
  refine f_iload_n K dX9_addSacks_2 rfl ?_
  refine f_invS (As := [.int x]) (rest := [.ref m, .ref m]) K (tm_isSide (E := E)  x) cs_X9_342 dX9_addSacks_3 rfl rfl (Nat.le_of_ble_eq_true rfl) (Nat.le_of_ble_eq_true rfl) (Nat.le_of_ble_eq_true rfl) (Nat.le_of_ble_eq_true rfl) (fun v H1 hq hz => ?_) (fun _ _ _ h9 _ _ => h9.elim)
  obtain ⟨rfl, hq⟩ := hq
  rw [hq]
  change Go E Z 3 H (0) (0) 6 [(0, .ref m), (1, .int x), (2, .int y)] [.int (bI (0 ≤ x ∧ x ≤ 1)), .ref m, .ref m]
  refine f_iload_n K dX9_addSacks_6 rfl ?_
  refine f_i2l (v := y.toInt64) K dX9_addSacks_7 rfl ?_
  refine f_lconst (v := 1) K dX9_addSacks_8 rfl ?_
  refine f_ldc2 (v := 99) K q3906 dX9_addSacks_9 ?_
  refine f_invS (As := [.long y.toInt64, .long 1, .long 99]) (rest := [.int (bI (0 ≤ x ∧ x ≤ 1)), .ref m, .ref m]) K (tm_in (E := E)  y y.toInt64 (by rfl) 1 1 (by rfl) 99 99 (by rfl)) cs_X9_62 dX9_addSacks_12 rfl rfl (Nat.le_of_ble_eq_true rfl) (Nat.le_of_ble_eq_true rfl) (Nat.le_of_ble_eq_true rfl) (Nat.le_of_ble_eq_true rfl) (fun v H2 hq hz => ?_) (fun _ _ _ h9 _ _ => h9.elim)
  obtain ⟨rfl, hq⟩ := hq
  rw [hq]
  change Go E Z 3 H (0) (0) 15 [(0, .ref m), (1, .int x), (2, .int y)] [.int (bI (1 ≤ y ∧ y ≤ 99)), .int (bI (0 ≤ x ∧ x ≤ 1)), .ref m, .ref m]
  refine f_invV (As := [.int (bI (0 ≤ x ∧ x ≤ 1)), .int (bI (1 ≤ y ∧ y ≤ 99))]) (rest := [.ref m]) K (tm_passesBoth (E := E)  ht (0 ≤ x ∧ x ≤ 1) (1 ≤ y ∧ y ≤ 99)) cs_X9_356 dX9_addSacks_15 (tw_o ht) rfl rfl rfl (Nat.le_of_ble_eq_true rfl) (Nat.le_of_ble_eq_true rfl) (Nat.le_of_ble_eq_true rfl) (Nat.le_of_ble_eq_true rfl) (fun v H3 hq hz => ?_) (fun _ _ _ h9 _ _ => h9.elim)
  obtain ⟨rfl, ht, hk1⟩ := hq
  have hk := hk.tr hk1
  have ht : twAt E H3 m ad (upd sc 6 (if (0 ≤ x ∧ x ≤ 1) then (if (1 ≤ y ∧ y ≤ 99) then 0 else 2) else 1)) f0 f1 f2 f3 f4 fb ft fo := ht
  change Go E Z 3 H3 (0) (0) 18 [(0, .ref m), (1, .int x), (2, .int y)] [.int (bI ((0 ≤ x ∧ x ≤ 1) ∧ (1 ≤ y ∧ y ≤ 99))), .ref m]
  refine f_invV (As := [.int (bI ((0 ≤ x ∧ x ≤ 1) ∧ (1 ≤ y ∧ y ≤ 99)))]) (rest := []) K (tm_tried (E := E)  ht ((0 ≤ x ∧ x ≤ 1) ∧ (1 ≤ y ∧ y ≤ 99))) cs_X9_372 dX9_addSacks_18 (tw_o ht) rfl rfl rfl (Nat.le_of_ble_eq_true rfl) (Nat.le_of_ble_eq_true rfl) (Nat.le_of_ble_eq_true rfl) (Nat.le_of_ble_eq_true rfl) (fun v H5 hq hz => ?_) (fun _ _ _ h9 _ _ => h9.elim)
  obtain ⟨rfl, ht, hk1⟩ := hq
  have hk := hk.tr hk1
  have ht : twAt E H5 m ad (upd sc 6 (if (0 ≤ x ∧ x ≤ 1) then (if (1 ≤ y ∧ y ≤ 99) then 0 else 2) else 1)) f0 f1 (if ((0 ≤ x ∧ x ≤ 1) ∧ (1 ≤ y ∧ y ≤ 99)) then f0 else f2) f3 f4 fb ft fo := ht
  change Go E Z 3 H5 (0) (0) 21 [(0, .ref m), (1, .int x), (2, .int y)] [.int (bI ((0 ≤ x ∧ x ≤ 1) ∧ (1 ≤ y ∧ y ≤ 99)))]
  refine f_if_eqB (tgt := 37) K dX9_addSacks_21 (by decide) (fun c_21 => ?_) (fun c_21 => ?_)
  · refine f_iconst (v := 0) K dX9_addSacks_37 rfl ?_
    exact f_retI K X (Or.inl rfl) dX9_addSacks_38 (Nat.le_of_ble_eq_true rfl) (Nat.le_of_ble_eq_true rfl) (⟨rI (if_neg c_21).symm, (upd sc 6 (if (0 ≤ x ∧ x ≤ 1) then (if (1 ≤ y ∧ y ≤ 99) then 0 else 2) else 1)), ⟨rfl, hm.trans (if_neg c_21).symm, fun j h5 h6 h8 => upd_ne h6⟩, _, by rw [show (if (0 ≤ x ∧ x ≤ 1) ∧ (1 ≤ y ∧ y ≤ 99) then sp_sacks f0 x.toNatClampNeg y else f0) = f0 from if_neg c_21, show (if (0 ≤ x ∧ x ≤ 1) ∧ (1 ≤ y ∧ y ≤ 99) then kp_f f0 f4 b else f4) = f4 from if_neg c_21]; exact ht, hk⟩)
  · rw [show (if ((0 ≤ x ∧ x ≤ 1) ∧ (1 ≤ y ∧ y ≤ 99)) then f0 else f2) = f0 from if_pos c_21] at ht
    obtain ⟨hx, hxn⟩ := seg_in2 (n := 1) rfl (by decide) c_21.1
    refine f_aload_n K dX9_addSacks_24 rfl ?_
    refine f_aload_n K dX9_addSacks_25 rfl ?_
    refine f_iload_n K dX9_addSacks_26 rfl ?_
    refine f_iload_n K dX9_addSacks_27 rfl ?_
    refine f_invV (As := [.int x, .int y]) (rest := [.ref m]) K (tm_sacksNow (E := E) (p := x.toNatClampNeg) ht x hx y (by omega)) cs_X9_310 dX9_addSacks_28 (tw_o ht) rfl rfl rfl (Nat.le_of_ble_eq_true rfl) (Nat.le_of_ble_eq_true rfl) (Nat.le_of_ble_eq_true rfl) (Nat.le_of_ble_eq_true rfl) (fun v H8 hq hz => ?_) (fun _ _ _ h9 _ _ => h9.elim)
    obtain ⟨rfl, ht, hk1⟩ := hq
    have hk := hk.tr hk1
    have ht : twAt E H8 m ad (upd (upd sc 6 (if (0 ≤ x ∧ x ≤ 1) then (if (1 ≤ y ∧ y ≤ 99) then 0 else 2) else 1)) 8 (sp_sacks f0 x.toNatClampNeg y (17 + 4 * x.toNatClampNeg + 2))) (sp_sacks f0 x.toNatClampNeg y) f1 f0 f3 f4 fb ft fo := ht
    change Go E Z 3 H8 (0) (0) 31 [(0, .ref m), (1, .int x), (2, .int y)] [.int (bI True), .ref m]
    refine f_invV (As := [.int (bI True)]) (rest := []) K (tm_done (E := E)  ht True hm hm2) cs_X9_375 dX9_addSacks_31 (tw_o ht) rfl rfl rfl (Nat.le_of_ble_eq_true rfl) (Nat.le_of_ble_eq_true rfl) (Nat.le_of_ble_eq_true rfl) (Nat.le_of_ble_eq_true rfl) (fun v H10 hq hz => ?_) (fun _ _ _ h9 _ _ => h9.elim)
    obtain ⟨rfl, ht, hk1⟩ := hq
    have hk := hk.tr hk1
    have ht : twAt E H10 m ad (upd (upd (upd sc 6 (if (0 ≤ x ∧ x ≤ 1) then (if (1 ≤ y ∧ y ≤ 99) then 0 else 2) else 1)) 8 (sp_sacks f0 x.toNatClampNeg y (17 + 4 * x.toNatClampNeg + 2))) 5 (nI (kp_n b))) (sp_sacks f0 x.toNatClampNeg y) f1 f0 f3 (kp_f f0 f4 b) fb ft fo := ht
    change Go E Z 3 H10 (0) (0) 34 [(0, .ref m), (1, .int x), (2, .int y)] [.int ((upd (upd sc 6 (if (0 ≤ x ∧ x ≤ 1) then (if (1 ≤ y ∧ y ≤ 99) then 0 else 2) else 1)) 8 (sp_sacks f0 x.toNatClampNeg y (17 + 4 * x.toNatClampNeg + 2))) 8)]
    refine f_goto (tgt := 38) K dX9_addSacks_34 (by decide) ?_
    exact f_retI K X (Or.inl rfl) dX9_addSacks_38 (Nat.le_of_ble_eq_true rfl) (Nat.le_of_ble_eq_true rfl) (⟨rI (if_pos c_21).symm, (upd (upd (upd sc 6 (if (0 ≤ x ∧ x ≤ 1) then (if (1 ≤ y ∧ y ≤ 99) then 0 else 2) else 1)) 8 (sp_sacks f0 x.toNatClampNeg y (17 + 4 * x.toNatClampNeg + 2))) 5 (nI (kp_n b))), ⟨rfl, (if_pos c_21).symm, fun j h5 h6 h8 => (upd_ne h5).trans ((upd_ne h8).trans (upd_ne h6))⟩, _, by rw [show (if (0 ≤ x ∧ x ≤ 1) ∧ (1 ≤ y ∧ y ≤ 99) then sp_sacks f0 x.toNatClampNeg y else f0) = sp_sacks f0 x.toNatClampNeg y from if_pos c_21, show (if (0 ≤ x ∧ x ≤ 1) ∧ (1 ≤ y ∧ y ≤ 99) then kp_f f0 f4 b else f4) = kp_f f0 f4 b from if_pos c_21]; exact ht, hk⟩)
/-- setSnowfall(I)I -/
theorem tm_setSnowfall {E : fE} {H : Heap} {m : Nat} {ad : Nat → Nat} {sc f0 f1 f2 f3 f4 fb ft fo : Row} (ht : twAt E H m ad sc f0 f1 f2 f3 f4 fb ft fo) (x : Int32) {n t b : Nat} (ok : okr n t f0) (hm : sc 5 = nI b) (hm2 : b ≤ 8) : fM E yX9_setSnowfall prog_17_method_136_code 2 (some .int) 4 0 0 [.ref m, .int x] H (fun r_ H' => r_ = some (.int (if 0 ≤ x ∧ x ≤ 99 then f0 5 else 0)) ∧ ∃ x_sc : Row, (x_sc 6 = (if 0 ≤ x ∧ x ≤ 99 then 0 else 1) ∧ x_sc 5 = (if 0 ≤ x ∧ x ≤ 99 then nI (kp_n b) else nI b) ∧ ∀ j : Nat, j ≠ 5 → j ≠ 6 → j ≠ 8 → x_sc j = sc j) ∧ ∃ x_f2 : Row, twAt E H' m ad x_sc (if 0 ≤ x ∧ x ≤ 99 then upd f0 5 x else f0) f1 x_f2 f3 (if 0 ≤ x ∧ x ≤ 99 then kp_f f0 f4 b else f4) fb ft fo ∧ twK m ad H H') noX := by
  refine f_start (own := "SnowPassModel") (nm := "setSnowfall") (lv := [(0, .ref m), (1, .int x)]) pn_X9 rfl rfl (Nat.le_of_ble_eq_true rfl) rfl (fun Z K X => ?_)
  have hk := twK.rf (m := m) (ad := ad) (H := H)
  refine f_aload_n K dX9_setSnowfall_0 rfl ?_
  refine f_aload_n K dX9_setSnowfall_1 rfl ?_
  refine f_iload_n K dX9_setSnowfall_2 rfl ?_
  refine f_i2l (v := x.toInt64) K dX9_setSnowfall_3 rfl ?_
  refine f_lconst (v := 0) K dX9_setSnowfall_4 rfl ?_
  refine f_ldc2 (v := 99) K q3906 dX9_setSnowfall_5 ?_
  refine f_invS (As := [.long x.toInt64, .long 0, .long 99]) (rest := [.ref m, .ref m]) K (tm_in (E := E)  x x.toInt64 (by rfl) 0 0 (by rfl) 99 99 (by rfl)) cs_X9_62 dX9_setSnowfall_8 rfl rfl (Nat.le_of_ble_eq_true rfl) (Nat.le_of_ble_eq_true rfl) (Nat.le_of_ble_eq_true rfl) (Nat.le_of_ble_eq_true rfl) (fun v H1 hq hz => ?_) (fun _ _ _ h9 _ _ => h9.elim)
  obtain ⟨rfl, hq⟩ := hq
  rw [hq]
  change Go E Z 2 H (0) (0) 11 [(0, .ref m), (1, .int x)] [.int (bI (0 ≤ x ∧ x ≤ 99)), .ref m, .ref m]
  refine f_invV (As := [.int (bI (0 ≤ x ∧ x ≤ 99))]) (rest := [.ref m]) K (tm_passes (E := E)  ht (0 ≤ x ∧ x ≤ 99)) cs_X9_164 dX9_setSnowfall_11 (tw_o ht) rfl rfl rfl (Nat.le_of_ble_eq_true rfl) (Nat.le_of_ble_eq_true rfl) (Nat.le_of_ble_eq_true rfl) (Nat.le_of_ble_eq_true rfl) (fun v H2 hq hz => ?_) (fun _ _ _ h9 _ _ => h9.elim)
  obtain ⟨rfl, ht, hk1⟩ := hq
  have hk := hk.tr hk1
  have ht : twAt E H2 m ad (upd sc 6 (if (0 ≤ x ∧ x ≤ 99) then 0 else 1)) f0 f1 f2 f3 f4 fb ft fo := ht
  change Go E Z 2 H2 (0) (0) 14 [(0, .ref m), (1, .int x)] [.int (bI (0 ≤ x ∧ x ≤ 99)), .ref m]
  refine f_invV (As := [.int (bI (0 ≤ x ∧ x ≤ 99))]) (rest := []) K (tm_tried (E := E)  ht (0 ≤ x ∧ x ≤ 99)) cs_X9_372 dX9_setSnowfall_14 (tw_o ht) rfl rfl rfl (Nat.le_of_ble_eq_true rfl) (Nat.le_of_ble_eq_true rfl) (Nat.le_of_ble_eq_true rfl) (Nat.le_of_ble_eq_true rfl) (fun v H4 hq hz => ?_) (fun _ _ _ h9 _ _ => h9.elim)
  obtain ⟨rfl, ht, hk1⟩ := hq
  have hk := hk.tr hk1
  have ht : twAt E H4 m ad (upd sc 6 (if (0 ≤ x ∧ x ≤ 99) then 0 else 1)) f0 f1 (if (0 ≤ x ∧ x ≤ 99) then f0 else f2) f3 f4 fb ft fo := ht
  change Go E Z 2 H4 (0) (0) 17 [(0, .ref m), (1, .int x)] [.int (bI (0 ≤ x ∧ x ≤ 99))]
  refine f_if_eqB (tgt := 33) K dX9_setSnowfall_17 (by decide) (fun c_17 => ?_) (fun c_17 => ?_)
  · refine f_iconst (v := 0) K dX9_setSnowfall_33 rfl ?_
    exact f_retI K X (Or.inl rfl) dX9_setSnowfall_34 (Nat.le_of_ble_eq_true rfl) (Nat.le_of_ble_eq_true rfl) (⟨rI (if_neg c_17).symm, (upd sc 6 (if (0 ≤ x ∧ x ≤ 99) then 0 else 1)), ⟨rfl, hm.trans (if_neg c_17).symm, fun j h5 h6 h8 => upd_ne h6⟩, _, by rw [show (if 0 ≤ x ∧ x ≤ 99 then upd f0 5 x else f0) = f0 from if_neg c_17, show (if 0 ≤ x ∧ x ≤ 99 then kp_f f0 f4 b else f4) = f4 from if_neg c_17]; exact ht, hk⟩)
  · rw [show (if (0 ≤ x ∧ x ≤ 99) then f0 else f2) = f0 from if_pos c_17] at ht
    refine f_aload_n K dX9_setSnowfall_20 rfl ?_
    refine f_aload_n K dX9_setSnowfall_21 rfl ?_
    refine f_iconst (v := 5) K dX9_setSnowfall_22 rfl ?_
    refine f_iload_n K dX9_setSnowfall_23 rfl ?_
    refine f_invV (As := [.int 5, .int x]) (rest := [.ref m]) K (tm_setNow (E := E) (c := 5) ht 5 nl_5 x (by omega)) cs_X9_313 dX9_setSnowfall_24 (tw_o ht) rfl rfl rfl (Nat.le_of_ble_eq_true rfl) (Nat.le_of_ble_eq_true rfl) (Nat.le_of_ble_eq_true rfl) (Nat.le_of_ble_eq_true rfl) (fun v H7 hq hz => ?_) (fun _ _ _ h9 _ _ => h9.elim)
    obtain ⟨rfl, ht, hk1⟩ := hq
    have hk := hk.tr hk1
    have ht : twAt E H7 m ad (upd (upd sc 6 (if (0 ≤ x ∧ x ≤ 99) then 0 else 1)) 8 (f0 5)) (upd f0 5 x) f1 f0 f3 f4 fb ft fo := ht
    change Go E Z 2 H7 (0) (0) 27 [(0, .ref m), (1, .int x)] [.int (bI True), .ref m]
    refine f_invV (As := [.int (bI True)]) (rest := []) K (tm_done (E := E)  ht True hm hm2) cs_X9_375 dX9_setSnowfall_27 (tw_o ht) rfl rfl rfl (Nat.le_of_ble_eq_true rfl) (Nat.le_of_ble_eq_true rfl) (Nat.le_of_ble_eq_true rfl) (Nat.le_of_ble_eq_true rfl) (fun v H9 hq hz => ?_) (fun _ _ _ h9 _ _ => h9.elim)
    obtain ⟨rfl, ht, hk1⟩ := hq
    have hk := hk.tr hk1
    have ht : twAt E H9 m ad (upd (upd (upd sc 6 (if (0 ≤ x ∧ x ≤ 99) then 0 else 1)) 8 (f0 5)) 5 (nI (kp_n b))) (upd f0 5 x) f1 f0 f3 (kp_f f0 f4 b) fb ft fo := ht
    change Go E Z 2 H9 (0) (0) 30 [(0, .ref m), (1, .int x)] [.int ((upd (upd sc 6 (if (0 ≤ x ∧ x ≤ 99) then 0 else 1)) 8 (f0 5)) 8)]
    refine f_goto (tgt := 34) K dX9_setSnowfall_30 (by decide) ?_
    exact f_retI K X (Or.inl rfl) dX9_setSnowfall_34 (Nat.le_of_ble_eq_true rfl) (Nat.le_of_ble_eq_true rfl) (⟨rI (if_pos c_17).symm, (upd (upd (upd sc 6 (if (0 ≤ x ∧ x ≤ 99) then 0 else 1)) 8 (f0 5)) 5 (nI (kp_n b))), ⟨rfl, (if_pos c_17).symm, fun j h5 h6 h8 => (upd_ne h5).trans ((upd_ne h8).trans (upd_ne h6))⟩, _, by rw [show (if 0 ≤ x ∧ x ≤ 99 then upd f0 5 x else f0) = upd f0 5 x from if_pos c_17, show (if 0 ≤ x ∧ x ≤ 99 then kp_f f0 f4 b else f4) = kp_f f0 f4 b from if_pos c_17]; exact ht, hk⟩)
/-- setWind(I)I -/
theorem tm_setWind {E : fE} {H : Heap} {m : Nat} {ad : Nat → Nat} {sc f0 f1 f2 f3 f4 fb ft fo : Row} (ht : twAt E H m ad sc f0 f1 f2 f3 f4 fb ft fo) (x : Int32) {n t b : Nat} (ok : okr n t f0) (hm : sc 5 = nI b) (hm2 : b ≤ 8) : fM E yX9_setWind prog_17_method_137_code 2 (some .int) 4 0 0 [.ref m, .int x] H (fun r_ H' => r_ = some (.int (if 0 ≤ x ∧ x ≤ 9 then f0 6 else 0)) ∧ ∃ x_sc : Row, (x_sc 6 = (if 0 ≤ x ∧ x ≤ 9 then 0 else 1) ∧ x_sc 5 = (if 0 ≤ x ∧ x ≤ 9 then nI (kp_n b) else nI b) ∧ ∀ j : Nat, j ≠ 5 → j ≠ 6 → j ≠ 8 → x_sc j = sc j) ∧ ∃ x_f2 : Row, twAt E H' m ad x_sc (if 0 ≤ x ∧ x ≤ 9 then upd f0 6 x else f0) f1 x_f2 f3 (if 0 ≤ x ∧ x ≤ 9 then kp_f f0 f4 b else f4) fb ft fo ∧ twK m ad H H') noX := by
  refine f_start (own := "SnowPassModel") (nm := "setWind") (lv := [(0, .ref m), (1, .int x)]) pn_X9 rfl rfl (Nat.le_of_ble_eq_true rfl) rfl (fun Z K X => ?_)
  have hk := twK.rf (m := m) (ad := ad) (H := H)
  refine f_aload_n K dX9_setWind_0 rfl ?_
  refine f_aload_n K dX9_setWind_1 rfl ?_
  refine f_iload_n K dX9_setWind_2 rfl ?_
  refine f_i2l (v := x.toInt64) K dX9_setWind_3 rfl ?_
  refine f_lconst (v := 0) K dX9_setWind_4 rfl ?_
  refine f_ldc2 (v := 9) K q3915 dX9_setWind_5 ?_
  refine f_invS (As := [.long x.toInt64, .long 0, .long 9]) (rest := [.ref m, .ref m]) K (tm_in (E := E)  x x.toInt64 (by rfl) 0 0 (by rfl) 9 9 (by rfl)) cs_X9_62 dX9_setWind_8 rfl rfl (Nat.le_of_ble_eq_true rfl) (Nat.le_of_ble_eq_true rfl) (Nat.le_of_ble_eq_true rfl) (Nat.le_of_ble_eq_true rfl) (fun v H1 hq hz => ?_) (fun _ _ _ h9 _ _ => h9.elim)
  obtain ⟨rfl, hq⟩ := hq
  rw [hq]
  change Go E Z 2 H (0) (0) 11 [(0, .ref m), (1, .int x)] [.int (bI (0 ≤ x ∧ x ≤ 9)), .ref m, .ref m]
  refine f_invV (As := [.int (bI (0 ≤ x ∧ x ≤ 9))]) (rest := [.ref m]) K (tm_passes (E := E)  ht (0 ≤ x ∧ x ≤ 9)) cs_X9_164 dX9_setWind_11 (tw_o ht) rfl rfl rfl (Nat.le_of_ble_eq_true rfl) (Nat.le_of_ble_eq_true rfl) (Nat.le_of_ble_eq_true rfl) (Nat.le_of_ble_eq_true rfl) (fun v H2 hq hz => ?_) (fun _ _ _ h9 _ _ => h9.elim)
  obtain ⟨rfl, ht, hk1⟩ := hq
  have hk := hk.tr hk1
  have ht : twAt E H2 m ad (upd sc 6 (if (0 ≤ x ∧ x ≤ 9) then 0 else 1)) f0 f1 f2 f3 f4 fb ft fo := ht
  change Go E Z 2 H2 (0) (0) 14 [(0, .ref m), (1, .int x)] [.int (bI (0 ≤ x ∧ x ≤ 9)), .ref m]
  refine f_invV (As := [.int (bI (0 ≤ x ∧ x ≤ 9))]) (rest := []) K (tm_tried (E := E)  ht (0 ≤ x ∧ x ≤ 9)) cs_X9_372 dX9_setWind_14 (tw_o ht) rfl rfl rfl (Nat.le_of_ble_eq_true rfl) (Nat.le_of_ble_eq_true rfl) (Nat.le_of_ble_eq_true rfl) (Nat.le_of_ble_eq_true rfl) (fun v H4 hq hz => ?_) (fun _ _ _ h9 _ _ => h9.elim)
  obtain ⟨rfl, ht, hk1⟩ := hq
  have hk := hk.tr hk1
  have ht : twAt E H4 m ad (upd sc 6 (if (0 ≤ x ∧ x ≤ 9) then 0 else 1)) f0 f1 (if (0 ≤ x ∧ x ≤ 9) then f0 else f2) f3 f4 fb ft fo := ht
  change Go E Z 2 H4 (0) (0) 17 [(0, .ref m), (1, .int x)] [.int (bI (0 ≤ x ∧ x ≤ 9))]
  refine f_if_eqB (tgt := 34) K dX9_setWind_17 (by decide) (fun c_17 => ?_) (fun c_17 => ?_)
  · refine f_iconst (v := 0) K dX9_setWind_34 rfl ?_
    exact f_retI K X (Or.inl rfl) dX9_setWind_35 (Nat.le_of_ble_eq_true rfl) (Nat.le_of_ble_eq_true rfl) (⟨rI (if_neg c_17).symm, (upd sc 6 (if (0 ≤ x ∧ x ≤ 9) then 0 else 1)), ⟨rfl, hm.trans (if_neg c_17).symm, fun j h5 h6 h8 => upd_ne h6⟩, _, by rw [show (if 0 ≤ x ∧ x ≤ 9 then upd f0 6 x else f0) = f0 from if_neg c_17, show (if 0 ≤ x ∧ x ≤ 9 then kp_f f0 f4 b else f4) = f4 from if_neg c_17]; exact ht, hk⟩)
  · rw [show (if (0 ≤ x ∧ x ≤ 9) then f0 else f2) = f0 from if_pos c_17] at ht
    refine f_aload_n K dX9_setWind_20 rfl ?_
    refine f_aload_n K dX9_setWind_21 rfl ?_
    refine f_bipush (v := 6) K dX9_setWind_22 rfl ?_
    refine f_iload_n K dX9_setWind_24 rfl ?_
    refine f_invV (As := [.int 6, .int x]) (rest := [.ref m]) K (tm_setNow (E := E) (c := 6) ht 6 nl_6 x (by omega)) cs_X9_313 dX9_setWind_25 (tw_o ht) rfl rfl rfl (Nat.le_of_ble_eq_true rfl) (Nat.le_of_ble_eq_true rfl) (Nat.le_of_ble_eq_true rfl) (Nat.le_of_ble_eq_true rfl) (fun v H7 hq hz => ?_) (fun _ _ _ h9 _ _ => h9.elim)
    obtain ⟨rfl, ht, hk1⟩ := hq
    have hk := hk.tr hk1
    have ht : twAt E H7 m ad (upd (upd sc 6 (if (0 ≤ x ∧ x ≤ 9) then 0 else 1)) 8 (f0 6)) (upd f0 6 x) f1 f0 f3 f4 fb ft fo := ht
    change Go E Z 2 H7 (0) (0) 28 [(0, .ref m), (1, .int x)] [.int (bI True), .ref m]
    refine f_invV (As := [.int (bI True)]) (rest := []) K (tm_done (E := E)  ht True hm hm2) cs_X9_375 dX9_setWind_28 (tw_o ht) rfl rfl rfl (Nat.le_of_ble_eq_true rfl) (Nat.le_of_ble_eq_true rfl) (Nat.le_of_ble_eq_true rfl) (Nat.le_of_ble_eq_true rfl) (fun v H9 hq hz => ?_) (fun _ _ _ h9 _ _ => h9.elim)
    obtain ⟨rfl, ht, hk1⟩ := hq
    have hk := hk.tr hk1
    have ht : twAt E H9 m ad (upd (upd (upd sc 6 (if (0 ≤ x ∧ x ≤ 9) then 0 else 1)) 8 (f0 6)) 5 (nI (kp_n b))) (upd f0 6 x) f1 f0 f3 (kp_f f0 f4 b) fb ft fo := ht
    change Go E Z 2 H9 (0) (0) 31 [(0, .ref m), (1, .int x)] [.int ((upd (upd sc 6 (if (0 ≤ x ∧ x ≤ 9) then 0 else 1)) 8 (f0 6)) 8)]
    refine f_goto (tgt := 35) K dX9_setWind_31 (by decide) ?_
    exact f_retI K X (Or.inl rfl) dX9_setWind_35 (Nat.le_of_ble_eq_true rfl) (Nat.le_of_ble_eq_true rfl) (⟨rI (if_pos c_17).symm, (upd (upd (upd sc 6 (if (0 ≤ x ∧ x ≤ 9) then 0 else 1)) 8 (f0 6)) 5 (nI (kp_n b))), ⟨rfl, (if_pos c_17).symm, fun j h5 h6 h8 => (upd_ne h5).trans ((upd_ne h8).trans (upd_ne h6))⟩, _, by rw [show (if 0 ≤ x ∧ x ≤ 9 then upd f0 6 x else f0) = upd f0 6 x from if_pos c_17, show (if 0 ≤ x ∧ x ≤ 9 then kp_f f0 f4 b else f4) = kp_f f0 f4 b from if_pos c_17]; exact ht, hk⟩)
/-- spreadSalt(I)I -/
theorem tm_spreadSalt {E : fE} {H : Heap} {m : Nat} {ad : Nat → Nat} {sc f0 f1 f2 f3 f4 fb ft fo : Row} (ht : twAt E H m ad sc f0 f1 f2 f3 f4 fb ft fo) (x : Int32) {n t b : Nat} (ok : okr n t f0) (hm : sc 5 = nI b) (hm2 : b ≤ 8) : fM E yX9_spreadSalt prog_17_method_133_code 3 (some .int) 4 0 0 [.ref m, .int x] H (fun r_ H' => r_ = some (.int (if (0 ≤ x ∧ x ≤ 1) ∧ 0 < f0 (17 + 4 * x.toNatClampNeg + 2) then f0 (17 + 4 * x.toNatClampNeg + 2) - 1 else 0)) ∧ ∃ x_sc : Row, (x_sc 6 = (if 0 ≤ x ∧ x ≤ 1 then (if 0 < f0 (17 + 4 * x.toNatClampNeg + 2) then 0 else 2) else 1) ∧ x_sc 5 = (if (0 ≤ x ∧ x ≤ 1) ∧ 0 < f0 (17 + 4 * x.toNatClampNeg + 2) then nI (kp_n b) else nI b) ∧ ∀ j : Nat, j ≠ 5 → j ≠ 6 → j ≠ 8 → x_sc j = sc j) ∧ ∃ x_f2 : Row, twAt E H' m ad x_sc (if (0 ≤ x ∧ x ≤ 1) ∧ 0 < f0 (17 + 4 * x.toNatClampNeg + 2) then sp_salt f0 x.toNatClampNeg else f0) f1 x_f2 f3 (if (0 ≤ x ∧ x ≤ 1) ∧ 0 < f0 (17 + 4 * x.toNatClampNeg + 2) then kp_f f0 f4 b else f4) fb ft fo ∧ twK m ad H H') noX := by
  refine f_start (own := "SnowPassModel") (nm := "spreadSalt") (lv := [(0, .ref m), (1, .int x)]) pn_X9 rfl rfl (Nat.le_of_ble_eq_true rfl) rfl (fun Z K X => ?_)
  have hk := twK.rf (m := m) (ad := ad) (H := H)
  refine f_iload_n K dX9_spreadSalt_0 rfl ?_
  refine f_invS (As := [.int x]) (rest := []) K (tm_isSide (E := E)  x) cs_X9_342 dX9_spreadSalt_1 rfl rfl (Nat.le_of_ble_eq_true rfl) (Nat.le_of_ble_eq_true rfl) (Nat.le_of_ble_eq_true rfl) (Nat.le_of_ble_eq_true rfl) (fun v H1 hq hz => ?_) (fun _ _ _ h9 _ _ => h9.elim)
  obtain ⟨rfl, hq⟩ := hq
  rw [hq]
  change Go E Z 3 H (0) (0) 4 [(0, .ref m), (1, .int x)] [.int (bI (0 ≤ x ∧ x ≤ 1))]
  refine f_if_eqB (tgt := 20) K dX9_spreadSalt_4 (by decide) (fun c_4 => ?_) (fun c_4 => ?_)
  · refine f_iconst (v := 0) K dX9_spreadSalt_20 rfl ?_
    refine f_istore_n (lv' := [(2, .int 0), (0, .ref m), (1, .int x)]) K dX9_spreadSalt_21 (by decide) rfl ?_
    refine f_aload_n K dX9_spreadSalt_22 rfl ?_
    refine f_aload_n K dX9_spreadSalt_23 rfl ?_
    refine f_iload_n K dX9_spreadSalt_24 rfl ?_
    refine f_invS (As := [.int x]) (rest := [.ref m, .ref m]) K (tm_isSide (E := E)  x) cs_X9_342 dX9_spreadSalt_25 rfl rfl (Nat.le_of_ble_eq_true rfl) (Nat.le_of_ble_eq_true rfl) (Nat.le_of_ble_eq_true rfl) (Nat.le_of_ble_eq_true rfl) (fun v H3 hq hz => ?_) (fun _ _ _ h9 _ _ => h9.elim)
    obtain ⟨rfl, hq⟩ := hq
    rw [hq]
    change Go E Z 3 H (0) (0) 28 [(2, .int 0), (0, .ref m), (1, .int x)] [.int (bI (0 ≤ x ∧ x ≤ 1)), .ref m, .ref m]
    refine f_iload_n K dX9_spreadSalt_28 rfl ?_
    refine f_invV (As := [.int (bI (0 ≤ x ∧ x ≤ 1)), .int 0]) (rest := [.ref m]) K (tm_passesBoth (E := E)  ht (0 ≤ x ∧ x ≤ 1) False) cs_X9_356 dX9_spreadSalt_29 (tw_o ht) rfl rfl rfl (Nat.le_of_ble_eq_true rfl) (Nat.le_of_ble_eq_true rfl) (Nat.le_of_ble_eq_true rfl) (Nat.le_of_ble_eq_true rfl) (fun v H4 hq hz => ?_) (fun _ _ _ h9 _ _ => h9.elim)
    obtain ⟨rfl, ht, hk1⟩ := hq
    have hk := hk.tr hk1
    have ht : twAt E H4 m ad (upd sc 6 (if (0 ≤ x ∧ x ≤ 1) then (if False then 0 else 2) else 1)) f0 f1 f2 f3 f4 fb ft fo := ht
    change Go E Z 3 H4 (0) (0) 32 [(2, .int 0), (0, .ref m), (1, .int x)] [.int (bI ((0 ≤ x ∧ x ≤ 1) ∧ False)), .ref m]
    refine f_invV (As := [.int (bI ((0 ≤ x ∧ x ≤ 1) ∧ False))]) (rest := []) K (tm_tried (E := E)  ht ((0 ≤ x ∧ x ≤ 1) ∧ False)) cs_X9_372 dX9_spreadSalt_32 (tw_o ht) rfl rfl rfl (Nat.le_of_ble_eq_true rfl) (Nat.le_of_ble_eq_true rfl) (Nat.le_of_ble_eq_true rfl) (Nat.le_of_ble_eq_true rfl) (fun v H6 hq hz => ?_) (fun _ _ _ h9 _ _ => h9.elim)
    obtain ⟨rfl, ht, hk1⟩ := hq
    have hk := hk.tr hk1
    have ht : twAt E H6 m ad (upd sc 6 (if (0 ≤ x ∧ x ≤ 1) then (if False then 0 else 2) else 1)) f0 f1 (if ((0 ≤ x ∧ x ≤ 1) ∧ False) then f0 else f2) f3 f4 fb ft fo := ht
    change Go E Z 3 H6 (0) (0) 35 [(2, .int 0), (0, .ref m), (1, .int x)] [.int (bI ((0 ≤ x ∧ x ≤ 1) ∧ False))]
    refine f_if_eqB (tgt := 50) K dX9_spreadSalt_35 (by decide) (fun c_35 => ?_) (fun c_35 => ?_)
    · refine f_iconst (v := 0) K dX9_spreadSalt_50 rfl ?_
      exact f_retI K X (Or.inl rfl) dX9_spreadSalt_51 (Nat.le_of_ble_eq_true rfl) (Nat.le_of_ble_eq_true rfl) (⟨rI (if_neg (fun z => c_4 z.1)).symm, (upd sc 6 (if (0 ≤ x ∧ x ≤ 1) then (if False then 0 else 2) else 1)), ⟨(by show (if 0 ≤ x ∧ x ≤ 1 then (if False then (0 : Int32) else 2) else 1) = _; rw [if_neg c_4, if_neg c_4]), hm.trans (if_neg (fun z => c_4 z.1)).symm, fun j h5 h6 h8 => upd_ne h6⟩, _, by rw [show (if (0 ≤ x ∧ x ≤ 1) ∧ 0 < f0 (17 + 4 * x.toNatClampNeg + 2) then sp_salt f0 x.toNatClampNeg else f0) = f0 from if_neg (fun z => c_4 z.1), show (if (0 ≤ x ∧ x ≤ 1) ∧ 0 < f0 (17 + 4 * x.toNatClampNeg + 2) then kp_f f0 f4 b else f4) = f4 from if_neg (fun z => c_4 z.1)]; exact ht, hk⟩)
    · exact absurd c_35.2 id
  · obtain ⟨hx, hxn⟩ := seg_in2 (n := 1) rfl (by decide) c_4
    refine f_aload_n K dX9_spreadSalt_7 rfl ?_
    refine f_iload_n K dX9_spreadSalt_8 rfl ?_
    refine f_iconst (v := 2) K dX9_spreadSalt_9 rfl ?_
    refine f_invV (As := [.int x, .int 2]) (rest := []) K (tm_ofPlough (E := E) (p := x.toNatClampNeg) (w := 2) ht x hx 2 nl_2 (by omega)) cs_X9_70 dX9_spreadSalt_10 (tw_o ht) rfl rfl rfl (Nat.le_of_ble_eq_true rfl) (Nat.le_of_ble_eq_true rfl) (Nat.le_of_ble_eq_true rfl) (Nat.le_of_ble_eq_true rfl) (fun v H9 hq hz => ?_) (fun _ _ _ h9 _ _ => h9.elim)
    obtain ⟨rfl, hq⟩ := hq
    rw [hq]
    change Go E Z 3 H (0) (0) 13 [(0, .ref m), (1, .int x)] [.int (f0 (17 + 4 * x.toNatClampNeg + 2))]
    refine f_if_le (tgt := 20) K dX9_spreadSalt_13 (by decide) (fun c_13 => ?_) (fun c_13 => ?_)
    · refine f_iconst (v := 0) K dX9_spreadSalt_20 rfl ?_
      refine f_istore_n (lv' := [(2, .int 0), (0, .ref m), (1, .int x)]) K dX9_spreadSalt_21 (by decide) rfl ?_
      refine f_aload_n K dX9_spreadSalt_22 rfl ?_
      refine f_aload_n K dX9_spreadSalt_23 rfl ?_
      refine f_iload_n K dX9_spreadSalt_24 rfl ?_
      refine f_invS (As := [.int x]) (rest := [.ref m, .ref m]) K (tm_isSide (E := E)  x) cs_X9_342 dX9_spreadSalt_25 rfl rfl (Nat.le_of_ble_eq_true rfl) (Nat.le_of_ble_eq_true rfl) (Nat.le_of_ble_eq_true rfl) (Nat.le_of_ble_eq_true rfl) (fun v H11 hq hz => ?_) (fun _ _ _ h9 _ _ => h9.elim)
      obtain ⟨rfl, hq⟩ := hq
      rw [hq]
      change Go E Z 3 H (0) (0) 28 [(2, .int 0), (0, .ref m), (1, .int x)] [.int (bI (0 ≤ x ∧ x ≤ 1)), .ref m, .ref m]
      refine f_iload_n K dX9_spreadSalt_28 rfl ?_
      refine f_invV (As := [.int (bI (0 ≤ x ∧ x ≤ 1)), .int 0]) (rest := [.ref m]) K (tm_passesBoth (E := E)  ht (0 ≤ x ∧ x ≤ 1) False) cs_X9_356 dX9_spreadSalt_29 (tw_o ht) rfl rfl rfl (Nat.le_of_ble_eq_true rfl) (Nat.le_of_ble_eq_true rfl) (Nat.le_of_ble_eq_true rfl) (Nat.le_of_ble_eq_true rfl) (fun v H12 hq hz => ?_) (fun _ _ _ h9 _ _ => h9.elim)
      obtain ⟨rfl, ht, hk1⟩ := hq
      have hk := hk.tr hk1
      have ht : twAt E H12 m ad (upd sc 6 (if (0 ≤ x ∧ x ≤ 1) then (if False then 0 else 2) else 1)) f0 f1 f2 f3 f4 fb ft fo := ht
      change Go E Z 3 H12 (0) (0) 32 [(2, .int 0), (0, .ref m), (1, .int x)] [.int (bI ((0 ≤ x ∧ x ≤ 1) ∧ False)), .ref m]
      refine f_invV (As := [.int (bI ((0 ≤ x ∧ x ≤ 1) ∧ False))]) (rest := []) K (tm_tried (E := E)  ht ((0 ≤ x ∧ x ≤ 1) ∧ False)) cs_X9_372 dX9_spreadSalt_32 (tw_o ht) rfl rfl rfl (Nat.le_of_ble_eq_true rfl) (Nat.le_of_ble_eq_true rfl) (Nat.le_of_ble_eq_true rfl) (Nat.le_of_ble_eq_true rfl) (fun v H14 hq hz => ?_) (fun _ _ _ h9 _ _ => h9.elim)
      obtain ⟨rfl, ht, hk1⟩ := hq
      have hk := hk.tr hk1
      have ht : twAt E H14 m ad (upd sc 6 (if (0 ≤ x ∧ x ≤ 1) then (if False then 0 else 2) else 1)) f0 f1 (if ((0 ≤ x ∧ x ≤ 1) ∧ False) then f0 else f2) f3 f4 fb ft fo := ht
      change Go E Z 3 H14 (0) (0) 35 [(2, .int 0), (0, .ref m), (1, .int x)] [.int (bI ((0 ≤ x ∧ x ≤ 1) ∧ False))]
      refine f_if_eqB (tgt := 50) K dX9_spreadSalt_35 (by decide) (fun c_35 => ?_) (fun c_35 => ?_)
      · refine f_iconst (v := 0) K dX9_spreadSalt_50 rfl ?_
        exact f_retI K X (Or.inl rfl) dX9_spreadSalt_51 (Nat.le_of_ble_eq_true rfl) (Nat.le_of_ble_eq_true rfl) (⟨rI (if_neg (fun z => (Int32.not_lt.mpr c_13) z.2)).symm, (upd sc 6 (if (0 ≤ x ∧ x ≤ 1) then (if False then 0 else 2) else 1)), ⟨(by show (if 0 ≤ x ∧ x ≤ 1 then (if False then (0 : Int32) else 2) else 1) = _; rw [if_pos c_4, if_pos c_4, if_neg id, if_neg ((Int32.not_lt.mpr c_13))]), hm.trans (if_neg (fun z => (Int32.not_lt.mpr c_13) z.2)).symm, fun j h5 h6 h8 => upd_ne h6⟩, _, by rw [show (if (0 ≤ x ∧ x ≤ 1) ∧ 0 < f0 (17 + 4 * x.toNatClampNeg + 2) then sp_salt f0 x.toNatClampNeg else f0) = f0 from if_neg (fun z => (Int32.not_lt.mpr c_13) z.2), show (if (0 ≤ x ∧ x ≤ 1) ∧ 0 < f0 (17 + 4 * x.toNatClampNeg + 2) then kp_f f0 f4 b else f4) = f4 from if_neg (fun z => (Int32.not_lt.mpr c_13) z.2)]; exact ht, hk⟩)
      · exact absurd c_35.2 id
    · refine f_iconst (v := 1) K dX9_spreadSalt_16 rfl ?_
      refine f_goto (tgt := 21) K dX9_spreadSalt_17 (by decide) ?_
      refine f_istore_n (lv' := [(2, .int 1), (0, .ref m), (1, .int x)]) K dX9_spreadSalt_21 (by decide) rfl ?_
      refine f_aload_n K dX9_spreadSalt_22 rfl ?_
      refine f_aload_n K dX9_spreadSalt_23 rfl ?_
      refine f_iload_n K dX9_spreadSalt_24 rfl ?_
      refine f_invS (As := [.int x]) (rest := [.ref m, .ref m]) K (tm_isSide (E := E)  x) cs_X9_342 dX9_spreadSalt_25 rfl rfl (Nat.le_of_ble_eq_true rfl) (Nat.le_of_ble_eq_true rfl) (Nat.le_of_ble_eq_true rfl) (Nat.le_of_ble_eq_true rfl) (fun v H17 hq hz => ?_) (fun _ _ _ h9 _ _ => h9.elim)
      obtain ⟨rfl, hq⟩ := hq
      rw [hq]
      change Go E Z 3 H (0) (0) 28 [(2, .int 1), (0, .ref m), (1, .int x)] [.int (bI (0 ≤ x ∧ x ≤ 1)), .ref m, .ref m]
      refine f_iload_n K dX9_spreadSalt_28 rfl ?_
      refine f_invV (As := [.int (bI (0 ≤ x ∧ x ≤ 1)), .int 1]) (rest := [.ref m]) K (tm_passesBoth (E := E)  ht (0 ≤ x ∧ x ≤ 1) True) cs_X9_356 dX9_spreadSalt_29 (tw_o ht) rfl rfl rfl (Nat.le_of_ble_eq_true rfl) (Nat.le_of_ble_eq_true rfl) (Nat.le_of_ble_eq_true rfl) (Nat.le_of_ble_eq_true rfl) (fun v H18 hq hz => ?_) (fun _ _ _ h9 _ _ => h9.elim)
      obtain ⟨rfl, ht, hk1⟩ := hq
      have hk := hk.tr hk1
      have ht : twAt E H18 m ad (upd sc 6 (if (0 ≤ x ∧ x ≤ 1) then (if True then 0 else 2) else 1)) f0 f1 f2 f3 f4 fb ft fo := ht
      change Go E Z 3 H18 (0) (0) 32 [(2, .int 1), (0, .ref m), (1, .int x)] [.int (bI ((0 ≤ x ∧ x ≤ 1) ∧ True)), .ref m]
      refine f_invV (As := [.int (bI ((0 ≤ x ∧ x ≤ 1) ∧ True))]) (rest := []) K (tm_tried (E := E)  ht ((0 ≤ x ∧ x ≤ 1) ∧ True)) cs_X9_372 dX9_spreadSalt_32 (tw_o ht) rfl rfl rfl (Nat.le_of_ble_eq_true rfl) (Nat.le_of_ble_eq_true rfl) (Nat.le_of_ble_eq_true rfl) (Nat.le_of_ble_eq_true rfl) (fun v H20 hq hz => ?_) (fun _ _ _ h9 _ _ => h9.elim)
      obtain ⟨rfl, ht, hk1⟩ := hq
      have hk := hk.tr hk1
      have ht : twAt E H20 m ad (upd sc 6 (if (0 ≤ x ∧ x ≤ 1) then (if True then 0 else 2) else 1)) f0 f1 (if ((0 ≤ x ∧ x ≤ 1) ∧ True) then f0 else f2) f3 f4 fb ft fo := ht
      change Go E Z 3 H20 (0) (0) 35 [(2, .int 1), (0, .ref m), (1, .int x)] [.int (bI ((0 ≤ x ∧ x ≤ 1) ∧ True))]
      refine f_if_eqB (tgt := 50) K dX9_spreadSalt_35 (by decide) (fun c_35 => ?_) (fun c_35 => ?_)
      · exact absurd ⟨c_4, trivial⟩ c_35
      · rw [show (if ((0 ≤ x ∧ x ≤ 1) ∧ True) then f0 else f2) = f0 from if_pos ⟨c_4, trivial⟩] at ht
        have hne : ¬ f0 (17 + 4 * x.toNatClampNeg + 2) = 0 := fun z => by rw [z] at c_13; exact c_13 (by decide)
        refine f_aload_n K dX9_spreadSalt_38 rfl ?_
        refine f_aload_n K dX9_spreadSalt_39 rfl ?_
        refine f_iload_n K dX9_spreadSalt_40 rfl ?_
        refine f_invV (As := [.int x]) (rest := [.ref m]) K (tm_saltNow (E := E) (p := x.toNatClampNeg) ht x hx (by omega) ok) cs_X9_304 dX9_spreadSalt_41 (tw_o ht) rfl rfl rfl (Nat.le_of_ble_eq_true rfl) (Nat.le_of_ble_eq_true rfl) (Nat.le_of_ble_eq_true rfl) (Nat.le_of_ble_eq_true rfl) (fun v H23 hq hz => ?_) (fun _ _ _ h9 _ _ => h9.elim)
        obtain ⟨rfl, ht, hk1⟩ := hq
        have hk := hk.tr hk1
        have ht : twAt E H23 m ad (if f0 (17 + 4 * x.toNatClampNeg + 2) = 0 then (upd sc 6 (if (0 ≤ x ∧ x ≤ 1) then (if True then 0 else 2) else 1)) else upd (upd sc 6 (if (0 ≤ x ∧ x ≤ 1) then (if True then 0 else 2) else 1)) 8 (f0 (17 + 4 * x.toNatClampNeg + 2) - 1)) (if f0 (17 + 4 * x.toNatClampNeg + 2) = 0 then f0 else sp_salt f0 x.toNatClampNeg) f1 f0 f3 f4 fb ft fo := ht
        change Go E Z 3 H23 (0) (0) 44 [(2, .int 1), (0, .ref m), (1, .int x)] [.int (bI (¬ f0 (17 + 4 * x.toNatClampNeg + 2) = 0)), .ref m]
        rw [show (if f0 (17 + 4 * x.toNatClampNeg + 2) = 0 then f0 else sp_salt f0 x.toNatClampNeg) = sp_salt f0 x.toNatClampNeg from if_neg hne] at ht
        rw [show (if f0 (17 + 4 * x.toNatClampNeg + 2) = 0 then (upd sc 6 (if (0 ≤ x ∧ x ≤ 1) then (if True then 0 else 2) else 1)) else upd (upd sc 6 (if (0 ≤ x ∧ x ≤ 1) then (if True then 0 else 2) else 1)) 8 (f0 (17 + 4 * x.toNatClampNeg + 2) - 1)) = upd (upd sc 6 (if (0 ≤ x ∧ x ≤ 1) then (if True then 0 else 2) else 1)) 8 (f0 (17 + 4 * x.toNatClampNeg + 2) - 1) from if_neg hne] at ht
        refine f_invV (As := [.int (bI (¬ f0 (17 + 4 * x.toNatClampNeg + 2) = 0))]) (rest := []) K (tm_done (E := E)  ht (¬ f0 (17 + 4 * x.toNatClampNeg + 2) = 0) hm hm2) cs_X9_375 dX9_spreadSalt_44 (tw_o ht) rfl rfl rfl (Nat.le_of_ble_eq_true rfl) (Nat.le_of_ble_eq_true rfl) (Nat.le_of_ble_eq_true rfl) (Nat.le_of_ble_eq_true rfl) (fun v H25 hq hz => ?_) (fun _ _ _ h9 _ _ => h9.elim)
        obtain ⟨rfl, ht, hk1⟩ := hq
        have hk := hk.tr hk1
        have ht : twAt E H25 m ad (upd (upd (upd sc 6 (if (0 ≤ x ∧ x ≤ 1) then (if True then 0 else 2) else 1)) 8 (f0 (17 + 4 * x.toNatClampNeg + 2) - 1)) 5 (nI (kp_n b))) (sp_salt f0 x.toNatClampNeg) f1 f0 f3 (kp_f f0 f4 b) fb ft fo := ht
        change Go E Z 3 H25 (0) (0) 47 [(2, .int 1), (0, .ref m), (1, .int x)] [.int ((upd (upd sc 6 (if (0 ≤ x ∧ x ≤ 1) then (if True then 0 else 2) else 1)) 8 (f0 (17 + 4 * x.toNatClampNeg + 2) - 1)) 8)]
        refine f_goto (tgt := 51) K dX9_spreadSalt_47 (by decide) ?_
        exact f_retI K X (Or.inl rfl) dX9_spreadSalt_51 (Nat.le_of_ble_eq_true rfl) (Nat.le_of_ble_eq_true rfl) (⟨rI (if_pos ⟨c_4, Int32.not_le.mp c_13⟩).symm, (upd (upd (upd sc 6 (if (0 ≤ x ∧ x ≤ 1) then (if True then 0 else 2) else 1)) 8 (f0 (17 + 4 * x.toNatClampNeg + 2) - 1)) 5 (nI (kp_n b))), ⟨(by show (if 0 ≤ x ∧ x ≤ 1 then (if True then (0 : Int32) else 2) else 1) = _; rw [if_pos c_4, if_pos c_4, if_pos trivial, if_pos (Int32.not_le.mp c_13)]), (if_pos ⟨c_4, Int32.not_le.mp c_13⟩).symm, fun j h5 h6 h8 => (upd_ne h5).trans ((upd_ne h8).trans (upd_ne h6))⟩, _, by rw [show (if (0 ≤ x ∧ x ≤ 1) ∧ 0 < f0 (17 + 4 * x.toNatClampNeg + 2) then sp_salt f0 x.toNatClampNeg else f0) = sp_salt f0 x.toNatClampNeg from if_pos ⟨c_4, Int32.not_le.mp c_13⟩, show (if (0 ≤ x ∧ x ≤ 1) ∧ 0 < f0 (17 + 4 * x.toNatClampNeg + 2) then kp_f f0 f4 b else f4) = kp_f f0 f4 b from if_pos ⟨c_4, Int32.not_le.mp c_13⟩]; exact ht, hk⟩)
/-- queueCart(IZ)I -/
theorem tm_queueCart {E : fE} {H : Heap} {m : Nat} {ad : Nat → Nat} {sc f0 f1 f2 f3 f4 fb ft fo : Row} (ht : twAt E H m ad sc f0 f1 f2 f3 f4 fb ft fo) (x : Int32) (P : Prop) [Decidable P] {n t b : Nat} (ok : okr n t f0) (hm : sc 5 = nI b) (hm2 : b ≤ 8) : fM E yX9_queueCart prog_17_method_138_code 4 (some .int) 4 0 0 [.ref m, .int x, .int (bI P)] H (fun r_ H' => r_ = some (.int (if (0 ≤ x ∧ x ≤ 1) ∧ f0 (125 + x.toNatClampNeg) < 10 then f0 8 else 0)) ∧ ∃ x_sc : Row, (x_sc 6 = (if 0 ≤ x ∧ x ≤ 1 then (if f0 (125 + x.toNatClampNeg) < 10 then 0 else 2) else 1) ∧ x_sc 5 = (if (0 ≤ x ∧ x ≤ 1) ∧ f0 (125 + x.toNatClampNeg) < 10 then nI (kp_n b) else nI b) ∧ ∀ j : Nat, j ≠ 5 → j ≠ 6 → j ≠ 8 → x_sc j = sc j) ∧ ∃ x_f2 : Row, twAt E H' m ad x_sc (if (0 ≤ x ∧ x ≤ 1) ∧ f0 (125 + x.toNatClampNeg) < 10 then sp_cart f0 x.toNatClampNeg (bI P) else f0) f1 x_f2 f3 (if (0 ≤ x ∧ x ≤ 1) ∧ f0 (125 + x.toNatClampNeg) < 10 then kp_f f0 f4 b else f4) fb ft fo ∧ twK m ad H H') noX := by
  refine f_start (own := "SnowPassModel") (nm := "queueCart") (lv := [(0, .ref m), (1, .int x), (2, .int (bI P))]) pn_X9 rfl rfl (Nat.le_of_ble_eq_true rfl) rfl (fun Z K X => ?_)
  have hk := twK.rf (m := m) (ad := ad) (H := H)
  refine f_iload_n K dX9_queueCart_0 rfl ?_
  refine f_invS (As := [.int x]) (rest := []) K (tm_isSide (E := E)  x) cs_X9_342 dX9_queueCart_1 rfl rfl (Nat.le_of_ble_eq_true rfl) (Nat.le_of_ble_eq_true rfl) (Nat.le_of_ble_eq_true rfl) (Nat.le_of_ble_eq_true rfl) (fun v H1 hq hz => ?_) (fun _ _ _ h9 _ _ => h9.elim)
  obtain ⟨rfl, hq⟩ := hq
  rw [hq]
  change Go E Z 4 H (0) (0) 4 [(0, .ref m), (1, .int x), (2, .int (bI P))] [.int (bI (0 ≤ x ∧ x ≤ 1))]
  refine f_if_eqB (tgt := 25) K dX9_queueCart_4 (by decide) (fun c_4 => ?_) (fun c_4 => ?_)
  · refine f_iconst (v := 0) K dX9_queueCart_25 rfl ?_
    refine f_istore_n (lv' := [(3, .int 0), (0, .ref m), (1, .int x), (2, .int (bI P))]) K dX9_queueCart_26 (by decide) rfl ?_
    refine f_aload_n K dX9_queueCart_27 rfl ?_
    refine f_aload_n K dX9_queueCart_28 rfl ?_
    refine f_iload_n K dX9_queueCart_29 rfl ?_
    refine f_invS (As := [.int x]) (rest := [.ref m, .ref m]) K (tm_isSide (E := E)  x) cs_X9_342 dX9_queueCart_30 rfl rfl (Nat.le_of_ble_eq_true rfl) (Nat.le_of_ble_eq_true rfl) (Nat.le_of_ble_eq_true rfl) (Nat.le_of_ble_eq_true rfl) (fun v H3 hq hz => ?_) (fun _ _ _ h9 _ _ => h9.elim)
    obtain ⟨rfl, hq⟩ := hq
    rw [hq]
    change Go E Z 4 H (0) (0) 33 [(3, .int 0), (0, .ref m), (1, .int x), (2, .int (bI P))] [.int (bI (0 ≤ x ∧ x ≤ 1)), .ref m, .ref m]
    refine f_iload_n K dX9_queueCart_33 rfl ?_
    refine f_invV (As := [.int (bI (0 ≤ x ∧ x ≤ 1)), .int 0]) (rest := [.ref m]) K (tm_passesBoth (E := E)  ht (0 ≤ x ∧ x ≤ 1) False) cs_X9_356 dX9_queueCart_34 (tw_o ht) rfl rfl rfl (Nat.le_of_ble_eq_true rfl) (Nat.le_of_ble_eq_true rfl) (Nat.le_of_ble_eq_true rfl) (Nat.le_of_ble_eq_true rfl) (fun v H4 hq hz => ?_) (fun _ _ _ h9 _ _ => h9.elim)
    obtain ⟨rfl, ht, hk1⟩ := hq
    have hk := hk.tr hk1
    have ht : twAt E H4 m ad (upd sc 6 (if (0 ≤ x ∧ x ≤ 1) then (if False then 0 else 2) else 1)) f0 f1 f2 f3 f4 fb ft fo := ht
    change Go E Z 4 H4 (0) (0) 37 [(3, .int 0), (0, .ref m), (1, .int x), (2, .int (bI P))] [.int (bI ((0 ≤ x ∧ x ≤ 1) ∧ False)), .ref m]
    refine f_invV (As := [.int (bI ((0 ≤ x ∧ x ≤ 1) ∧ False))]) (rest := []) K (tm_tried (E := E)  ht ((0 ≤ x ∧ x ≤ 1) ∧ False)) cs_X9_372 dX9_queueCart_37 (tw_o ht) rfl rfl rfl (Nat.le_of_ble_eq_true rfl) (Nat.le_of_ble_eq_true rfl) (Nat.le_of_ble_eq_true rfl) (Nat.le_of_ble_eq_true rfl) (fun v H6 hq hz => ?_) (fun _ _ _ h9 _ _ => h9.elim)
    obtain ⟨rfl, ht, hk1⟩ := hq
    have hk := hk.tr hk1
    have ht : twAt E H6 m ad (upd sc 6 (if (0 ≤ x ∧ x ≤ 1) then (if False then 0 else 2) else 1)) f0 f1 (if ((0 ≤ x ∧ x ≤ 1) ∧ False) then f0 else f2) f3 f4 fb ft fo := ht
    change Go E Z 4 H6 (0) (0) 40 [(3, .int 0), (0, .ref m), (1, .int x), (2, .int (bI P))] [.int (bI ((0 ≤ x ∧ x ≤ 1) ∧ False))]
    refine f_if_eqB (tgt := 59) K dX9_queueCart_40 (by decide) (fun c_40 => ?_) (fun c_40 => ?_)
    · refine f_iconst (v := 0) K dX9_queueCart_59 rfl ?_
      exact f_retI K X (Or.inl rfl) dX9_queueCart_60 (Nat.le_of_ble_eq_true rfl) (Nat.le_of_ble_eq_true rfl) (⟨rI (if_neg (fun z => c_4 z.1)).symm, (upd sc 6 (if (0 ≤ x ∧ x ≤ 1) then (if False then 0 else 2) else 1)), ⟨(by show (if 0 ≤ x ∧ x ≤ 1 then (if False then (0 : Int32) else 2) else 1) = _; rw [if_neg c_4, if_neg c_4]), hm.trans (if_neg (fun z => c_4 z.1)).symm, fun j h5 h6 h8 => upd_ne h6⟩, _, by rw [show (if (0 ≤ x ∧ x ≤ 1) ∧ f0 (125 + x.toNatClampNeg) < 10 then sp_cart f0 x.toNatClampNeg (bI P) else f0) = f0 from if_neg (fun z => c_4 z.1), show (if (0 ≤ x ∧ x ≤ 1) ∧ f0 (125 + x.toNatClampNeg) < 10 then kp_f f0 f4 b else f4) = f4 from if_neg (fun z => c_4 z.1)]; exact ht, hk⟩)
    · exact absurd c_40.2 id
  · obtain ⟨hx, hxn⟩ := seg_in2 (n := 1) rfl (by decide) c_4
    refine f_aload_n K dX9_queueCart_7 rfl ?_
    refine f_get (v := .ref (ad 0)) K fl_X9_7_X9 dX9_queueCart_8 (tw_o ht) rfl ?_
    refine f_bipush (v := 125) K dX9_queueCart_11 rfl ?_
    refine f_iload_n K dX9_queueCart_13 rfl ?_
    refine f_iadd K dX9_queueCart_14 ?_
    refine f_iald (j := (125 + x.toNatClampNeg)) K dX9_queueCart_15 (tw_a0 ht) (nia nl_125 hx) (by omega) (by decide) ?_
    refine f_bipush (v := 10) K dX9_queueCart_16 rfl ?_
    refine f_icmp_ge (tgt := 25) K dX9_queueCart_18 (by decide) (fun c_18 => ?_) (fun c_18 => ?_)
    · refine f_iconst (v := 0) K dX9_queueCart_25 rfl ?_
      refine f_istore_n (lv' := [(3, .int 0), (0, .ref m), (1, .int x), (2, .int (bI P))]) K dX9_queueCart_26 (by decide) rfl ?_
      refine f_aload_n K dX9_queueCart_27 rfl ?_
      refine f_aload_n K dX9_queueCart_28 rfl ?_
      refine f_iload_n K dX9_queueCart_29 rfl ?_
      refine f_invS (As := [.int x]) (rest := [.ref m, .ref m]) K (tm_isSide (E := E)  x) cs_X9_342 dX9_queueCart_30 rfl rfl (Nat.le_of_ble_eq_true rfl) (Nat.le_of_ble_eq_true rfl) (Nat.le_of_ble_eq_true rfl) (Nat.le_of_ble_eq_true rfl) (fun v H10 hq hz => ?_) (fun _ _ _ h9 _ _ => h9.elim)
      obtain ⟨rfl, hq⟩ := hq
      rw [hq]
      change Go E Z 4 H (0) (0) 33 [(3, .int 0), (0, .ref m), (1, .int x), (2, .int (bI P))] [.int (bI (0 ≤ x ∧ x ≤ 1)), .ref m, .ref m]
      refine f_iload_n K dX9_queueCart_33 rfl ?_
      refine f_invV (As := [.int (bI (0 ≤ x ∧ x ≤ 1)), .int 0]) (rest := [.ref m]) K (tm_passesBoth (E := E)  ht (0 ≤ x ∧ x ≤ 1) False) cs_X9_356 dX9_queueCart_34 (tw_o ht) rfl rfl rfl (Nat.le_of_ble_eq_true rfl) (Nat.le_of_ble_eq_true rfl) (Nat.le_of_ble_eq_true rfl) (Nat.le_of_ble_eq_true rfl) (fun v H11 hq hz => ?_) (fun _ _ _ h9 _ _ => h9.elim)
      obtain ⟨rfl, ht, hk1⟩ := hq
      have hk := hk.tr hk1
      have ht : twAt E H11 m ad (upd sc 6 (if (0 ≤ x ∧ x ≤ 1) then (if False then 0 else 2) else 1)) f0 f1 f2 f3 f4 fb ft fo := ht
      change Go E Z 4 H11 (0) (0) 37 [(3, .int 0), (0, .ref m), (1, .int x), (2, .int (bI P))] [.int (bI ((0 ≤ x ∧ x ≤ 1) ∧ False)), .ref m]
      refine f_invV (As := [.int (bI ((0 ≤ x ∧ x ≤ 1) ∧ False))]) (rest := []) K (tm_tried (E := E)  ht ((0 ≤ x ∧ x ≤ 1) ∧ False)) cs_X9_372 dX9_queueCart_37 (tw_o ht) rfl rfl rfl (Nat.le_of_ble_eq_true rfl) (Nat.le_of_ble_eq_true rfl) (Nat.le_of_ble_eq_true rfl) (Nat.le_of_ble_eq_true rfl) (fun v H13 hq hz => ?_) (fun _ _ _ h9 _ _ => h9.elim)
      obtain ⟨rfl, ht, hk1⟩ := hq
      have hk := hk.tr hk1
      have ht : twAt E H13 m ad (upd sc 6 (if (0 ≤ x ∧ x ≤ 1) then (if False then 0 else 2) else 1)) f0 f1 (if ((0 ≤ x ∧ x ≤ 1) ∧ False) then f0 else f2) f3 f4 fb ft fo := ht
      change Go E Z 4 H13 (0) (0) 40 [(3, .int 0), (0, .ref m), (1, .int x), (2, .int (bI P))] [.int (bI ((0 ≤ x ∧ x ≤ 1) ∧ False))]
      refine f_if_eqB (tgt := 59) K dX9_queueCart_40 (by decide) (fun c_40 => ?_) (fun c_40 => ?_)
      · refine f_iconst (v := 0) K dX9_queueCart_59 rfl ?_
        exact f_retI K X (Or.inl rfl) dX9_queueCart_60 (Nat.le_of_ble_eq_true rfl) (Nat.le_of_ble_eq_true rfl) (⟨rI (if_neg (fun z => (Int32.not_lt.mpr c_18) z.2)).symm, (upd sc 6 (if (0 ≤ x ∧ x ≤ 1) then (if False then 0 else 2) else 1)), ⟨(by show (if 0 ≤ x ∧ x ≤ 1 then (if False then (0 : Int32) else 2) else 1) = _; rw [if_pos c_4, if_pos c_4, if_neg id, if_neg ((Int32.not_lt.mpr c_18))]), hm.trans (if_neg (fun z => (Int32.not_lt.mpr c_18) z.2)).symm, fun j h5 h6 h8 => upd_ne h6⟩, _, by rw [show (if (0 ≤ x ∧ x ≤ 1) ∧ f0 (125 + x.toNatClampNeg) < 10 then sp_cart f0 x.toNatClampNeg (bI P) else f0) = f0 from if_neg (fun z => (Int32.not_lt.mpr c_18) z.2), show (if (0 ≤ x ∧ x ≤ 1) ∧ f0 (125 + x.toNatClampNeg) < 10 then kp_f f0 f4 b else f4) = f4 from if_neg (fun z => (Int32.not_lt.mpr c_18) z.2)]; exact ht, hk⟩)
      · exact absurd c_40.2 id
    · refine f_iconst (v := 1) K dX9_queueCart_21 rfl ?_
      refine f_goto (tgt := 26) K dX9_queueCart_22 (by decide) ?_
      refine f_istore_n (lv' := [(3, .int 1), (0, .ref m), (1, .int x), (2, .int (bI P))]) K dX9_queueCart_26 (by decide) rfl ?_
      refine f_aload_n K dX9_queueCart_27 rfl ?_
      refine f_aload_n K dX9_queueCart_28 rfl ?_
      refine f_iload_n K dX9_queueCart_29 rfl ?_
      refine f_invS (As := [.int x]) (rest := [.ref m, .ref m]) K (tm_isSide (E := E)  x) cs_X9_342 dX9_queueCart_30 rfl rfl (Nat.le_of_ble_eq_true rfl) (Nat.le_of_ble_eq_true rfl) (Nat.le_of_ble_eq_true rfl) (Nat.le_of_ble_eq_true rfl) (fun v H16 hq hz => ?_) (fun _ _ _ h9 _ _ => h9.elim)
      obtain ⟨rfl, hq⟩ := hq
      rw [hq]
      change Go E Z 4 H (0) (0) 33 [(3, .int 1), (0, .ref m), (1, .int x), (2, .int (bI P))] [.int (bI (0 ≤ x ∧ x ≤ 1)), .ref m, .ref m]
      refine f_iload_n K dX9_queueCart_33 rfl ?_
      refine f_invV (As := [.int (bI (0 ≤ x ∧ x ≤ 1)), .int 1]) (rest := [.ref m]) K (tm_passesBoth (E := E)  ht (0 ≤ x ∧ x ≤ 1) True) cs_X9_356 dX9_queueCart_34 (tw_o ht) rfl rfl rfl (Nat.le_of_ble_eq_true rfl) (Nat.le_of_ble_eq_true rfl) (Nat.le_of_ble_eq_true rfl) (Nat.le_of_ble_eq_true rfl) (fun v H17 hq hz => ?_) (fun _ _ _ h9 _ _ => h9.elim)
      obtain ⟨rfl, ht, hk1⟩ := hq
      have hk := hk.tr hk1
      have ht : twAt E H17 m ad (upd sc 6 (if (0 ≤ x ∧ x ≤ 1) then (if True then 0 else 2) else 1)) f0 f1 f2 f3 f4 fb ft fo := ht
      change Go E Z 4 H17 (0) (0) 37 [(3, .int 1), (0, .ref m), (1, .int x), (2, .int (bI P))] [.int (bI ((0 ≤ x ∧ x ≤ 1) ∧ True)), .ref m]
      refine f_invV (As := [.int (bI ((0 ≤ x ∧ x ≤ 1) ∧ True))]) (rest := []) K (tm_tried (E := E)  ht ((0 ≤ x ∧ x ≤ 1) ∧ True)) cs_X9_372 dX9_queueCart_37 (tw_o ht) rfl rfl rfl (Nat.le_of_ble_eq_true rfl) (Nat.le_of_ble_eq_true rfl) (Nat.le_of_ble_eq_true rfl) (Nat.le_of_ble_eq_true rfl) (fun v H19 hq hz => ?_) (fun _ _ _ h9 _ _ => h9.elim)
      obtain ⟨rfl, ht, hk1⟩ := hq
      have hk := hk.tr hk1
      have ht : twAt E H19 m ad (upd sc 6 (if (0 ≤ x ∧ x ≤ 1) then (if True then 0 else 2) else 1)) f0 f1 (if ((0 ≤ x ∧ x ≤ 1) ∧ True) then f0 else f2) f3 f4 fb ft fo := ht
      change Go E Z 4 H19 (0) (0) 40 [(3, .int 1), (0, .ref m), (1, .int x), (2, .int (bI P))] [.int (bI ((0 ≤ x ∧ x ≤ 1) ∧ True))]
      refine f_if_eqB (tgt := 59) K dX9_queueCart_40 (by decide) (fun c_40 => ?_) (fun c_40 => ?_)
      · exact absurd ⟨c_4, trivial⟩ c_40
      · rw [show (if ((0 ≤ x ∧ x ≤ 1) ∧ True) then f0 else f2) = f0 from if_pos ⟨c_4, trivial⟩] at ht
        have hne : ¬ f0 (125 + x.toNatClampNeg) = 10 := fun z => by rw [z] at c_18; exact c_18 (by decide)
        refine f_aload_n K dX9_queueCart_43 rfl ?_
        refine f_aload_n K dX9_queueCart_44 rfl ?_
        refine f_iload_n K dX9_queueCart_45 rfl ?_
        refine f_iload_n K dX9_queueCart_46 rfl ?_
        refine f_invS (As := [.int (bI P)]) (rest := [.int x, .ref m, .ref m]) K (tm_truth (E := E)  P) cs_X9_335 dX9_queueCart_47 rfl rfl (Nat.le_of_ble_eq_true rfl) (Nat.le_of_ble_eq_true rfl) (Nat.le_of_ble_eq_true rfl) (Nat.le_of_ble_eq_true rfl) (fun v H22 hq hz => ?_) (fun _ _ _ h9 _ _ => h9.elim)
        obtain ⟨rfl, hq⟩ := hq
        rw [hq]
        change Go E Z 4 H19 (0) (0) 50 [(3, .int 1), (0, .ref m), (1, .int x), (2, .int (bI P))] [.int (bI P), .int x, .ref m, .ref m]
        refine f_invV (As := [.int x, .int (bI P)]) (rest := [.ref m]) K (tm_cartNow (E := E) (s := x.toNatClampNeg) ht x hx (bI P) (by omega) ok) cs_X9_238 dX9_queueCart_50 (tw_o ht) rfl rfl rfl (Nat.le_of_ble_eq_true rfl) (Nat.le_of_ble_eq_true rfl) (Nat.le_of_ble_eq_true rfl) (Nat.le_of_ble_eq_true rfl) (fun v H23 hq hz => ?_) (fun _ _ _ h9 _ _ => h9.elim)
        obtain ⟨rfl, ht, hk1⟩ := hq
        have hk := hk.tr hk1
        have ht : twAt E H23 m ad (if f0 (125 + x.toNatClampNeg) = 10 then (upd sc 6 (if (0 ≤ x ∧ x ≤ 1) then (if True then 0 else 2) else 1)) else upd (upd sc 6 (if (0 ≤ x ∧ x ≤ 1) then (if True then 0 else 2) else 1)) 8 (f0 8)) (if f0 (125 + x.toNatClampNeg) = 10 then f0 else sp_cart f0 x.toNatClampNeg (bI P)) f1 f0 f3 f4 fb ft fo := ht
        change Go E Z 4 H23 (0) (0) 53 [(3, .int 1), (0, .ref m), (1, .int x), (2, .int (bI P))] [.int (bI (¬ f0 (125 + x.toNatClampNeg) = 10)), .ref m]
        rw [show (if f0 (125 + x.toNatClampNeg) = 10 then f0 else sp_cart f0 x.toNatClampNeg (bI P)) = sp_cart f0 x.toNatClampNeg (bI P) from if_neg hne] at ht
        rw [show (if f0 (125 + x.toNatClampNeg) = 10 then (upd sc 6 (if (0 ≤ x ∧ x ≤ 1) then (if True then 0 else 2) else 1)) else upd (upd sc 6 (if (0 ≤ x ∧ x ≤ 1) then (if True then 0 else 2) else 1)) 8 (f0 8)) = upd (upd sc 6 (if (0 ≤ x ∧ x ≤ 1) then (if True then 0 else 2) else 1)) 8 (f0 8) from if_neg hne] at ht
        refine f_invV (As := [.int (bI (¬ f0 (125 + x.toNatClampNeg) = 10))]) (rest := []) K (tm_done (E := E)  ht (¬ f0 (125 + x.toNatClampNeg) = 10) hm hm2) cs_X9_375 dX9_queueCart_53 (tw_o ht) rfl rfl rfl (Nat.le_of_ble_eq_true rfl) (Nat.le_of_ble_eq_true rfl) (Nat.le_of_ble_eq_true rfl) (Nat.le_of_ble_eq_true rfl) (fun v H25 hq hz => ?_) (fun _ _ _ h9 _ _ => h9.elim)
        obtain ⟨rfl, ht, hk1⟩ := hq
        have hk := hk.tr hk1
        have ht : twAt E H25 m ad (upd (upd (upd sc 6 (if (0 ≤ x ∧ x ≤ 1) then (if True then 0 else 2) else 1)) 8 (f0 8)) 5 (nI (kp_n b))) (sp_cart f0 x.toNatClampNeg (bI P)) f1 f0 f3 (kp_f f0 f4 b) fb ft fo := ht
        change Go E Z 4 H25 (0) (0) 56 [(3, .int 1), (0, .ref m), (1, .int x), (2, .int (bI P))] [.int ((upd (upd sc 6 (if (0 ≤ x ∧ x ≤ 1) then (if True then 0 else 2) else 1)) 8 (f0 8)) 8)]
        refine f_goto (tgt := 60) K dX9_queueCart_56 (by decide) ?_
        exact f_retI K X (Or.inl rfl) dX9_queueCart_60 (Nat.le_of_ble_eq_true rfl) (Nat.le_of_ble_eq_true rfl) (⟨rI (if_pos ⟨c_4, Int32.not_le.mp c_18⟩).symm, (upd (upd (upd sc 6 (if (0 ≤ x ∧ x ≤ 1) then (if True then 0 else 2) else 1)) 8 (f0 8)) 5 (nI (kp_n b))), ⟨(by show (if 0 ≤ x ∧ x ≤ 1 then (if True then (0 : Int32) else 2) else 1) = _; rw [if_pos c_4, if_pos c_4, if_pos trivial, if_pos (Int32.not_le.mp c_18)]), (if_pos ⟨c_4, Int32.not_le.mp c_18⟩).symm, fun j h5 h6 h8 => (upd_ne h5).trans ((upd_ne h8).trans (upd_ne h6))⟩, _, by rw [show (if (0 ≤ x ∧ x ≤ 1) ∧ f0 (125 + x.toNatClampNeg) < 10 then sp_cart f0 x.toNatClampNeg (bI P) else f0) = sp_cart f0 x.toNatClampNeg (bI P) from if_pos ⟨c_4, Int32.not_le.mp c_18⟩, show (if (0 ≤ x ∧ x ≤ 1) ∧ f0 (125 + x.toNatClampNeg) < 10 then kp_f f0 f4 b else f4) = kp_f f0 f4 b from if_pos ⟨c_4, Int32.not_le.mp c_18⟩]; exact ht, hk⟩)
/-- cancelCart(I)I -/
theorem tm_cancelCart {E : fE} {H : Heap} {m : Nat} {ad : Nat → Nat} {sc f0 f1 f2 f3 f4 fb ft fo : Row} (ht : twAt E H m ad sc f0 f1 f2 f3 f4 fb ft fo) (x : Int32) {n t b : Nat} (ok : okr n t f0) (hm : sc 5 = nI b) (hm2 : b ≤ 8) : fM E yX9_cancelCart prog_17_method_139_code 2 (some .int) 5 0 0 [.ref m, .int x] H (fun r_ H' => r_ = some (.int (if sp_waits f0 x then sp_cancel f0 x (125 + (sp_side f0 x).toNatClampNeg) else 0)) ∧ ∃ x_sc : Row, (x_sc 6 = (if sp_waits f0 x then 0 else 1) ∧ x_sc 5 = (if sp_waits f0 x then nI (kp_n b) else nI b) ∧ ∀ j : Nat, j ≠ 5 → j ≠ 6 → j ≠ 8 → x_sc j = sc j) ∧ ∃ x_f2 : Row, twAt E H' m ad x_sc (if sp_waits f0 x then sp_cancel f0 x else f0) f1 x_f2 f3 (if sp_waits f0 x then kp_f f0 f4 b else f4) fb ft fo ∧ twK m ad H H') noX := by
  refine f_start (own := "SnowPassModel") (nm := "cancelCart") (lv := [(0, .ref m), (1, .int x)]) pn_X9 rfl rfl (Nat.le_of_ble_eq_true rfl) rfl (fun Z K X => ?_)
  have hk := twK.rf (m := m) (ad := ad) (H := H)
  refine f_aload_n K dX9_cancelCart_0 rfl ?_
  refine f_aload_n K dX9_cancelCart_1 rfl ?_
  refine f_aload_n K dX9_cancelCart_2 rfl ?_
  refine f_iload_n K dX9_cancelCart_3 rfl ?_
  refine f_invV (As := [.int x]) (rest := [.ref m, .ref m]) K (tm_waits (E := E)  ht x ok) cs_X9_348 dX9_cancelCart_4 (tw_o ht) rfl rfl rfl (Nat.le_of_ble_eq_true rfl) (Nat.le_of_ble_eq_true rfl) (Nat.le_of_ble_eq_true rfl) (Nat.le_of_ble_eq_true rfl) (fun v H1 hq hz => ?_) (fun _ _ _ h9 _ _ => h9.elim)
  obtain ⟨rfl, hq⟩ := hq
  rw [hq]
  change Go E Z 2 H (0) (0) 7 [(0, .ref m), (1, .int x)] [.int (bI (sp_waits f0 x)), .ref m, .ref m]
  refine f_invV (As := [.int (bI (sp_waits f0 x))]) (rest := [.ref m]) K (tm_passes (E := E)  ht (sp_waits f0 x)) cs_X9_164 dX9_cancelCart_7 (tw_o ht) rfl rfl rfl (Nat.le_of_ble_eq_true rfl) (Nat.le_of_ble_eq_true rfl) (Nat.le_of_ble_eq_true rfl) (Nat.le_of_ble_eq_true rfl) (fun v H2 hq hz => ?_) (fun _ _ _ h9 _ _ => h9.elim)
  obtain ⟨rfl, ht, hk1⟩ := hq
  have hk := hk.tr hk1
  have ht : twAt E H2 m ad (upd sc 6 (if (sp_waits f0 x) then 0 else 1)) f0 f1 f2 f3 f4 fb ft fo := ht
  change Go E Z 2 H2 (0) (0) 10 [(0, .ref m), (1, .int x)] [.int (bI (sp_waits f0 x)), .ref m]
  refine f_invV (As := [.int (bI (sp_waits f0 x))]) (rest := []) K (tm_tried (E := E)  ht (sp_waits f0 x)) cs_X9_372 dX9_cancelCart_10 (tw_o ht) rfl rfl rfl (Nat.le_of_ble_eq_true rfl) (Nat.le_of_ble_eq_true rfl) (Nat.le_of_ble_eq_true rfl) (Nat.le_of_ble_eq_true rfl) (fun v H4 hq hz => ?_) (fun _ _ _ h9 _ _ => h9.elim)
  obtain ⟨rfl, ht, hk1⟩ := hq
  have hk := hk.tr hk1
  have ht : twAt E H4 m ad (upd sc 6 (if (sp_waits f0 x) then 0 else 1)) f0 f1 (if (sp_waits f0 x) then f0 else f2) f3 f4 fb ft fo := ht
  change Go E Z 2 H4 (0) (0) 13 [(0, .ref m), (1, .int x)] [.int (bI (sp_waits f0 x))]
  refine f_if_eqB (tgt := 28) K dX9_cancelCart_13 (by decide) (fun c_13 => ?_) (fun c_13 => ?_)
  · refine f_iconst (v := 0) K dX9_cancelCart_28 rfl ?_
    exact f_retI K X (Or.inl rfl) dX9_cancelCart_29 (Nat.le_of_ble_eq_true rfl) (Nat.le_of_ble_eq_true rfl) (⟨rI (if_neg c_13).symm, (upd sc 6 (if (sp_waits f0 x) then 0 else 1)), ⟨rfl, hm.trans (if_neg c_13).symm, fun j h5 h6 h8 => upd_ne h6⟩, _, by rw [show (if sp_waits f0 x then sp_cancel f0 x else f0) = f0 from if_neg c_13, show (if sp_waits f0 x then kp_f f0 f4 b else f4) = f4 from if_neg c_13]; exact ht, hk⟩)
  · rw [show (if (sp_waits f0 x) then f0 else f2) = f0 from if_pos c_13] at ht
    refine f_aload_n K dX9_cancelCart_16 rfl ?_
    refine f_aload_n K dX9_cancelCart_17 rfl ?_
    refine f_iload_n K dX9_cancelCart_18 rfl ?_
    refine f_invV (As := [.int x]) (rest := [.ref m]) K (tm_cancelNow (E := E)  ht x ok) cs_X9_316 dX9_cancelCart_19 (tw_o ht) rfl rfl rfl (Nat.le_of_ble_eq_true rfl) (Nat.le_of_ble_eq_true rfl) (Nat.le_of_ble_eq_true rfl) (Nat.le_of_ble_eq_true rfl) (fun v H7 hq hz => ?_) (fun _ _ _ h9 _ _ => h9.elim)
    obtain ⟨rfl, ht, hk1⟩ := hq
    have hk := hk.tr hk1
    have ht : twAt E H7 m ad (if sp_waits f0 x then upd (upd sc 6 (if (sp_waits f0 x) then 0 else 1)) 8 (sp_cancel f0 x (125 + (sp_side f0 x).toNatClampNeg)) else (upd sc 6 (if (sp_waits f0 x) then 0 else 1))) (if sp_waits f0 x then sp_cancel f0 x else f0) f1 f0 f3 f4 fb ft fo := ht
    change Go E Z 2 H7 (0) (0) 22 [(0, .ref m), (1, .int x)] [.int (bI (sp_waits f0 x)), .ref m]
    rw [show (if sp_waits f0 x then sp_cancel f0 x else f0) = sp_cancel f0 x from if_pos c_13] at ht
    rw [show (if sp_waits f0 x then upd (upd sc 6 (if (sp_waits f0 x) then 0 else 1)) 8 (sp_cancel f0 x (125 + (sp_side f0 x).toNatClampNeg)) else (upd sc 6 (if (sp_waits f0 x) then 0 else 1))) = upd (upd sc 6 (if (sp_waits f0 x) then 0 else 1)) 8 (sp_cancel f0 x (125 + (sp_side f0 x).toNatClampNeg)) from if_pos c_13] at ht
    refine f_invV (As := [.int (bI (sp_waits f0 x))]) (rest := []) K (tm_done (E := E)  ht (sp_waits f0 x) hm hm2) cs_X9_375 dX9_cancelCart_22 (tw_o ht) rfl rfl rfl (Nat.le_of_ble_eq_true rfl) (Nat.le_of_ble_eq_true rfl) (Nat.le_of_ble_eq_true rfl) (Nat.le_of_ble_eq_true rfl) (fun v H9 hq hz => ?_) (fun _ _ _ h9 _ _ => h9.elim)
    obtain ⟨rfl, ht, hk1⟩ := hq
    have hk := hk.tr hk1
    have ht : twAt E H9 m ad (upd (upd (upd sc 6 (if (sp_waits f0 x) then 0 else 1)) 8 (sp_cancel f0 x (125 + (sp_side f0 x).toNatClampNeg))) 5 (nI (kp_n b))) (sp_cancel f0 x) f1 f0 f3 (kp_f f0 f4 b) fb ft fo := ht
    change Go E Z 2 H9 (0) (0) 25 [(0, .ref m), (1, .int x)] [.int ((upd (upd sc 6 (if (sp_waits f0 x) then 0 else 1)) 8 (sp_cancel f0 x (125 + (sp_side f0 x).toNatClampNeg))) 8)]
    refine f_goto (tgt := 29) K dX9_cancelCart_25 (by decide) ?_
    exact f_retI K X (Or.inl rfl) dX9_cancelCart_29 (Nat.le_of_ble_eq_true rfl) (Nat.le_of_ble_eq_true rfl) (⟨rI (if_pos c_13).symm, (upd (upd (upd sc 6 (if (sp_waits f0 x) then 0 else 1)) 8 (sp_cancel f0 x (125 + (sp_side f0 x).toNatClampNeg))) 5 (nI (kp_n b))), ⟨rfl, (if_pos c_13).symm, fun j h5 h6 h8 => (upd_ne h5).trans ((upd_ne h8).trans (upd_ne h6))⟩, _, by rw [show (if sp_waits f0 x then sp_cancel f0 x else f0) = sp_cancel f0 x from if_pos c_13, show (if sp_waits f0 x then kp_f f0 f4 b else f4) = kp_f f0 f4 b from if_pos c_13]; exact ht, hk⟩)
/-- undo()I -/
theorem tm_undo {E : fE} {H : Heap} {m : Nat} {ad : Nat → Nat} {sc f0 f1 f2 f3 f4 fb ft fo : Row} (ht : twAt E H m ad sc f0 f1 f2 f3 f4 fb ft fo)  {b : Nat} (hm : sc 5 = nI b) (hm2 : b ≤ 8) : fM E yX9_undo prog_17_method_140_code 1 (some .int) 2 0 0 [.ref m] H (fun r_ H' => r_ = some (.int (if b = 0 then 0 else nI (b - 1))) ∧ ∃ x_sc : Row, (x_sc 6 = (if b = 0 then 1 else 0) ∧ x_sc 5 = nI (b - 1) ∧ ∀ j : Nat, j ≠ 5 → j ≠ 6 → x_sc j = sc j) ∧ twAt E H' m ad x_sc (if b = 0 then f0 else rowAt f4 (b - 1)) f1 f2 f3 f4 fb ft fo ∧ twK m ad H H') noX := by
  refine f_start (own := "SnowPassModel") (nm := "undo") (lv := [(0, .ref m)]) pn_X9 rfl rfl (Nat.le_of_ble_eq_true rfl) rfl (fun Z K X => ?_)
  have hk := twK.rf (m := m) (ad := ad) (H := H)
  refine f_aload_n K dX9_undo_0 rfl ?_
  refine f_aload_n K dX9_undo_1 rfl ?_
  refine f_get (v := .int (sc 5)) K fl_X9_269_X9 dX9_undo_2 (tw_o ht) rfl ?_
  refine f_if_le (tgt := 12) K dX9_undo_5 (by decide) (fun c_5 => ?_) (fun c_5 => ?_)
  · have hb0 : b = 0 := by
      rcases Nat.eq_zero_or_pos b with z | z
      · exact z
      · exact absurd c_5 (by rw [hm]; exact nI_nle z (by omega))
    refine f_iconst (v := 0) K dX9_undo_12 rfl ?_
    refine f_invV (As := [.int 0]) (rest := []) K (tm_passes (E := E)  ht False) cs_X9_164 dX9_undo_13 (tw_o ht) rfl rfl rfl (Nat.le_of_ble_eq_true rfl) (Nat.le_of_ble_eq_true rfl) (Nat.le_of_ble_eq_true rfl) (Nat.le_of_ble_eq_true rfl) (fun v H2 hq hz => ?_) (fun _ _ _ h9 _ _ => h9.elim)
    obtain ⟨rfl, ht, hk1⟩ := hq
    have hk := hk.tr hk1
    have ht : twAt E H2 m ad (upd sc 6 (if False then 0 else 1)) f0 f1 f2 f3 f4 fb ft fo := ht
    change Go E Z 1 H2 (0) (0) 16 [(0, .ref m)] [.int (bI False)]
    refine f_if_neB (tgt := 21) K dX9_undo_16 (by decide) (fun c_16 => ?_) (fun c_16 => ?_)
    · exact absurd c_16 id
    · refine f_iconst (v := 0) K dX9_undo_19 rfl ?_
      exact f_retI K X (Or.inl rfl) dX9_undo_20 (Nat.le_of_ble_eq_true rfl) (Nat.le_of_ble_eq_true rfl) (⟨rI (if_pos hb0).symm, (upd sc 6 (if False then 0 else 1)), ⟨(if_pos hb0).symm, by show sc 5 = _; rw [hm, hb0], fun j h5 h6 => upd_ne h6⟩, by rw [show (if b = 0 then f0 else rowAt f4 (b - 1)) = f0 from if_pos hb0]; exact ht, hk⟩)
  · have hb1 : 1 ≤ b := by
      rcases Nat.eq_zero_or_pos b with z | z
      · exact absurd (by rw [hm, z]; exact Int32.le_refl _) c_5
      · exact z
    refine f_iconst (v := 1) K dX9_undo_8 rfl ?_
    refine f_goto (tgt := 13) K dX9_undo_9 (by decide) ?_
    refine f_invV (As := [.int 1]) (rest := []) K (tm_passes (E := E)  ht True) cs_X9_164 dX9_undo_13 (tw_o ht) rfl rfl rfl (Nat.le_of_ble_eq_true rfl) (Nat.le_of_ble_eq_true rfl) (Nat.le_of_ble_eq_true rfl) (Nat.le_of_ble_eq_true rfl) (fun v H5 hq hz => ?_) (fun _ _ _ h9 _ _ => h9.elim)
    obtain ⟨rfl, ht, hk1⟩ := hq
    have hk := hk.tr hk1
    have ht : twAt E H5 m ad (upd sc 6 (if True then 0 else 1)) f0 f1 f2 f3 f4 fb ft fo := ht
    change Go E Z 1 H5 (0) (0) 16 [(0, .ref m)] [.int (bI True)]
    refine f_if_neB (tgt := 21) K dX9_undo_16 (by decide) (fun c_16 => ?_) (fun c_16 => ?_)
    · refine f_aload_n K dX9_undo_21 rfl ?_
      refine f_dup K dX9_undo_22 rfl ?_
      refine f_get (v := .int (sc 5)) K fl_X9_269_X9 dX9_undo_23 (tw_o ht) rfl ?_
      refine f_iconst (v := 1) K dX9_undo_26 rfl ?_
      refine f_isub K dX9_undo_27 ?_
      refine f_put K fp_X9_269_X9 dX9_undo_28 (tw_o ht) (tw_lo ht) (Nat.le_of_ble_eq_true rfl) rfl rfl (fun H8 hU ho => ?_)
      have ht := tw_put (sc' := (upd (upd sc 6 (if True then 0 else 1)) 5 ((sc 5) - 1))) ht hU ho rfl
      have hk := hk.put hU
      refine f_aload_n K dX9_undo_31 rfl ?_
      refine f_get (v := .ref (ad 4)) K fl_X9_22_X9 dX9_undo_32 (tw_o ht) rfl ?_
      refine f_sipush (v := 167) K dX9_undo_35 rfl ?_
      refine f_aload_n K dX9_undo_38 rfl ?_
      refine f_get (v := .int ((sc 5) - 1)) K fl_X9_269_X9 dX9_undo_39 (tw_o ht) rfl ?_
      refine f_imul K dX9_undo_42 ?_
      refine f_aload_n K dX9_undo_43 rfl ?_
      refine f_get (v := .ref (ad 0)) K fl_X9_7_X9 dX9_undo_44 (tw_o ht) rfl ?_
      refine f_iconst (v := 0) K dX9_undo_47 rfl ?_
      refine f_invS (As := [.ref (ad 4), .int (167 * ((sc 5) - 1)), .ref (ad 0), .int 0]) (rest := []) K (tm_copies (E := E) (a := (167 * (b - 1))) (b := 0) (167 * ((sc 5) - 1)) 0 (nim nl_167 (nis hm nl_1 (by omega))) nl_0 (tw_a4 ht) (tw_a0 ht) (fun e9 => absurd ((tw_D ht).1 4 (by decide) 0 (by decide) e9) (by decide)) (tw_lo0 ht) (by omega) (by omega) (by omega) (by omega)) cs_X9_58 dX9_undo_48 rfl rfl (Nat.le_of_ble_eq_true rfl) (Nat.le_of_ble_eq_true rfl) (Nat.le_of_ble_eq_true rfl) (Nat.le_of_ble_eq_true rfl) (fun v H9 hq hz => ?_) (fun _ _ _ h9 _ _ => h9.elim)
      obtain ⟨rfl, hU, ho⟩ := hq
      have hk := hk.st (j := 0) (by decide) hU
      have ho := aat_c (g := rowAt f4 (b - 1)) ho (fun j hj => by simp only [va_cpy, rowAt]; rw [if_pos (by omega)] <;> simp)
      have ht := tw_st0 ht hU ho
      change Go E Z 1 H9 (0) (0) 51 [(0, .ref m)] []
      refine f_aload_n K dX9_undo_51 rfl ?_
      refine f_get (v := .int ((sc 5) - 1)) K fl_X9_269_X9 dX9_undo_52 (tw_o ht) rfl ?_
      exact f_retI K X (Or.inl rfl) dX9_undo_55 (Nat.le_of_ble_eq_true rfl) (Nat.le_of_ble_eq_true rfl) (⟨rI (by rw [if_neg (by omega)]; exact nis hm nl_1 hb1), (upd (upd sc 6 (if True then 0 else 1)) 5 ((sc 5) - 1)), ⟨(if_neg (by omega)).symm, nis hm nl_1 hb1, fun j h5 h6 => (upd_ne h5).trans (upd_ne h6)⟩, by rw [show (if b = 0 then f0 else rowAt f4 (b - 1)) = rowAt f4 (b - 1) from if_neg (by omega)]; exact ht, hk⟩)
    · exact absurd trivial c_16
/-- save()I -/
theorem tm_save {E : fE} {H : Heap} {m : Nat} {ad : Nat → Nat} {sc f0 f1 f2 f3 f4 fb ft fo : Row} (ht : twAt E H m ad sc f0 f1 f2 f3 f4 fb ft fo)   : fM E yX9_save prog_17_method_141_code 1 (some .int) 2 0 0 [.ref m] H (fun r_ H' => r_ = some (.int (f0 7)) ∧ twAt E H' m ad (upd (upd sc 6 0) 7 1) f0 f0 f2 f3 f4 fb ft fo ∧ twK m ad H H') noX := by
  refine f_start (own := "SnowPassModel") (nm := "save") (lv := [(0, .ref m)]) pn_X9 rfl rfl (Nat.le_of_ble_eq_true rfl) rfl (fun Z K X => ?_)
  have hk := twK.rf (m := m) (ad := ad) (H := H)
  refine f_aload_n K dX9_save_0 rfl ?_
  refine f_iconst (v := 0) K dX9_save_1 rfl ?_
  refine f_put K fp_X9_55_X9 dX9_save_2 (tw_o ht) (tw_lo ht) (Nat.le_of_ble_eq_true rfl) rfl rfl (fun H1 hU ho => ?_)
  have ht := tw_put (sc' := (upd sc 6 0)) ht hU ho rfl
  have hk := hk.put hU
  refine f_aload_n K dX9_save_5 rfl ?_
  refine f_get (v := .ref (ad 0)) K fl_X9_7_X9 dX9_save_6 (tw_o ht) rfl ?_
  refine f_iconst (v := 0) K dX9_save_9 rfl ?_
  refine f_aload_n K dX9_save_10 rfl ?_
  refine f_get (v := .ref (ad 1)) K fl_X9_13_X9 dX9_save_11 (tw_o ht) rfl ?_
  refine f_iconst (v := 0) K dX9_save_14 rfl ?_
  refine f_invS (As := [.ref (ad 0), .int 0, .ref (ad 1), .int 0]) (rest := []) K (tm_copies (E := E) (a := 0) (b := 0) 0 0 nl_0 nl_0 (tw_a0 ht) (tw_a1 ht) (fun e9 => absurd ((tw_D ht).1 0 (by decide) 1 (by decide) e9) (by decide)) (tw_lo1 ht) (by omega) (by omega) (by omega) (by omega)) cs_X9_58 dX9_save_15 rfl rfl (Nat.le_of_ble_eq_true rfl) (Nat.le_of_ble_eq_true rfl) (Nat.le_of_ble_eq_true rfl) (Nat.le_of_ble_eq_true rfl) (fun v H2 hq hz => ?_) (fun _ _ _ h9 _ _ => h9.elim)
  obtain ⟨rfl, hU, ho⟩ := hq
  have hk := hk.st (j := 1) (by decide) hU
  have ho := aat_c (g := f0) ho (fun j hj => by simp only [va_cpy]; rw [if_pos (by omega)] <;> simp)
  have ht := tw_st1 ht hU ho
  change Go E Z 1 H2 (0) (0) 18 [(0, .ref m)] []
  refine f_aload_n K dX9_save_18 rfl ?_
  refine f_iconst (v := 1) K dX9_save_19 rfl ?_
  refine f_put K fp_X9_382_X9 dX9_save_20 (tw_o ht) (tw_lo ht) (Nat.le_of_ble_eq_true rfl) rfl rfl (fun H3 hU ho => ?_)
  have ht := tw_put (sc' := (upd (upd sc 6 0) 7 1)) ht hU ho rfl
  have hk := hk.put hU
  refine f_aload_n K dX9_save_23 rfl ?_
  refine f_get (v := .ref (ad 0)) K fl_X9_7_X9 dX9_save_24 (tw_o ht) rfl ?_
  refine f_bipush (v := 7) K dX9_save_27 rfl ?_
  refine f_iald (j := 7) K dX9_save_29 (tw_a0 ht) nl_7 (by decide) (by decide) ?_
  exact f_retI K X (Or.inl rfl) dX9_save_30 (Nat.le_of_ble_eq_true rfl) (Nat.le_of_ble_eq_true rfl) (⟨rfl, ht, hk⟩)
/-- restore()I -/
theorem tm_restore {E : fE} {H : Heap} {m : Nat} {ad : Nat → Nat} {sc f0 f1 f2 f3 f4 fb ft fo : Row} (ht : twAt E H m ad sc f0 f1 f2 f3 f4 fb ft fo)  {Q : Prop} [Decidable Q] (hq : sc 7 = bI Q) : fM E yX9_restore prog_17_method_142_code 1 (some .int) 2 0 0 [.ref m] H (fun r_ H' => r_ = some (.int (if Q then f1 7 else 0)) ∧ ∃ x_sc : Row, (x_sc 6 = (if Q then 0 else 1) ∧ x_sc 5 = (if Q then 0 else sc 5) ∧ ∀ j : Nat, j ≠ 5 → j ≠ 6 → x_sc j = sc j) ∧ twAt E H' m ad x_sc (if Q then f1 else f0) f1 f2 f3 f4 fb ft fo ∧ twK m ad H H') noX := by
  refine f_start (own := "SnowPassModel") (nm := "restore") (lv := [(0, .ref m)]) pn_X9 rfl rfl (Nat.le_of_ble_eq_true rfl) rfl (fun Z K X => ?_)
  have hk := twK.rf (m := m) (ad := ad) (H := H)
  refine f_aload_n K dX9_restore_0 rfl ?_
  refine f_aload_n K dX9_restore_1 rfl ?_
  refine f_get (v := .int (sc 7)) K fl_X9_382_X9 dX9_restore_2 (tw_o ht) rfl ?_
  refine Go.fst (congrArg Value.int hq) ?_
  refine f_invV (As := [.int (bI Q)]) (rest := []) K (tm_passes (E := E)  ht Q) cs_X9_164 dX9_restore_5 (tw_o ht) rfl rfl rfl (Nat.le_of_ble_eq_true rfl) (Nat.le_of_ble_eq_true rfl) (Nat.le_of_ble_eq_true rfl) (Nat.le_of_ble_eq_true rfl) (fun v H1 hq hz => ?_) (fun _ _ _ h9 _ _ => h9.elim)
  obtain ⟨rfl, ht, hk1⟩ := hq
  have hk := hk.tr hk1
  have ht : twAt E H1 m ad (upd sc 6 (if Q then 0 else 1)) f0 f1 f2 f3 f4 fb ft fo := ht
  change Go E Z 1 H1 (0) (0) 8 [(0, .ref m)] [.int (bI Q)]
  refine f_if_neB (tgt := 13) K dX9_restore_8 (by decide) (fun c_8 => ?_) (fun c_8 => ?_)
  · refine f_aload_n K dX9_restore_13 rfl ?_
    refine f_get (v := .ref (ad 1)) K fl_X9_13_X9 dX9_restore_14 (tw_o ht) rfl ?_
    refine f_iconst (v := 0) K dX9_restore_17 rfl ?_
    refine f_aload_n K dX9_restore_18 rfl ?_
    refine f_get (v := .ref (ad 0)) K fl_X9_7_X9 dX9_restore_19 (tw_o ht) rfl ?_
    refine f_iconst (v := 0) K dX9_restore_22 rfl ?_
    refine f_invS (As := [.ref (ad 1), .int 0, .ref (ad 0), .int 0]) (rest := []) K (tm_copies (E := E) (a := 0) (b := 0) 0 0 nl_0 nl_0 (tw_a1 ht) (tw_a0 ht) (fun e9 => absurd ((tw_D ht).1 1 (by decide) 0 (by decide) e9) (by decide)) (tw_lo0 ht) (by omega) (by omega) (by omega) (by omega)) cs_X9_58 dX9_restore_23 rfl rfl (Nat.le_of_ble_eq_true rfl) (Nat.le_of_ble_eq_true rfl) (Nat.le_of_ble_eq_true rfl) (Nat.le_of_ble_eq_true rfl) (fun v H4 hq hz => ?_) (fun _ _ _ h9 _ _ => h9.elim)
    obtain ⟨rfl, hU, ho⟩ := hq
    have hk := hk.st (j := 0) (by decide) hU
    have ho := aat_c (g := f1) ho (fun j hj => by simp only [va_cpy]; rw [if_pos (by omega)] <;> simp)
    have ht := tw_st0 ht hU ho
    change Go E Z 1 H4 (0) (0) 26 [(0, .ref m)] []
    refine f_aload_n K dX9_restore_26 rfl ?_
    refine f_iconst (v := 0) K dX9_restore_27 rfl ?_
    refine f_put K fp_X9_269_X9 dX9_restore_28 (tw_o ht) (tw_lo ht) (Nat.le_of_ble_eq_true rfl) rfl rfl (fun H5 hU ho => ?_)
    have ht := tw_put (sc' := (upd (upd sc 6 (if Q then 0 else 1)) 5 0)) ht hU ho rfl
    have hk := hk.put hU
    refine f_aload_n K dX9_restore_31 rfl ?_
    refine f_get (v := .ref (ad 0)) K fl_X9_7_X9 dX9_restore_32 (tw_o ht) rfl ?_
    refine f_bipush (v := 7) K dX9_restore_35 rfl ?_
    refine f_iald (j := 7) K dX9_restore_37 (tw_a0 ht) nl_7 (by decide) (by decide) ?_
    exact f_retI K X (Or.inl rfl) dX9_restore_38 (Nat.le_of_ble_eq_true rfl) (Nat.le_of_ble_eq_true rfl) (⟨rI (if_pos c_8).symm, (upd (upd sc 6 (if Q then 0 else 1)) 5 0), ⟨rfl, (if_pos c_8).symm, fun j h5 h6 => (upd_ne h5).trans (upd_ne h6)⟩, by rw [show (if Q then f1 else f0) = f1 from if_pos c_8]; exact ht, hk⟩)
  · refine f_iconst (v := 0) K dX9_restore_11 rfl ?_
    exact f_retI K X (Or.inl rfl) dX9_restore_12 (Nat.le_of_ble_eq_true rfl) (Nat.le_of_ble_eq_true rfl) (⟨rI (if_neg c_8).symm, (upd sc 6 (if Q then 0 else 1)), ⟨rfl, (if_neg c_8).symm, fun j h5 h6 => upd_ne h6⟩, by rw [show (if Q then f1 else f0) = f0 from if_neg c_8]; exact ht, hk⟩)
theorem nid {x y : Int32} {a b : Nat} (hx : x = nI a) (hy : y = nI b) (ha : a < 2147483648) (h0 : 0 < b) (hb : b < 2147483648) : x / y = nI (a / b) := by rw [hx, hy, pk_div ha h0 hb]
theorem nir {x y : Int32} {a b : Nat} (hx : x = nI a) (hy : y = nI b) (ha : a < 2147483648) (h0 : 0 < b) (hb : b < 2147483648) : x - x / y * y = nI (a % b) := by rw [hx, hy, pk_rem ha h0 hb]
/-- the output: its signs and how many -/
def ow (o : Row × Nat) (c : Int32) : Row × Nat := (upd o.1 o.2 c, o.2 + 1)
/-- a number of at most three digits -/
def own (o : Row × Nat) (d : Nat) : Row × Nat := if d < 10 then ow o (nI (48 + d)) else if d < 100 then ow (ow o (nI (48 + d / 10))) (nI (48 + d % 10)) else ow (ow (ow o (nI (48 + d / 100))) (nI (48 + d / 10 % 10))) (nI (48 + d % 10))
def owc (o : Row × Nat) (p : Prop) [Decidable p] (c : Int32) : Row × Nat := if p then ow o c else o
def ows (f : Row) (o : Row × Nat) (k : Nat) : Row × Nat := owc (owc (owc (own o (f (25 + 3 * k)).toNatClampNeg) (0 < f (25 + 3 * k + 2)) 42) (f 17 = nI k) 60) (f 21 = nI k) 62
def owf (f o : Row) : Nat → Row × Nat
  | 0 => (o, 0)
  | k + 1 => ows f (owc (owf f o k) (0 < k) 32) k
theorem own_le (o : Row × Nat) (d : Nat) : o.2 ≤ (own o d).2 ∧ (own o d).2 ≤ o.2 + 3 := by
  unfold own
  split
  · simp only [ow]; omega
  · split <;> (simp only [ow]; omega)
theorem owc_le (o : Row × Nat) (p : Prop) [Decidable p] (c : Int32) : o.2 ≤ (owc o p c).2 ∧ (owc o p c).2 ≤ o.2 + 1 := by
  unfold owc
  split
  · simp only [ow]; omega
  · omega
theorem ows_le (f : Row) (o : Row × Nat) (k : Nat) : o.2 ≤ (ows f o k).2 ∧ (ows f o k).2 ≤ o.2 + 6 := by
  unfold ows
  have h1 := own_le o (f (25 + 3 * k)).toNatClampNeg
  have h2 := owc_le (own o (f (25 + 3 * k)).toNatClampNeg) (0 < f (25 + 3 * k + 2)) 42
  have h3 := owc_le (owc (own o (f (25 + 3 * k)).toNatClampNeg) (0 < f (25 + 3 * k + 2)) 42) (f 17 = nI k) 60
  have h4 := owc_le (owc (owc (own o (f (25 + 3 * k)).toNatClampNeg) (0 < f (25 + 3 * k + 2)) 42) (f 17 = nI k) 60) (f 21 = nI k) 62
  omega
theorem owf_le (f o : Row) : ∀ k, (owf f o k).2 ≤ 7 * k
  | 0 => Nat.le_refl _
  | k + 1 => by
    have h1 := owf_le f o k
    have h2 := owc_le (owf f o k) (0 < k) 32
    have h3 := ows_le f (owc (owf f o k) (0 < k) 32) k
    simp only [owf]
    omega
/-- writes(I)V -/
theorem tm_writes {E : fE} {H : Heap} {m : Nat} {ad : Nat → Nat} {sc f0 f1 f2 f3 f4 fb ft fo : Row} (ht : twAt E H m ad sc f0 f1 f2 f3 f4 fb ft fo) (c : Int32) {k : Nat} (hol : sc 21 = nI k) (hk9 : k < 160) : fM E yX9_writes prog_17_method_143_code 2 none 1 0 0 [.ref m, .int c] H (fun r_ H' => r_ = none ∧ twAt E H' m ad (upd sc 21 (nI (k + 1))) f0 f1 f2 f3 f4 fb ft (upd fo k c) ∧ twK m ad H H') noX := by
  refine f_start (own := "SnowPassModel") (nm := "writes") (lv := [(0, .ref m), (1, .int c)]) pn_X9 rfl rfl (Nat.le_of_ble_eq_true rfl) rfl (fun Z K X => ?_)
  have hk := twK.rf (m := m) (ad := ad) (H := H)
  refine f_aload_n K dX9_writes_0 rfl ?_
  refine f_get (v := .ref (ad 20)) K fl_X9_35_X9 dX9_writes_1 (tw_o ht) rfl ?_
  refine f_aload_n K dX9_writes_4 rfl ?_
  refine f_get (v := .int (sc 21)) K fl_X9_386_X9 dX9_writes_5 (tw_o ht) rfl ?_
  refine f_iload_n K dX9_writes_8 rfl ?_
  refine f_iast (j := k) K dX9_writes_9 (tw_a20 ht) hol (by omega) (by decide) (tw_lo20 ht) (fun H1 hU ho => ?_)
  have hk := hk.st (j := 20) (by decide) hU
  have ht := tw_st20 ht hU ho
  refine f_aload_n K dX9_writes_10 rfl ?_
  refine f_dup K dX9_writes_11 rfl ?_
  refine f_get (v := .int (sc 21)) K fl_X9_386_X9 dX9_writes_12 (tw_o ht) rfl ?_
  refine f_iconst (v := 1) K dX9_writes_15 rfl ?_
  refine f_iadd K dX9_writes_16 ?_
  refine f_put K fp_X9_386_X9 dX9_writes_17 (tw_o ht) (tw_lo ht) (Nat.le_of_ble_eq_true rfl) rfl rfl (fun H2 hU ho => ?_)
  have ht := tw_put (sc' := (upd sc 21 ((sc 21) + 1))) ht hU ho rfl
  have hk := hk.put hU
  exact f_retV K X rfl dX9_writes_20 (Nat.le_of_ble_eq_true rfl) (Nat.le_of_ble_eq_true rfl) (⟨rfl, by rw [← nI_1, ← hol]; exact ht, hk⟩)
/-- writesNumber(I)V -/
theorem tm_writesNumber {E : fE} {H : Heap} {m : Nat} {ad : Nat → Nat} {sc f0 f1 f2 f3 f4 fb ft fo : Row} (ht : twAt E H m ad sc f0 f1 f2 f3 f4 fb ft fo) (x_d : Int32) {d : Nat} (h_d : x_d = nI d) {k : Nat} (hd : d < 1000) (hol : sc 21 = nI k) (hk9 : k + 3 < 160) : fM E yX9_writesNumber prog_17_method_144_code 3 none 2 0 0 [.ref m, .int x_d] H (fun r_ H' => r_ = none ∧ twAt E H' m ad (upd sc 21 (nI (own (fo, k) d).2)) f0 f1 f2 f3 f4 fb ft ((own (fo, k) d).1) ∧ twK m ad H H') noX := by
  refine f_start (own := "SnowPassModel") (nm := "writesNumber") (lv := [(0, .ref m), (1, .int x_d)]) pn_X9 rfl rfl (Nat.le_of_ble_eq_true rfl) rfl (fun Z K X => ?_)
  have hk := twK.rf (m := m) (ad := ad) (H := H)
  rcases (by omega : (d < 10) ∨ (¬ d < 10 ∧ d < 100) ∨ (¬ d < 100)) with hsp | hsp | hsp
  · refine f_iconst (v := 1) K dX9_writesNumber_0 rfl ?_
    refine f_istore_n (lv' := [(2, .int 1), (0, .ref m), (1, .int x_d)]) K dX9_writesNumber_1 (by decide) rfl ?_
    refine f_iload_n K dX9_writesNumber_2 rfl ?_
    refine f_iload_n K dX9_writesNumber_3 rfl ?_
    refine f_idiv K dX9_writesNumber_4 (by decide) ?_
    refine f_bipush (v := 9) K dX9_writesNumber_5 rfl ?_
    refine f_icmp_le (tgt := 18) K dX9_writesNumber_7 (by decide) (fun c_7 => ?_) (fun c_7 => ?_)
    · refine f_iload_n K dX9_writesNumber_18 rfl ?_
      refine f_if_le (tgt := 43) K dX9_writesNumber_19 (by decide) (fun c_19 => ?_) (fun c_19 => ?_)
      · exact absurd c_19 (by decide)
      · refine f_aload_n K dX9_writesNumber_22 rfl ?_
        refine f_bipush (v := 48) K dX9_writesNumber_23 rfl ?_
        refine f_iload_n K dX9_writesNumber_25 rfl ?_
        refine f_iload_n K dX9_writesNumber_26 rfl ?_
        refine f_idiv K dX9_writesNumber_27 (by decide) ?_
        refine f_bipush (v := 10) K dX9_writesNumber_28 rfl ?_
        refine f_irem K dX9_writesNumber_30 (by decide) ?_
        refine f_iadd K dX9_writesNumber_31 ?_
        refine Go.fst (congrArg Value.int ((nie (nia nl_48 (nir (nid h_d nl_1 (by omega) (by decide) (by decide)) nl_10 (by omega) (by decide) (by decide))) (by omega)) : 48 + ((x_d / 1) - (x_d / 1) / 10 * 10) = nI (48 + d))) ?_
        refine f_invV (As := [.int (nI (48 + d))]) (rest := []) K (tm_writes (E := E)  ht (nI (48 + d)) hol (by omega)) cs_X9_389 dX9_writesNumber_32 (tw_o ht) rfl rfl rfl (Nat.le_of_ble_eq_true rfl) (Nat.le_of_ble_eq_true rfl) (Nat.le_of_ble_eq_true rfl) (Nat.le_of_ble_eq_true rfl) (fun v H3 hq hz => ?_) (fun _ _ _ h9 _ _ => h9.elim)
        obtain ⟨rfl, ht, hk1⟩ := hq
        have hk := hk.tr hk1
        have ht : twAt E H3 m ad (upd sc 21 (nI (k + 1))) f0 f1 f2 f3 f4 fb ft (upd fo k (nI (48 + d))) := ht
        change Go E Z 3 H3 (0) (0) 35 [(2, .int 1), (0, .ref m), (1, .int x_d)] []
        have hol4 := show (upd sc 21 (nI (k + 1))) 21 = _ from rfl
        refine f_iload_n K dX9_writesNumber_35 rfl ?_
        refine f_bipush (v := 10) K dX9_writesNumber_36 rfl ?_
        refine f_idiv K dX9_writesNumber_38 (by decide) ?_
        refine Go.fst (congrArg Value.int (by decide : (1 / 10 : Int32) = 0)) ?_
        refine f_istore_n (lv' := [(2, .int 0), (0, .ref m), (1, .int x_d)]) K dX9_writesNumber_39 (by decide) rfl ?_
        refine f_goto (tgt := 18) K dX9_writesNumber_40 (by decide) ?_
        refine f_iload_n K dX9_writesNumber_18 rfl ?_
        refine f_if_le (tgt := 43) K dX9_writesNumber_19 (by decide) (fun c_19_1 => ?_) (fun c_19_1 => ?_)
        · exact f_retV K X rfl dX9_writesNumber_43 (Nat.le_of_ble_eq_true rfl) (Nat.le_of_ble_eq_true rfl) (⟨rfl, by rw [own, if_pos hsp]; simp only [ow]; exact ht, hk⟩)
        · exact absurd c_19_1 (by decide)
    · exact absurd (by rw [(nid h_d nl_1 (by omega) (by decide) (by decide))]; exact (nI_leI (b := 9) (by omega) (by decide)).mpr (by omega)) c_7
  · refine f_iconst (v := 1) K dX9_writesNumber_0 rfl ?_
    refine f_istore_n (lv' := [(2, .int 1), (0, .ref m), (1, .int x_d)]) K dX9_writesNumber_1 (by decide) rfl ?_
    refine f_iload_n K dX9_writesNumber_2 rfl ?_
    refine f_iload_n K dX9_writesNumber_3 rfl ?_
    refine f_idiv K dX9_writesNumber_4 (by decide) ?_
    refine f_bipush (v := 9) K dX9_writesNumber_5 rfl ?_
    refine f_icmp_le (tgt := 18) K dX9_writesNumber_7 (by decide) (fun c_7 => ?_) (fun c_7 => ?_)
    · exact absurd c_7 (by rw [(nid h_d nl_1 (by omega) (by decide) (by decide))]; exact fun z => absurd ((nI_leI (b := 9) (by omega) (by decide)).mp z) (by omega))
    · refine f_iload_n K dX9_writesNumber_10 rfl ?_
      refine f_bipush (v := 10) K dX9_writesNumber_11 rfl ?_
      refine f_imul K dX9_writesNumber_13 ?_
      refine Go.fst (congrArg Value.int (by decide : (1 * 10 : Int32) = 10)) ?_
      refine f_istore_n (lv' := [(2, .int 10), (0, .ref m), (1, .int x_d)]) K dX9_writesNumber_14 (by decide) rfl ?_
      refine f_goto (tgt := 2) K dX9_writesNumber_15 (by decide) ?_
      refine f_iload_n K dX9_writesNumber_2 rfl ?_
      refine f_iload_n K dX9_writesNumber_3 rfl ?_
      refine f_idiv K dX9_writesNumber_4 (by decide) ?_
      refine f_bipush (v := 9) K dX9_writesNumber_5 rfl ?_
      refine f_icmp_le (tgt := 18) K dX9_writesNumber_7 (by decide) (fun c_7_1 => ?_) (fun c_7_1 => ?_)
      · refine f_iload_n K dX9_writesNumber_18 rfl ?_
        refine f_if_le (tgt := 43) K dX9_writesNumber_19 (by decide) (fun c_19 => ?_) (fun c_19 => ?_)
        · exact absurd c_19 (by decide)
        · refine f_aload_n K dX9_writesNumber_22 rfl ?_
          refine f_bipush (v := 48) K dX9_writesNumber_23 rfl ?_
          refine f_iload_n K dX9_writesNumber_25 rfl ?_
          refine f_iload_n K dX9_writesNumber_26 rfl ?_
          refine f_idiv K dX9_writesNumber_27 (by decide) ?_
          refine f_bipush (v := 10) K dX9_writesNumber_28 rfl ?_
          refine f_irem K dX9_writesNumber_30 (by decide) ?_
          refine f_iadd K dX9_writesNumber_31 ?_
          refine Go.fst (congrArg Value.int ((nie (nia nl_48 (nir (nid h_d nl_10 (by omega) (by decide) (by decide)) nl_10 (by omega) (by decide) (by decide))) (by omega)) : 48 + ((x_d / 10) - (x_d / 10) / 10 * 10) = nI (48 + d / 10))) ?_
          refine f_invV (As := [.int (nI (48 + d / 10))]) (rest := []) K (tm_writes (E := E)  ht (nI (48 + d / 10)) hol (by omega)) cs_X9_389 dX9_writesNumber_32 (tw_o ht) rfl rfl rfl (Nat.le_of_ble_eq_true rfl) (Nat.le_of_ble_eq_true rfl) (Nat.le_of_ble_eq_true rfl) (Nat.le_of_ble_eq_true rfl) (fun v H9 hq hz => ?_) (fun _ _ _ h9 _ _ => h9.elim)
          obtain ⟨rfl, ht, hk1⟩ := hq
          have hk := hk.tr hk1
          have ht : twAt E H9 m ad (upd sc 21 (nI (k + 1))) f0 f1 f2 f3 f4 fb ft (upd fo k (nI (48 + d / 10))) := ht
          change Go E Z 3 H9 (0) (0) 35 [(2, .int 10), (0, .ref m), (1, .int x_d)] []
          have hol10 := show (upd sc 21 (nI (k + 1))) 21 = _ from rfl
          refine f_iload_n K dX9_writesNumber_35 rfl ?_
          refine f_bipush (v := 10) K dX9_writesNumber_36 rfl ?_
          refine f_idiv K dX9_writesNumber_38 (by decide) ?_
          refine Go.fst (congrArg Value.int (by decide : (10 / 10 : Int32) = 1)) ?_
          refine f_istore_n (lv' := [(2, .int 1), (0, .ref m), (1, .int x_d)]) K dX9_writesNumber_39 (by decide) rfl ?_
          refine f_goto (tgt := 18) K dX9_writesNumber_40 (by decide) ?_
          refine f_iload_n K dX9_writesNumber_18 rfl ?_
          refine f_if_le (tgt := 43) K dX9_writesNumber_19 (by decide) (fun c_19_2 => ?_) (fun c_19_2 => ?_)
          · exact absurd c_19_2 (by decide)
          · refine f_aload_n K dX9_writesNumber_22 rfl ?_
            refine f_bipush (v := 48) K dX9_writesNumber_23 rfl ?_
            refine f_iload_n K dX9_writesNumber_25 rfl ?_
            refine f_iload_n K dX9_writesNumber_26 rfl ?_
            refine f_idiv K dX9_writesNumber_27 (by decide) ?_
            refine f_bipush (v := 10) K dX9_writesNumber_28 rfl ?_
            refine f_irem K dX9_writesNumber_30 (by decide) ?_
            refine f_iadd K dX9_writesNumber_31 ?_
            refine Go.fst (congrArg Value.int ((nie (nia nl_48 (nir (nid h_d nl_1 (by omega) (by decide) (by decide)) nl_10 (by omega) (by decide) (by decide))) (by omega)) : 48 + ((x_d / 1) - (x_d / 1) / 10 * 10) = nI (48 + d % 10))) ?_
            refine f_invV (As := [.int (nI (48 + d % 10))]) (rest := []) K (tm_writes (E := E)  ht (nI (48 + d % 10)) hol10 (by omega)) cs_X9_389 dX9_writesNumber_32 (tw_o ht) rfl rfl rfl (Nat.le_of_ble_eq_true rfl) (Nat.le_of_ble_eq_true rfl) (Nat.le_of_ble_eq_true rfl) (Nat.le_of_ble_eq_true rfl) (fun v H12 hq hz => ?_) (fun _ _ _ h9 _ _ => h9.elim)
            obtain ⟨rfl, ht, hk1⟩ := hq
            have hk := hk.tr hk1
            have ht : twAt E H12 m ad (upd (upd sc 21 (nI (k + 1))) 21 (nI ((k + 1) + 1))) f0 f1 f2 f3 f4 fb ft (upd (upd fo k (nI (48 + d / 10))) (k + 1) (nI (48 + d % 10))) := ht
            change Go E Z 3 H12 (0) (0) 35 [(2, .int 1), (0, .ref m), (1, .int x_d)] []
            have hol13 := show (upd (upd sc 21 (nI (k + 1))) 21 (nI ((k + 1) + 1))) 21 = _ from rfl
            refine f_iload_n K dX9_writesNumber_35 rfl ?_
            refine f_bipush (v := 10) K dX9_writesNumber_36 rfl ?_
            refine f_idiv K dX9_writesNumber_38 (by decide) ?_
            refine Go.fst (congrArg Value.int (by decide : (1 / 10 : Int32) = 0)) ?_
            refine f_istore_n (lv' := [(2, .int 0), (0, .ref m), (1, .int x_d)]) K dX9_writesNumber_39 (by decide) rfl ?_
            refine f_goto (tgt := 18) K dX9_writesNumber_40 (by decide) ?_
            refine f_iload_n K dX9_writesNumber_18 rfl ?_
            refine f_if_le (tgt := 43) K dX9_writesNumber_19 (by decide) (fun c_19_3 => ?_) (fun c_19_3 => ?_)
            · exact f_retV K X rfl dX9_writesNumber_43 (Nat.le_of_ble_eq_true rfl) (Nat.le_of_ble_eq_true rfl) (⟨rfl, by rw [own, if_neg hsp.1, if_pos hsp.2]; simp only [ow]; rw [upd_upd] at ht; exact ht, hk⟩)
            · exact absurd c_19_3 (by decide)
      · exact absurd (by rw [(nid h_d nl_10 (by omega) (by decide) (by decide))]; exact (nI_leI (b := 9) (by omega) (by decide)).mpr (by omega)) c_7_1
  · refine f_iconst (v := 1) K dX9_writesNumber_0 rfl ?_
    refine f_istore_n (lv' := [(2, .int 1), (0, .ref m), (1, .int x_d)]) K dX9_writesNumber_1 (by decide) rfl ?_
    refine f_iload_n K dX9_writesNumber_2 rfl ?_
    refine f_iload_n K dX9_writesNumber_3 rfl ?_
    refine f_idiv K dX9_writesNumber_4 (by decide) ?_
    refine f_bipush (v := 9) K dX9_writesNumber_5 rfl ?_
    refine f_icmp_le (tgt := 18) K dX9_writesNumber_7 (by decide) (fun c_7 => ?_) (fun c_7 => ?_)
    · exact absurd c_7 (by rw [(nid h_d nl_1 (by omega) (by decide) (by decide))]; exact fun z => absurd ((nI_leI (b := 9) (by omega) (by decide)).mp z) (by omega))
    · refine f_iload_n K dX9_writesNumber_10 rfl ?_
      refine f_bipush (v := 10) K dX9_writesNumber_11 rfl ?_
      refine f_imul K dX9_writesNumber_13 ?_
      refine Go.fst (congrArg Value.int (by decide : (1 * 10 : Int32) = 10)) ?_
      refine f_istore_n (lv' := [(2, .int 10), (0, .ref m), (1, .int x_d)]) K dX9_writesNumber_14 (by decide) rfl ?_
      refine f_goto (tgt := 2) K dX9_writesNumber_15 (by decide) ?_
      refine f_iload_n K dX9_writesNumber_2 rfl ?_
      refine f_iload_n K dX9_writesNumber_3 rfl ?_
      refine f_idiv K dX9_writesNumber_4 (by decide) ?_
      refine f_bipush (v := 9) K dX9_writesNumber_5 rfl ?_
      refine f_icmp_le (tgt := 18) K dX9_writesNumber_7 (by decide) (fun c_7_2 => ?_) (fun c_7_2 => ?_)
      · exact absurd c_7_2 (by rw [(nid h_d nl_10 (by omega) (by decide) (by decide))]; exact fun z => absurd ((nI_leI (b := 9) (by omega) (by decide)).mp z) (by omega))
      · refine f_iload_n K dX9_writesNumber_10 rfl ?_
        refine f_bipush (v := 10) K dX9_writesNumber_11 rfl ?_
        refine f_imul K dX9_writesNumber_13 ?_
        refine Go.fst (congrArg Value.int (by decide : (10 * 10 : Int32) = 100)) ?_
        refine f_istore_n (lv' := [(2, .int 100), (0, .ref m), (1, .int x_d)]) K dX9_writesNumber_14 (by decide) rfl ?_
        refine f_goto (tgt := 2) K dX9_writesNumber_15 (by decide) ?_
        refine f_iload_n K dX9_writesNumber_2 rfl ?_
        refine f_iload_n K dX9_writesNumber_3 rfl ?_
        refine f_idiv K dX9_writesNumber_4 (by decide) ?_
        refine f_bipush (v := 9) K dX9_writesNumber_5 rfl ?_
        refine f_icmp_le (tgt := 18) K dX9_writesNumber_7 (by decide) (fun c_7_3 => ?_) (fun c_7_3 => ?_)
        · refine f_iload_n K dX9_writesNumber_18 rfl ?_
          refine f_if_le (tgt := 43) K dX9_writesNumber_19 (by decide) (fun c_19 => ?_) (fun c_19 => ?_)
          · exact absurd c_19 (by decide)
          · refine f_aload_n K dX9_writesNumber_22 rfl ?_
            refine f_bipush (v := 48) K dX9_writesNumber_23 rfl ?_
            refine f_iload_n K dX9_writesNumber_25 rfl ?_
            refine f_iload_n K dX9_writesNumber_26 rfl ?_
            refine f_idiv K dX9_writesNumber_27 (by decide) ?_
            refine f_bipush (v := 10) K dX9_writesNumber_28 rfl ?_
            refine f_irem K dX9_writesNumber_30 (by decide) ?_
            refine f_iadd K dX9_writesNumber_31 ?_
            refine Go.fst (congrArg Value.int ((nie (nia nl_48 (nir (nid h_d nl_100 (by omega) (by decide) (by decide)) nl_10 (by omega) (by decide) (by decide))) (by omega)) : 48 + ((x_d / 100) - (x_d / 100) / 10 * 10) = nI (48 + d / 100))) ?_
            refine f_invV (As := [.int (nI (48 + d / 100))]) (rest := []) K (tm_writes (E := E)  ht (nI (48 + d / 100)) hol (by omega)) cs_X9_389 dX9_writesNumber_32 (tw_o ht) rfl rfl rfl (Nat.le_of_ble_eq_true rfl) (Nat.le_of_ble_eq_true rfl) (Nat.le_of_ble_eq_true rfl) (Nat.le_of_ble_eq_true rfl) (fun v H19 hq hz => ?_) (fun _ _ _ h9 _ _ => h9.elim)
            obtain ⟨rfl, ht, hk1⟩ := hq
            have hk := hk.tr hk1
            have ht : twAt E H19 m ad (upd sc 21 (nI (k + 1))) f0 f1 f2 f3 f4 fb ft (upd fo k (nI (48 + d / 100))) := ht
            change Go E Z 3 H19 (0) (0) 35 [(2, .int 100), (0, .ref m), (1, .int x_d)] []
            have hol20 := show (upd sc 21 (nI (k + 1))) 21 = _ from rfl
            refine f_iload_n K dX9_writesNumber_35 rfl ?_
            refine f_bipush (v := 10) K dX9_writesNumber_36 rfl ?_
            refine f_idiv K dX9_writesNumber_38 (by decide) ?_
            refine Go.fst (congrArg Value.int (by decide : (100 / 10 : Int32) = 10)) ?_
            refine f_istore_n (lv' := [(2, .int 10), (0, .ref m), (1, .int x_d)]) K dX9_writesNumber_39 (by decide) rfl ?_
            refine f_goto (tgt := 18) K dX9_writesNumber_40 (by decide) ?_
            refine f_iload_n K dX9_writesNumber_18 rfl ?_
            refine f_if_le (tgt := 43) K dX9_writesNumber_19 (by decide) (fun c_19_4 => ?_) (fun c_19_4 => ?_)
            · exact absurd c_19_4 (by decide)
            · refine f_aload_n K dX9_writesNumber_22 rfl ?_
              refine f_bipush (v := 48) K dX9_writesNumber_23 rfl ?_
              refine f_iload_n K dX9_writesNumber_25 rfl ?_
              refine f_iload_n K dX9_writesNumber_26 rfl ?_
              refine f_idiv K dX9_writesNumber_27 (by decide) ?_
              refine f_bipush (v := 10) K dX9_writesNumber_28 rfl ?_
              refine f_irem K dX9_writesNumber_30 (by decide) ?_
              refine f_iadd K dX9_writesNumber_31 ?_
              refine Go.fst (congrArg Value.int ((nie (nia nl_48 (nir (nid h_d nl_10 (by omega) (by decide) (by decide)) nl_10 (by omega) (by decide) (by decide))) (by omega)) : 48 + ((x_d / 10) - (x_d / 10) / 10 * 10) = nI (48 + d / 10 % 10))) ?_
              refine f_invV (As := [.int (nI (48 + d / 10 % 10))]) (rest := []) K (tm_writes (E := E)  ht (nI (48 + d / 10 % 10)) hol20 (by omega)) cs_X9_389 dX9_writesNumber_32 (tw_o ht) rfl rfl rfl (Nat.le_of_ble_eq_true rfl) (Nat.le_of_ble_eq_true rfl) (Nat.le_of_ble_eq_true rfl) (Nat.le_of_ble_eq_true rfl) (fun v H22 hq hz => ?_) (fun _ _ _ h9 _ _ => h9.elim)
              obtain ⟨rfl, ht, hk1⟩ := hq
              have hk := hk.tr hk1
              have ht : twAt E H22 m ad (upd (upd sc 21 (nI (k + 1))) 21 (nI ((k + 1) + 1))) f0 f1 f2 f3 f4 fb ft (upd (upd fo k (nI (48 + d / 100))) (k + 1) (nI (48 + d / 10 % 10))) := ht
              change Go E Z 3 H22 (0) (0) 35 [(2, .int 10), (0, .ref m), (1, .int x_d)] []
              have hol23 := show (upd (upd sc 21 (nI (k + 1))) 21 (nI ((k + 1) + 1))) 21 = _ from rfl
              refine f_iload_n K dX9_writesNumber_35 rfl ?_
              refine f_bipush (v := 10) K dX9_writesNumber_36 rfl ?_
              refine f_idiv K dX9_writesNumber_38 (by decide) ?_
              refine Go.fst (congrArg Value.int (by decide : (10 / 10 : Int32) = 1)) ?_
              refine f_istore_n (lv' := [(2, .int 1), (0, .ref m), (1, .int x_d)]) K dX9_writesNumber_39 (by decide) rfl ?_
              refine f_goto (tgt := 18) K dX9_writesNumber_40 (by decide) ?_
              refine f_iload_n K dX9_writesNumber_18 rfl ?_
              refine f_if_le (tgt := 43) K dX9_writesNumber_19 (by decide) (fun c_19_5 => ?_) (fun c_19_5 => ?_)
              · exact absurd c_19_5 (by decide)
              · refine f_aload_n K dX9_writesNumber_22 rfl ?_
                refine f_bipush (v := 48) K dX9_writesNumber_23 rfl ?_
                refine f_iload_n K dX9_writesNumber_25 rfl ?_
                refine f_iload_n K dX9_writesNumber_26 rfl ?_
                refine f_idiv K dX9_writesNumber_27 (by decide) ?_
                refine f_bipush (v := 10) K dX9_writesNumber_28 rfl ?_
                refine f_irem K dX9_writesNumber_30 (by decide) ?_
                refine f_iadd K dX9_writesNumber_31 ?_
                refine Go.fst (congrArg Value.int ((nie (nia nl_48 (nir (nid h_d nl_1 (by omega) (by decide) (by decide)) nl_10 (by omega) (by decide) (by decide))) (by omega)) : 48 + ((x_d / 1) - (x_d / 1) / 10 * 10) = nI (48 + d % 10))) ?_
                refine f_invV (As := [.int (nI (48 + d % 10))]) (rest := []) K (tm_writes (E := E)  ht (nI (48 + d % 10)) hol23 (by omega)) cs_X9_389 dX9_writesNumber_32 (tw_o ht) rfl rfl rfl (Nat.le_of_ble_eq_true rfl) (Nat.le_of_ble_eq_true rfl) (Nat.le_of_ble_eq_true rfl) (Nat.le_of_ble_eq_true rfl) (fun v H25 hq hz => ?_) (fun _ _ _ h9 _ _ => h9.elim)
                obtain ⟨rfl, ht, hk1⟩ := hq
                have hk := hk.tr hk1
                have ht : twAt E H25 m ad (upd (upd (upd sc 21 (nI (k + 1))) 21 (nI ((k + 1) + 1))) 21 (nI (((k + 1) + 1) + 1))) f0 f1 f2 f3 f4 fb ft (upd (upd (upd fo k (nI (48 + d / 100))) (k + 1) (nI (48 + d / 10 % 10))) ((k + 1) + 1) (nI (48 + d % 10))) := ht
                change Go E Z 3 H25 (0) (0) 35 [(2, .int 1), (0, .ref m), (1, .int x_d)] []
                have hol26 := show (upd (upd (upd sc 21 (nI (k + 1))) 21 (nI ((k + 1) + 1))) 21 (nI (((k + 1) + 1) + 1))) 21 = _ from rfl
                refine f_iload_n K dX9_writesNumber_35 rfl ?_
                refine f_bipush (v := 10) K dX9_writesNumber_36 rfl ?_
                refine f_idiv K dX9_writesNumber_38 (by decide) ?_
                refine Go.fst (congrArg Value.int (by decide : (1 / 10 : Int32) = 0)) ?_
                refine f_istore_n (lv' := [(2, .int 0), (0, .ref m), (1, .int x_d)]) K dX9_writesNumber_39 (by decide) rfl ?_
                refine f_goto (tgt := 18) K dX9_writesNumber_40 (by decide) ?_
                refine f_iload_n K dX9_writesNumber_18 rfl ?_
                refine f_if_le (tgt := 43) K dX9_writesNumber_19 (by decide) (fun c_19_6 => ?_) (fun c_19_6 => ?_)
                · exact f_retV K X rfl dX9_writesNumber_43 (Nat.le_of_ble_eq_true rfl) (Nat.le_of_ble_eq_true rfl) (⟨rfl, by rw [own, if_neg (by omega), if_neg hsp]; simp only [ow]; rw [upd_upd] at ht; rw [upd_upd] at ht; exact ht, hk⟩)
                · exact absurd c_19_6 (by decide)
        · exact absurd (by rw [(nid h_d nl_100 (by omega) (by decide) (by decide))]; exact (nI_leI (b := 9) (by omega) (by decide)).mpr (by omega)) c_7_3
