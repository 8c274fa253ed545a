/-! TWIN 8: contracts, the lines -/
set_option maxRecDepth 100000
set_option maxHeartbeats 400000
theorem nl_50 : (50 : Int32) = nI 50 := rfl
theorem cs_X9_225 : CSV "SnowPassModel" 225 yX9_keyword prog_17_method_56_code 2 none 1 := ⟨⟨by decide +kernel, by decide +kernel, by decide +kernel⟩, q3305, q3307, qs49, q161, q3308, by decide⟩
theorem cs_X9_229 : CSV "SnowPassModel" 229 yX9_number prog_17_method_58_code 4 (some .int) 2 := ⟨⟨by decide +kernel, by decide +kernel, by decide +kernel⟩, q3334, q3336, qs55, q161, q3337, by decide⟩
theorem cs_X9_232 : CSV "SnowPassModel" 232 yX9_semicolon prog_17_method_57_code 1 none 0 := ⟨⟨by decide +kernel, by decide +kernel, by decide +kernel⟩, q3340, q3342, qs56, q161, q3343, by decide⟩
abbrev w_road : Row := fun j => bs_X9_223.getD j 0
abbrev w_segment : Row := fun j => bs_X9_241.getD j 0
abbrev w_cart : Row := fun j => bs_X9_246.getD j 0
theorem pnx_b {fb : Row} {l : Nat} {T : PT} (h : T.a ≤ 1000) (hl : l ≤ 700) : (pnx fb l T).a ≤ 1000 := by
  have := pnx_a (fb := fb) (l := l) (T := T)
  omega
theorem pnT_b {fb : Row} {l : Nat} {lo hi : Int32} {T : PT} (h : T.a ≤ 1000) (hl : l ≤ 700) : (pnT fb l lo hi T).a ≤ 1000 := by
  unfold pnT
  split
  · rw [pmu_a, pmu_a]
    have h1 := pval_le fb l (pnx fb l T).a (l - (pnx fb l T).a) (pnx fb l T).a 0
    have h2 := pnx_b (fb := fb) h hl
    show (pnv fb l T).1 ≤ 1000
    unfold pnv
    omega
  · exact h
theorem pgo_b {fb : Row} {l : Nat} {T : PT} (h : T.a ≤ 1000) (hl : l ≤ 700) : (pgo (pnx fb l T)).a ≤ 1000 := by
  have h1 := pnx_w (fb := fb) (l := l) (T := T)
  have h2 := pnx_b (fb := fb) h hl
  show (pnx fb l T).a + (pnx fb l T).w ≤ 1000
  omega
theorem pmu_w {P : Prop} [Decidable P] {c : Int32} {T : PT} : (pmu P c T).w = T.w := by
  unfold pmu
  repeat' split
  all_goals rfl
theorem pkw_b {fb : Row} {l n : Nat} {W : Row} {T : PT} (h : T.a ≤ 1000) (hl : l ≤ 700) : (pkw fb l W n T).a ≤ 1000 := by
  have h1 := pgo_b (fb := fb) h hl
  show (pmu _ 1 (pnx fb l T)).b + (pmu _ 1 (pnx fb l T)).w ≤ 1000
  rw [pmu_b, pmu_w]
  exact h1
/-- a number is read into a cell -/
def nst (fb : Row) (l k : Nat) (lo hi : Int32) (S : PT × Row) : PT × Row := (pnT fb l lo hi S.1, upd S.2 k (pnum fb l lo hi S.1))
def prd3 (fb : Row) (l : Nat) (S : PT × Row) : PT × Row := nst fb l 2 0 50 (nst fb l 1 1 ((nst fb l 0 3 20 (pkw fb l w_road 4 S.1, S.2)).2 0 - 2) (nst fb l 0 3 20 (pkw fb l w_road 4 S.1, S.2)))
def prd7 (fb : Row) (l : Nat) (S : PT × Row) : PT × Row := nst fb l 6 0 9 (nst fb l 5 0 99 (nst fb l 4 0 999 (nst fb l 3 (S.2 2 + 1) 999 S)))
def proad (fb : Row) (l : Nat) (S : PT × Row) : PT × Row := (psemi fb l (prd7 fb l (prd3 fb l S)).1, (prd7 fb l (prd3 fb l S)).2)
/-- roadLine()V -/
theorem tm_roadLine {E : fE} {H : Heap} {m : Nat} {ad : Nat → Nat} {sc f0 f1 f2 f3 f4 fb ft fo : Row} {T : PT} (ht : twAt E H m ad (psc sc T) f0 f1 f2 f3 f4 fb ft fo)  {l : Nat} (hl : sc 10 = nI l) (hl2 : l ≤ 700) (hb : T.a ≤ 1000) : fM E yX9_roadLine prog_17_method_66_code 1 none 8 0 0 [.ref m] H (fun r_ H' => r_ = none ∧ twAt E H' m ad (psc sc ((proad fb l (T, f0)).1)) ((proad fb l (T, f0)).2) f1 f2 f3 f4 fb ft fo ∧ twK m ad H H') noX := by
  refine f_start (own := "SnowPassModel") (nm := "roadLine") (lv := [(0, .ref m)]) pn_X9 rfl rfl (Nat.le_of_ble_eq_true rfl) rfl (fun Z K X => ?_)
  have hk := twK.rf (m := m) (ad := ad) (H := H)
  refine f_aload_n K dX9_roadLine_0 rfl ?_
  obtain ⟨q_1, v_1, hr_1, hs_1⟩ := str_X9_223 K.ok
  refine f_ldcS K hr_1 dX9_roadLine_1 ?_
  refine f_invV (As := [.ref q_1]) (rest := []) K (tm_keyword (E := E)  ht q_1 (kst.of hs_1) (by decide) sw_223 hl hl2 hb) cs_X9_225 dX9_roadLine_3 (tw_o ht) rfl rfl rfl (Nat.le_of_ble_eq_true rfl) (Nat.le_of_ble_eq_true rfl) (Nat.le_of_ble_eq_true rfl) (Nat.le_of_ble_eq_true rfl) (fun v H2 hq hz => ?_) (fun _ _ _ h9 _ _ => h9.elim)
  obtain ⟨rfl, ht, hk1⟩ := hq
  have hk := hk.tr hk1
  have ht : twAt E H2 m ad (psc sc (pkw fb l (fun j => bs_X9_223.getD j 0) 4 T)) f0 f1 f2 f3 f4 fb ft fo := ht
  change Go E Z 1 H2 (0) (0) 6 [(0, .ref m)] []
  have hb4 : (pkw fb l (fun j => bs_X9_223.getD j 0) 4 T).a ≤ 1000 := pkw_b hb hl2
  obtain ⟨S5, eS5⟩ : ∃ S : PT × Row, S = (pkw fb l w_road 4 T, f0) := ⟨_, rfl⟩
  have hbS5 : S5.1.a ≤ 1000 := by rw [eS5]; exact hb4
  have ht : twAt E H2 m ad (psc sc S5.1) S5.2 f1 f2 f3 f4 fb ft fo := by rw [eS5]; exact ht
  refine f_aload_n K dX9_roadLine_6 rfl ?_
  refine f_get (v := .ref (ad 0)) K fl_X9_7_X9 dX9_roadLine_7 (tw_o ht) rfl ?_
  refine f_iconst (v := 0) K dX9_roadLine_10 rfl ?_
  refine f_aload_n K dX9_roadLine_11 rfl ?_
  refine f_iconst (v := 3) K dX9_roadLine_12 rfl ?_
  refine f_bipush (v := 20) K dX9_roadLine_13 rfl ?_
  refine f_invV (As := [.int 3, .int 20]) (rest := [.int 0, .ref (ad 0)]) K (tm_number (E := E)  ht 3 20 hl hl2 hbS5) cs_X9_229 dX9_roadLine_15 (tw_o ht) rfl rfl rfl (Nat.le_of_ble_eq_true rfl) (Nat.le_of_ble_eq_true rfl) (Nat.le_of_ble_eq_true rfl) (Nat.le_of_ble_eq_true rfl) (fun v H6 hq hz => ?_) (fun _ _ _ h9 _ _ => h9.elim)
  obtain ⟨rfl, ht, hk1⟩ := hq
  have hk := hk.tr hk1
  have ht : twAt E H6 m ad (psc sc (pnT fb l 3 20 S5.1)) S5.2 f1 f2 f3 f4 fb ft fo := ht
  change Go E Z 1 H6 (0) (0) 18 [(0, .ref m)] [.int (pnum fb l 3 20 S5.1), .int 0, .ref (ad 0)]
  have hb8 : (pnT fb l 3 20 S5.1).a ≤ 1000 := pnT_b hbS5 hl2
  refine f_iast (j := 0) K dX9_roadLine_18 (tw_a0 ht) nl_0 (by decide) (by decide) (tw_lo0 ht) (fun H9 hU ho => ?_)
  have hk := hk.st (j := 0) (by decide) hU
  have ht := tw_st0 ht hU ho
  obtain ⟨S10, eS10⟩ : ∃ S : PT × Row, S = nst fb l 0 3 20 S5 := ⟨_, rfl⟩
  have hbS10 : S10.1.a ≤ 1000 := by rw [eS10]; exact hb8
  have ht : twAt E H9 m ad (psc sc S10.1) S10.2 f1 f2 f3 f4 fb ft fo := by rw [eS10]; exact ht
  refine f_aload_n K dX9_roadLine_19 rfl ?_
  refine f_get (v := .ref (ad 0)) K fl_X9_7_X9 dX9_roadLine_20 (tw_o ht) rfl ?_
  refine f_iconst (v := 1) K dX9_roadLine_23 rfl ?_
  refine f_aload_n K dX9_roadLine_24 rfl ?_
  refine f_iconst (v := 1) K dX9_roadLine_25 rfl ?_
  refine f_aload_n K dX9_roadLine_26 rfl ?_
  refine f_get (v := .ref (ad 0)) K fl_X9_7_X9 dX9_roadLine_27 (tw_o ht) rfl ?_
  refine f_iconst (v := 0) K dX9_roadLine_30 rfl ?_
  refine f_iald (j := 0) K dX9_roadLine_31 (tw_a0 ht) nl_0 (by decide) (by decide) ?_
  refine f_iconst (v := 2) K dX9_roadLine_32 rfl ?_
  refine f_isub K dX9_roadLine_33 ?_
  refine f_invV (As := [.int 1, .int ((S10.2 0) - 2)]) (rest := [.int 1, .ref (ad 0)]) K (tm_number (E := E)  ht 1 ((S10.2 0) - 2) hl hl2 hbS10) cs_X9_229 dX9_roadLine_34 (tw_o ht) rfl rfl rfl (Nat.le_of_ble_eq_true rfl) (Nat.le_of_ble_eq_true rfl) (Nat.le_of_ble_eq_true rfl) (Nat.le_of_ble_eq_true rfl) (fun v H11 hq hz => ?_) (fun _ _ _ h9 _ _ => h9.elim)
  obtain ⟨rfl, ht, hk1⟩ := hq
  have hk := hk.tr hk1
  have ht : twAt E H11 m ad (psc sc (pnT fb l 1 ((S10.2 0) - 2) S10.1)) S10.2 f1 f2 f3 f4 fb ft fo := ht
  change Go E Z 1 H11 (0) (0) 37 [(0, .ref m)] [.int (pnum fb l 1 ((S10.2 0) - 2) S10.1), .int 1, .ref (ad 0)]
  have hb13 : (pnT fb l 1 ((S10.2 0) - 2) S10.1).a ≤ 1000 := pnT_b hbS10 hl2
  refine f_iast (j := 1) K dX9_roadLine_37 (tw_a0 ht) nl_1 (by decide) (by decide) (tw_lo0 ht) (fun H14 hU ho => ?_)
  have hk := hk.st (j := 0) (by decide) hU
  have ht := tw_st0 ht hU ho
  obtain ⟨S15, eS15⟩ : ∃ S : PT × Row, S = nst fb l 1 1 (S10.2 0 - 2) S10 := ⟨_, rfl⟩
  have hbS15 : S15.1.a ≤ 1000 := by rw [eS15]; exact hb13
  have ht : twAt E H14 m ad (psc sc S15.1) S15.2 f1 f2 f3 f4 fb ft fo := by rw [eS15]; exact ht
  refine f_aload_n K dX9_roadLine_38 rfl ?_
  refine f_get (v := .ref (ad 0)) K fl_X9_7_X9 dX9_roadLine_39 (tw_o ht) rfl ?_
  refine f_iconst (v := 2) K dX9_roadLine_42 rfl ?_
  refine f_aload_n K dX9_roadLine_43 rfl ?_
  refine f_iconst (v := 0) K dX9_roadLine_44 rfl ?_
  refine f_bipush (v := 50) K dX9_roadLine_45 rfl ?_
  refine f_invV (As := [.int 0, .int 50]) (rest := [.int 2, .ref (ad 0)]) K (tm_number (E := E)  ht 0 50 hl hl2 hbS15) cs_X9_229 dX9_roadLine_47 (tw_o ht) rfl rfl rfl (Nat.le_of_ble_eq_true rfl) (Nat.le_of_ble_eq_true rfl) (Nat.le_of_ble_eq_true rfl) (Nat.le_of_ble_eq_true rfl) (fun v H16 hq hz => ?_) (fun _ _ _ h9 _ _ => h9.elim)
  obtain ⟨rfl, ht, hk1⟩ := hq
  have hk := hk.tr hk1
  have ht : twAt E H16 m ad (psc sc (pnT fb l 0 50 S15.1)) S15.2 f1 f2 f3 f4 fb ft fo := ht
  change Go E Z 1 H16 (0) (0) 50 [(0, .ref m)] [.int (pnum fb l 0 50 S15.1), .int 2, .ref (ad 0)]
  have hb18 : (pnT fb l 0 50 S15.1).a ≤ 1000 := pnT_b hbS15 hl2
  refine f_iast (j := 2) K dX9_roadLine_50 (tw_a0 ht) nl_2 (by decide) (by decide) (tw_lo0 ht) (fun H19 hU ho => ?_)
  have hk := hk.st (j := 0) (by decide) hU
  have ht := tw_st0 ht hU ho
  obtain ⟨S20, eS20⟩ : ∃ S : PT × Row, S = nst fb l 2 0 50 S15 := ⟨_, rfl⟩
  have hbS20 : S20.1.a ≤ 1000 := by rw [eS20]; exact hb18
  have ht : twAt E H19 m ad (psc sc S20.1) S20.2 f1 f2 f3 f4 fb ft fo := by rw [eS20]; exact ht
  refine f_aload_n K dX9_roadLine_51 rfl ?_
  refine f_get (v := .ref (ad 0)) K fl_X9_7_X9 dX9_roadLine_52 (tw_o ht) rfl ?_
  refine f_iconst (v := 3) K dX9_roadLine_55 rfl ?_
  refine f_aload_n K dX9_roadLine_56 rfl ?_
  refine f_aload_n K dX9_roadLine_57 rfl ?_
  refine f_get (v := .ref (ad 0)) K fl_X9_7_X9 dX9_roadLine_58 (tw_o ht) rfl ?_
  refine f_iconst (v := 2) K dX9_roadLine_61 rfl ?_
  refine f_iald (j := 2) K dX9_roadLine_62 (tw_a0 ht) nl_2 (by decide) (by decide) ?_
  refine f_iconst (v := 1) K dX9_roadLine_63 rfl ?_
  refine f_iadd K dX9_roadLine_64 ?_
  refine f_sipush (v := 999) K dX9_roadLine_65 rfl ?_
  refine f_invV (As := [.int ((S20.2 2) + 1), .int 999]) (rest := [.int 3, .ref (ad 0)]) K (tm_number (E := E)  ht ((S20.2 2) + 1) 999 hl hl2 hbS20) cs_X9_229 dX9_roadLine_68 (tw_o ht) rfl rfl rfl (Nat.le_of_ble_eq_true rfl) (Nat.le_of_ble_eq_true rfl) (Nat.le_of_ble_eq_true rfl) (Nat.le_of_ble_eq_true rfl) (fun v H21 hq hz => ?_) (fun _ _ _ h9 _ _ => h9.elim)
  obtain ⟨rfl, ht, hk1⟩ := hq
  have hk := hk.tr hk1
  have ht : twAt E H21 m ad (psc sc (pnT fb l ((S20.2 2) + 1) 999 S20.1)) S20.2 f1 f2 f3 f4 fb ft fo := ht
  change Go E Z 1 H21 (0) (0) 71 [(0, .ref m)] [.int (pnum fb l ((S20.2 2) + 1) 999 S20.1), .int 3, .ref (ad 0)]
  have hb23 : (pnT fb l ((S20.2 2) + 1) 999 S20.1).a ≤ 1000 := pnT_b hbS20 hl2
  refine f_iast (j := 3) K dX9_roadLine_71 (tw_a0 ht) nl_3 (by decide) (by decide) (tw_lo0 ht) (fun H24 hU ho => ?_)
  have hk := hk.st (j := 0) (by decide) hU
  have ht := tw_st0 ht hU ho
  obtain ⟨S25, eS25⟩ : ∃ S : PT × Row, S = nst fb l 3 (S20.2 2 + 1) 999 S20 := ⟨_, rfl⟩
  have hbS25 : S25.1.a ≤ 1000 := by rw [eS25]; exact hb23
  have ht : twAt E H24 m ad (psc sc S25.1) S25.2 f1 f2 f3 f4 fb ft fo := by rw [eS25]; exact ht
  refine f_aload_n K dX9_roadLine_72 rfl ?_
  refine f_get (v := .ref (ad 0)) K fl_X9_7_X9 dX9_roadLine_73 (tw_o ht) rfl ?_
  refine f_iconst (v := 4) K dX9_roadLine_76 rfl ?_
  refine f_aload_n K dX9_roadLine_77 rfl ?_
  refine f_iconst (v := 0) K dX9_roadLine_78 rfl ?_
  refine f_sipush (v := 999) K dX9_roadLine_79 rfl ?_
  refine f_invV (As := [.int 0, .int 999]) (rest := [.int 4, .ref (ad 0)]) K (tm_number (E := E)  ht 0 999 hl hl2 hbS25) cs_X9_229 dX9_roadLine_82 (tw_o ht) rfl rfl rfl (Nat.le_of_ble_eq_true rfl) (Nat.le_of_ble_eq_true rfl) (Nat.le_of_ble_eq_true rfl) (Nat.le_of_ble_eq_true rfl) (fun v H26 hq hz => ?_) (fun _ _ _ h9 _ _ => h9.elim)
  obtain ⟨rfl, ht, hk1⟩ := hq
  have hk := hk.tr hk1
  have ht : twAt E H26 m ad (psc sc (pnT fb l 0 999 S25.1)) S25.2 f1 f2 f3 f4 fb ft fo := ht
  change Go E Z 1 H26 (0) (0) 85 [(0, .ref m)] [.int (pnum fb l 0 999 S25.1), .int 4, .ref (ad 0)]
  have hb28 : (pnT fb l 0 999 S25.1).a ≤ 1000 := pnT_b hbS25 hl2
  refine f_iast (j := 4) K dX9_roadLine_85 (tw_a0 ht) nl_4 (by decide) (by decide) (tw_lo0 ht) (fun H29 hU ho => ?_)
  have hk := hk.st (j := 0) (by decide) hU
  have ht := tw_st0 ht hU ho
  obtain ⟨S30, eS30⟩ : ∃ S : PT × Row, S = nst fb l 4 0 999 S25 := ⟨_, rfl⟩
  have hbS30 : S30.1.a ≤ 1000 := by rw [eS30]; exact hb28
  have ht : twAt E H29 m ad (psc sc S30.1) S30.2 f1 f2 f3 f4 fb ft fo := by rw [eS30]; exact ht
  refine f_aload_n K dX9_roadLine_86 rfl ?_
  refine f_get (v := .ref (ad 0)) K fl_X9_7_X9 dX9_roadLine_87 (tw_o ht) rfl ?_
  refine f_iconst (v := 5) K dX9_roadLine_90 rfl ?_
  refine f_aload_n K dX9_roadLine_91 rfl ?_
  refine f_iconst (v := 0) K dX9_roadLine_92 rfl ?_
  refine f_bipush (v := 99) K dX9_roadLine_93 rfl ?_
  refine f_invV (As := [.int 0, .int 99]) (rest := [.int 5, .ref (ad 0)]) K (tm_number (E := E)  ht 0 99 hl hl2 hbS30) cs_X9_229 dX9_roadLine_95 (tw_o ht) rfl rfl rfl (Nat.le_of_ble_eq_true rfl) (Nat.le_of_ble_eq_true rfl) (Nat.le_of_ble_eq_true rfl) (Nat.le_of_ble_eq_true rfl) (fun v H31 hq hz => ?_) (fun _ _ _ h9 _ _ => h9.elim)
  obtain ⟨rfl, ht, hk1⟩ := hq
  have hk := hk.tr hk1
  have ht : twAt E H31 m ad (psc sc (pnT fb l 0 99 S30.1)) S30.2 f1 f2 f3 f4 fb ft fo := ht
  change Go E Z 1 H31 (0) (0) 98 [(0, .ref m)] [.int (pnum fb l 0 99 S30.1), .int 5, .ref (ad 0)]
  have hb33 : (pnT fb l 0 99 S30.1).a ≤ 1000 := pnT_b hbS30 hl2
  refine f_iast (j := 5) K dX9_roadLine_98 (tw_a0 ht) nl_5 (by decide) (by decide) (tw_lo0 ht) (fun H34 hU ho => ?_)
  have hk := hk.st (j := 0) (by decide) hU
  have ht := tw_st0 ht hU ho
  refine f_aload_n K dX9_roadLine_99 rfl ?_
  obtain ⟨S35, eS35⟩ : ∃ S : PT × Row, S = nst fb l 5 0 99 S30 := ⟨_, rfl⟩
  have hbS35 : S35.1.a ≤ 1000 := by rw [eS35]; exact hb33
  have ht : twAt E H34 m ad (psc sc S35.1) S35.2 f1 f2 f3 f4 fb ft fo := by rw [eS35]; exact ht
  refine f_get (v := .ref (ad 0)) K fl_X9_7_X9 dX9_roadLine_100 (tw_o ht) rfl ?_
  refine f_bipush (v := 6) K dX9_roadLine_103 rfl ?_
  refine f_aload_n K dX9_roadLine_105 rfl ?_
  refine f_iconst (v := 0) K dX9_roadLine_106 rfl ?_
  refine f_bipush (v := 9) K dX9_roadLine_107 rfl ?_
  refine f_invV (As := [.int 0, .int 9]) (rest := [.int 6, .ref (ad 0)]) K (tm_number (E := E)  ht 0 9 hl hl2 hbS35) cs_X9_229 dX9_roadLine_109 (tw_o ht) rfl rfl rfl (Nat.le_of_ble_eq_true rfl) (Nat.le_of_ble_eq_true rfl) (Nat.le_of_ble_eq_true rfl) (Nat.le_of_ble_eq_true rfl) (fun v H36 hq hz => ?_) (fun _ _ _ h9 _ _ => h9.elim)
  obtain ⟨rfl, ht, hk1⟩ := hq
  have hk := hk.tr hk1
  have ht : twAt E H36 m ad (psc sc (pnT fb l 0 9 S35.1)) S35.2 f1 f2 f3 f4 fb ft fo := ht
  change Go E Z 1 H36 (0) (0) 112 [(0, .ref m)] [.int (pnum fb l 0 9 S35.1), .int 6, .ref (ad 0)]
  have hb38 : (pnT fb l 0 9 S35.1).a ≤ 1000 := pnT_b hbS35 hl2
  refine f_iast (j := 6) K dX9_roadLine_112 (tw_a0 ht) nl_6 (by decide) (by decide) (tw_lo0 ht) (fun H39 hU ho => ?_)
  have hk := hk.st (j := 0) (by decide) hU
  have ht := tw_st0 ht hU ho
  obtain ⟨S40, eS40⟩ : ∃ S : PT × Row, S = nst fb l 6 0 9 S35 := ⟨_, rfl⟩
  have hbS40 : S40.1.a ≤ 1000 := by rw [eS40]; exact hb38
  have ht : twAt E H39 m ad (psc sc S40.1) S40.2 f1 f2 f3 f4 fb ft fo := by rw [eS40]; exact ht
  refine f_aload_n K dX9_roadLine_113 rfl ?_
  refine f_invV (As := []) (rest := []) K (tm_semicolon (E := E)  ht hl hl2 hbS40) cs_X9_232 dX9_roadLine_114 (tw_o ht) rfl rfl rfl (Nat.le_of_ble_eq_true rfl) (Nat.le_of_ble_eq_true rfl) (Nat.le_of_ble_eq_true rfl) (Nat.le_of_ble_eq_true rfl) (fun v H41 hq hz => ?_) (fun _ _ _ h9 _ _ => h9.elim)
  obtain ⟨rfl, ht, hk1⟩ := hq
  have hk := hk.tr hk1
  have ht : twAt E H41 m ad (psc sc (psemi fb l S40.1)) S40.2 f1 f2 f3 f4 fb ft fo := ht
  change Go E Z 1 H41 (0) (0) 117 [(0, .ref m)] []
  exact f_retV K X rfl dX9_roadLine_117 (Nat.le_of_ble_eq_true rfl) (Nat.le_of_ble_eq_true rfl) (⟨rfl, by rw [proad, prd7, prd3]; rw [← eS5, ← eS10, ← eS15, ← eS20, ← eS25, ← eS30, ← eS35, ← eS40]; exact ht, hk⟩)
def pplo (fb : Row) (l n p : Nat) (W : Row) (S : PT × Row) : PT × Row := nst fb l (17 + 4 * p + 2) 0 99 (nst fb l (17 + 4 * p + 1) 1 200 (pkw fb l W 4 S.1, upd S.2 (17 + 4 * p) (nI (if p = 0 then 0 else n - 1))))
/-- a plough's line -/
def pplough (fb : Row) (l n p : Nat) (W : Row) (S : PT × Row) : PT × Row := if S.1.e = 0 then (psemi fb l (pplo fb l n p W S).1, (pplo fb l n p W S).2) else S
/-- ploughLine(I)V -/
theorem tm_ploughLine {E : fE} {H : Heap} {m : Nat} {ad : Nat → Nat} {sc f0 f1 f2 f3 f4 fb ft fo : Row} {T : PT} (ht : twAt E H m ad (psc sc T) f0 f1 f2 f3 f4 fb ft fo) (x_p : Int32) {p : Nat} (h_p : x_p = nI p) {l n : Nat} (hl : sc 10 = nI l) (hl2 : l ≤ 700) (hb : T.a ≤ 1000) (hn : f0 0 = nI n) (h1 : 1 ≤ n) (hp : p < 2) : fM E yX9_ploughLine prog_17_method_67_code 2 none 8 0 0 [.ref m, .int x_p] H (fun r_ H' => r_ = none ∧ twAt E H' m ad (psc sc ((pplough fb l n p (if p = 0 then w_west else w_east) (T, f0)).1)) ((pplough fb l n p (if p = 0 then w_west else w_east) (T, f0)).2) f1 f2 f3 f4 fb ft fo ∧ twK m ad H H') noX := by
  refine f_start (own := "SnowPassModel") (nm := "ploughLine") (lv := [(0, .ref m), (1, .int x_p)]) pn_X9 rfl rfl (Nat.le_of_ble_eq_true rfl) rfl (fun Z K X => ?_)
  have hk := twK.rf (m := m) (ad := ad) (H := H)
  rcases (by omega : p = 0 ∨ p = 1) with rfl | rfl
  · refine f_aload_n K dX9_ploughLine_0 rfl ?_
    refine f_get (v := .int T.e) K fl_X9_187_X9 dX9_ploughLine_1 (tw_o ht) rfl ?_
    refine f_if_eq (tgt := 8) K dX9_ploughLine_4 (by decide) (fun c_4 => ?_) (fun c_4 => ?_)
    · refine f_aload_n K dX9_ploughLine_8 rfl ?_
      refine f_iload_n K dX9_ploughLine_9 rfl ?_
      refine f_if_ne (tgt := 18) K dX9_ploughLine_10 (by decide) (fun c_10 => ?_) (fun c_10 => ?_)
      · exact absurd c_10 (by rw [h_p]; decide)
      · obtain ⟨q_3, v_3, hr_3, hs_3⟩ := str_X9_211 K.ok
        refine f_ldcS K hr_3 dX9_ploughLine_13 ?_
        refine f_goto (tgt := 20) K dX9_ploughLine_15 (by decide) ?_
        refine f_invV (As := [.ref q_3]) (rest := []) K (tm_keyword (E := E)  ht q_3 (kst.of hs_3) (by decide) sw_211 hl hl2 hb) cs_X9_225 dX9_ploughLine_20 (tw_o ht) rfl rfl rfl (Nat.le_of_ble_eq_true rfl) (Nat.le_of_ble_eq_true rfl) (Nat.le_of_ble_eq_true rfl) (Nat.le_of_ble_eq_true rfl) (fun v H4 hq hz => ?_) (fun _ _ _ h9 _ _ => h9.elim)
        obtain ⟨rfl, ht, hk1⟩ := hq
        have hk := hk.tr hk1
        have ht : twAt E H4 m ad (psc sc (pkw fb l (fun j => bs_X9_211.getD j 0) 4 T)) f0 f1 f2 f3 f4 fb ft fo := ht
        change Go E Z 2 H4 (0) (0) 23 [(0, .ref m), (1, .int x_p)] []
        have hb6 : (pkw fb l (fun j => bs_X9_211.getD j 0) 4 T).a ≤ 1000 := pkw_b hb hl2
        refine f_aload_n K dX9_ploughLine_23 rfl ?_
        refine f_iload_n K dX9_ploughLine_24 rfl ?_
        refine f_iconst (v := 0) K dX9_ploughLine_25 rfl ?_
        refine f_aload_n K dX9_ploughLine_26 rfl ?_
        refine f_iload_n K dX9_ploughLine_27 rfl ?_
        refine f_invV (As := [.int x_p]) (rest := [.int 0, .int x_p, .ref m]) K (tm_valleyOf (E := E) (p := 0) ht x_p h_p hn (by omega) (by omega)) cs_X9_76 dX9_ploughLine_28 (tw_o ht) rfl rfl rfl (Nat.le_of_ble_eq_true rfl) (Nat.le_of_ble_eq_true rfl) (Nat.le_of_ble_eq_true rfl) (Nat.le_of_ble_eq_true rfl) (fun v H7 hq hz => ?_) (fun _ _ _ h9 _ _ => h9.elim)
        obtain ⟨rfl, hq⟩ := hq
        rw [hq]
        change Go E Z 2 H4 (0) (0) 31 [(0, .ref m), (1, .int x_p)] [.int (nI (if 0 = 0 then 0 else n - 1)), .int 0, .int x_p, .ref m]
        refine f_invV (As := [.int x_p, .int 0, .int (nI (if 0 = 0 then 0 else n - 1))]) (rest := []) K (tm_putsPlough (E := E) (p := 0) (w := 0) ht x_p h_p 0 nl_0 (nI (if 0 = 0 then 0 else n - 1)) (by omega)) cs_X9_87 dX9_ploughLine_31 (tw_o ht) rfl rfl rfl (Nat.le_of_ble_eq_true rfl) (Nat.le_of_ble_eq_true rfl) (Nat.le_of_ble_eq_true rfl) (Nat.le_of_ble_eq_true rfl) (fun v H8 hq hz => ?_) (fun _ _ _ h9 _ _ => h9.elim)
        obtain ⟨rfl, ht, hk1⟩ := hq
        have hk := hk.tr hk1
        have ht : twAt E H8 m ad (psc sc (pkw fb l (fun j => bs_X9_211.getD j 0) 4 T)) (upd f0 17 (nI (if 0 = 0 then 0 else n - 1))) f1 f2 f3 f4 fb ft fo := ht
        change Go E Z 2 H8 (0) (0) 34 [(0, .ref m), (1, .int x_p)] []
        obtain ⟨S10, eS10⟩ : ∃ S : PT × Row, S = (pkw fb l w_west 4 T, upd f0 17 (nI (if 0 = 0 then 0 else n - 1))) := ⟨_, rfl⟩
        have hbS10 : S10.1.a ≤ 1000 := by rw [eS10]; exact hb6
        have ht : twAt E H8 m ad (psc sc S10.1) S10.2 f1 f2 f3 f4 fb ft fo := by rw [eS10]; exact ht
        refine f_aload_n K dX9_ploughLine_34 rfl ?_
        refine f_iload_n K dX9_ploughLine_35 rfl ?_
        refine f_iconst (v := 1) K dX9_ploughLine_36 rfl ?_
        refine f_aload_n K dX9_ploughLine_37 rfl ?_
        refine f_iconst (v := 1) K dX9_ploughLine_38 rfl ?_
        refine f_sipush (v := 200) K dX9_ploughLine_39 rfl ?_
        refine f_invV (As := [.int 1, .int 200]) (rest := [.int 1, .int x_p, .ref m]) K (tm_number (E := E)  ht 1 200 hl hl2 hbS10) cs_X9_229 dX9_ploughLine_42 (tw_o ht) rfl rfl rfl (Nat.le_of_ble_eq_true rfl) (Nat.le_of_ble_eq_true rfl) (Nat.le_of_ble_eq_true rfl) (Nat.le_of_ble_eq_true rfl) (fun v H11 hq hz => ?_) (fun _ _ _ h9 _ _ => h9.elim)
        obtain ⟨rfl, ht, hk1⟩ := hq
        have hk := hk.tr hk1
        have ht : twAt E H11 m ad (psc sc (pnT fb l 1 200 S10.1)) S10.2 f1 f2 f3 f4 fb ft fo := ht
        change Go E Z 2 H11 (0) (0) 45 [(0, .ref m), (1, .int x_p)] [.int (pnum fb l 1 200 S10.1), .int 1, .int x_p, .ref m]
        have hb13 : (pnT fb l 1 200 S10.1).a ≤ 1000 := pnT_b hbS10 hl2
        refine f_invV (As := [.int x_p, .int 1, .int (pnum fb l 1 200 S10.1)]) (rest := []) K (tm_putsPlough (E := E) (p := 0) (w := 1) ht x_p h_p 1 nl_1 (pnum fb l 1 200 S10.1) (by omega)) cs_X9_87 dX9_ploughLine_45 (tw_o ht) rfl rfl rfl (Nat.le_of_ble_eq_true rfl) (Nat.le_of_ble_eq_true rfl) (Nat.le_of_ble_eq_true rfl) (Nat.le_of_ble_eq_true rfl) (fun v H14 hq hz => ?_) (fun _ _ _ h9 _ _ => h9.elim)
        obtain ⟨rfl, ht, hk1⟩ := hq
        have hk := hk.tr hk1
        have ht : twAt E H14 m ad (psc sc (pnT fb l 1 200 S10.1)) (upd S10.2 18 (pnum fb l 1 200 S10.1)) f1 f2 f3 f4 fb ft fo := ht
        change Go E Z 2 H14 (0) (0) 48 [(0, .ref m), (1, .int x_p)] []
        obtain ⟨S16, eS16⟩ : ∃ S : PT × Row, S = nst fb l 18 1 200 S10 := ⟨_, rfl⟩
        have hbS16 : S16.1.a ≤ 1000 := by rw [eS16]; exact hb13
        have ht : twAt E H14 m ad (psc sc S16.1) S16.2 f1 f2 f3 f4 fb ft fo := by rw [eS16]; exact ht
        refine f_aload_n K dX9_ploughLine_48 rfl ?_
        refine f_iload_n K dX9_ploughLine_49 rfl ?_
        refine f_iconst (v := 2) K dX9_ploughLine_50 rfl ?_
        refine f_aload_n K dX9_ploughLine_51 rfl ?_
        refine f_iconst (v := 0) K dX9_ploughLine_52 rfl ?_
        refine f_bipush (v := 99) K dX9_ploughLine_53 rfl ?_
        refine f_invV (As := [.int 0, .int 99]) (rest := [.int 2, .int x_p, .ref m]) K (tm_number (E := E)  ht 0 99 hl hl2 hbS16) cs_X9_229 dX9_ploughLine_55 (tw_o ht) rfl rfl rfl (Nat.le_of_ble_eq_true rfl) (Nat.le_of_ble_eq_true rfl) (Nat.le_of_ble_eq_true rfl) (Nat.le_of_ble_eq_true rfl) (fun v H17 hq hz => ?_) (fun _ _ _ h9 _ _ => h9.elim)
        obtain ⟨rfl, ht, hk1⟩ := hq
        have hk := hk.tr hk1
        have ht : twAt E H17 m ad (psc sc (pnT fb l 0 99 S16.1)) S16.2 f1 f2 f3 f4 fb ft fo := ht
        change Go E Z 2 H17 (0) (0) 58 [(0, .ref m), (1, .int x_p)] [.int (pnum fb l 0 99 S16.1), .int 2, .int x_p, .ref m]
        have hb19 : (pnT fb l 0 99 S16.1).a ≤ 1000 := pnT_b hbS16 hl2
        refine f_invV (As := [.int x_p, .int 2, .int (pnum fb l 0 99 S16.1)]) (rest := []) K (tm_putsPlough (E := E) (p := 0) (w := 2) ht x_p h_p 2 nl_2 (pnum fb l 0 99 S16.1) (by omega)) cs_X9_87 dX9_ploughLine_58 (tw_o ht) rfl rfl rfl (Nat.le_of_ble_eq_true rfl) (Nat.le_of_ble_eq_true rfl) (Nat.le_of_ble_eq_true rfl) (Nat.le_of_ble_eq_true rfl) (fun v H20 hq hz => ?_) (fun _ _ _ h9 _ _ => h9.elim)
        obtain ⟨rfl, ht, hk1⟩ := hq
        have hk := hk.tr hk1
        have ht : twAt E H20 m ad (psc sc (pnT fb l 0 99 S16.1)) (upd S16.2 19 (pnum fb l 0 99 S16.1)) f1 f2 f3 f4 fb ft fo := ht
        change Go E Z 2 H20 (0) (0) 61 [(0, .ref m), (1, .int x_p)] []
        obtain ⟨S22, eS22⟩ : ∃ S : PT × Row, S = nst fb l 19 0 99 S16 := ⟨_, rfl⟩
        have hbS22 : S22.1.a ≤ 1000 := by rw [eS22]; exact hb19
        have ht : twAt E H20 m ad (psc sc S22.1) S22.2 f1 f2 f3 f4 fb ft fo := by rw [eS22]; exact ht
        refine f_aload_n K dX9_ploughLine_61 rfl ?_
        refine f_invV (As := []) (rest := []) K (tm_semicolon (E := E)  ht hl hl2 hbS22) cs_X9_232 dX9_ploughLine_62 (tw_o ht) rfl rfl rfl (Nat.le_of_ble_eq_true rfl) (Nat.le_of_ble_eq_true rfl) (Nat.le_of_ble_eq_true rfl) (Nat.le_of_ble_eq_true rfl) (fun v H23 hq hz => ?_) (fun _ _ _ h9 _ _ => h9.elim)
        obtain ⟨rfl, ht, hk1⟩ := hq
        have hk := hk.tr hk1
        have ht : twAt E H23 m ad (psc sc (psemi fb l S22.1)) S22.2 f1 f2 f3 f4 fb ft fo := ht
        change Go E Z 2 H23 (0) (0) 65 [(0, .ref m), (1, .int x_p)] []
        exact f_retV K X rfl dX9_ploughLine_65 (Nat.le_of_ble_eq_true rfl) (Nat.le_of_ble_eq_true rfl) (⟨rfl, by rw [show pplough fb l n 0 (if 0 = 0 then w_west else w_east) (T, f0) = (psemi fb l (pplo fb l n 0 w_west (T, f0)).1, (pplo fb l n 0 w_west (T, f0)).2) from if_pos c_4]; rw [pplo]; rw [← eS10, ← eS16, ← eS22]; exact ht, hk⟩)
    · exact f_retV K X rfl dX9_ploughLine_7 (Nat.le_of_ble_eq_true rfl) (Nat.le_of_ble_eq_true rfl) (⟨rfl, by rw [show pplough fb l n _ _ (T, f0) = (T, f0) from if_neg c_4]; exact ht, hk⟩)
  · refine f_aload_n K dX9_ploughLine_0 rfl ?_
    refine f_get (v := .int T.e) K fl_X9_187_X9 dX9_ploughLine_1 (tw_o ht) rfl ?_
    refine f_if_eq (tgt := 8) K dX9_ploughLine_4 (by decide) (fun c_4 => ?_) (fun c_4 => ?_)
    · refine f_aload_n K dX9_ploughLine_8 rfl ?_
      refine f_iload_n K dX9_ploughLine_9 rfl ?_
      refine f_if_ne (tgt := 18) K dX9_ploughLine_10 (by decide) (fun c_10 => ?_) (fun c_10 => ?_)
      · obtain ⟨q_27, v_27, hr_27, hs_27⟩ := str_X9_213 K.ok
        refine f_ldcS K hr_27 dX9_ploughLine_18 ?_
        refine f_invV (As := [.ref q_27]) (rest := []) K (tm_keyword (E := E)  ht q_27 (kst.of hs_27) (by decide) sw_213 hl hl2 hb) cs_X9_225 dX9_ploughLine_20 (tw_o ht) rfl rfl rfl (Nat.le_of_ble_eq_true rfl) (Nat.le_of_ble_eq_true rfl) (Nat.le_of_ble_eq_true rfl) (Nat.le_of_ble_eq_true rfl) (fun v H28 hq hz => ?_) (fun _ _ _ h9 _ _ => h9.elim)
        obtain ⟨rfl, ht, hk1⟩ := hq
        have hk := hk.tr hk1
        have ht : twAt E H28 m ad (psc sc (pkw fb l (fun j => bs_X9_213.getD j 0) 4 T)) f0 f1 f2 f3 f4 fb ft fo := ht
        change Go E Z 2 H28 (0) (0) 23 [(0, .ref m), (1, .int x_p)] []
        have hb30 : (pkw fb l (fun j => bs_X9_213.getD j 0) 4 T).a ≤ 1000 := pkw_b hb hl2
        refine f_aload_n K dX9_ploughLine_23 rfl ?_
        refine f_iload_n K dX9_ploughLine_24 rfl ?_
        refine f_iconst (v := 0) K dX9_ploughLine_25 rfl ?_
        refine f_aload_n K dX9_ploughLine_26 rfl ?_
        refine f_iload_n K dX9_ploughLine_27 rfl ?_
        refine f_invV (As := [.int x_p]) (rest := [.int 0, .int x_p, .ref m]) K (tm_valleyOf (E := E) (p := 1) ht x_p h_p hn (by omega) (by omega)) cs_X9_76 dX9_ploughLine_28 (tw_o ht) rfl rfl rfl (Nat.le_of_ble_eq_true rfl) (Nat.le_of_ble_eq_true rfl) (Nat.le_of_ble_eq_true rfl) (Nat.le_of_ble_eq_true rfl) (fun v H31 hq hz => ?_) (fun _ _ _ h9 _ _ => h9.elim)
        obtain ⟨rfl, hq⟩ := hq
        rw [hq]
        change Go E Z 2 H28 (0) (0) 31 [(0, .ref m), (1, .int x_p)] [.int (nI (if 1 = 0 then 0 else n - 1)), .int 0, .int x_p, .ref m]
        refine f_invV (As := [.int x_p, .int 0, .int (nI (if 1 = 0 then 0 else n - 1))]) (rest := []) K (tm_putsPlough (E := E) (p := 1) (w := 0) ht x_p h_p 0 nl_0 (nI (if 1 = 0 then 0 else n - 1)) (by omega)) cs_X9_87 dX9_ploughLine_31 (tw_o ht) rfl rfl rfl (Nat.le_of_ble_eq_true rfl) (Nat.le_of_ble_eq_true rfl) (Nat.le_of_ble_eq_true rfl) (Nat.le_of_ble_eq_true rfl) (fun v H32 hq hz => ?_) (fun _ _ _ h9 _ _ => h9.elim)
        obtain ⟨rfl, ht, hk1⟩ := hq
        have hk := hk.tr hk1
        have ht : twAt E H32 m ad (psc sc (pkw fb l (fun j => bs_X9_213.getD j 0) 4 T)) (upd f0 21 (nI (if 1 = 0 then 0 else n - 1))) f1 f2 f3 f4 fb ft fo := ht
        change Go E Z 2 H32 (0) (0) 34 [(0, .ref m), (1, .int x_p)] []
        obtain ⟨S34, eS34⟩ : ∃ S : PT × Row, S = (pkw fb l w_east 4 T, upd f0 21 (nI (if 1 = 0 then 0 else n - 1))) := ⟨_, rfl⟩
        have hbS34 : S34.1.a ≤ 1000 := by rw [eS34]; exact hb30
        have ht : twAt E H32 m ad (psc sc S34.1) S34.2 f1 f2 f3 f4 fb ft fo := by rw [eS34]; exact ht
        refine f_aload_n K dX9_ploughLine_34 rfl ?_
        refine f_iload_n K dX9_ploughLine_35 rfl ?_
        refine f_iconst (v := 1) K dX9_ploughLine_36 rfl ?_
        refine f_aload_n K dX9_ploughLine_37 rfl ?_
        refine f_iconst (v := 1) K dX9_ploughLine_38 rfl ?_
        refine f_sipush (v := 200) K dX9_ploughLine_39 rfl ?_
        refine f_invV (As := [.int 1, .int 200]) (rest := [.int 1, .int x_p, .ref m]) K (tm_number (E := E)  ht 1 200 hl hl2 hbS34) cs_X9_229 dX9_ploughLine_42 (tw_o ht) rfl rfl rfl (Nat.le_of_ble_eq_true rfl) (Nat.le_of_ble_eq_true rfl) (Nat.le_of_ble_eq_true rfl) (Nat.le_of_ble_eq_true rfl) (fun v H35 hq hz => ?_) (fun _ _ _ h9 _ _ => h9.elim)
        obtain ⟨rfl, ht, hk1⟩ := hq
        have hk := hk.tr hk1
        have ht : twAt E H35 m ad (psc sc (pnT fb l 1 200 S34.1)) S34.2 f1 f2 f3 f4 fb ft fo := ht
        change Go E Z 2 H35 (0) (0) 45 [(0, .ref m), (1, .int x_p)] [.int (pnum fb l 1 200 S34.1), .int 1, .int x_p, .ref m]
        have hb37 : (pnT fb l 1 200 S34.1).a ≤ 1000 := pnT_b hbS34 hl2
        refine f_invV (As := [.int x_p, .int 1, .int (pnum fb l 1 200 S34.1)]) (rest := []) K (tm_putsPlough (E := E) (p := 1) (w := 1) ht x_p h_p 1 nl_1 (pnum fb l 1 200 S34.1) (by omega)) cs_X9_87 dX9_ploughLine_45 (tw_o ht) rfl rfl rfl (Nat.le_of_ble_eq_true rfl) (Nat.le_of_ble_eq_true rfl) (Nat.le_of_ble_eq_true rfl) (Nat.le_of_ble_eq_true rfl) (fun v H38 hq hz => ?_) (fun _ _ _ h9 _ _ => h9.elim)
        obtain ⟨rfl, ht, hk1⟩ := hq
        have hk := hk.tr hk1
        have ht : twAt E H38 m ad (psc sc (pnT fb l 1 200 S34.1)) (upd S34.2 22 (pnum fb l 1 200 S34.1)) f1 f2 f3 f4 fb ft fo := ht
        change Go E Z 2 H38 (0) (0) 48 [(0, .ref m), (1, .int x_p)] []
        obtain ⟨S40, eS40⟩ : ∃ S : PT × Row, S = nst fb l 22 1 200 S34 := ⟨_, rfl⟩
        have hbS40 : S40.1.a ≤ 1000 := by rw [eS40]; exact hb37
        have ht : twAt E H38 m ad (psc sc S40.1) S40.2 f1 f2 f3 f4 fb ft fo := by rw [eS40]; exact ht
        refine f_aload_n K dX9_ploughLine_48 rfl ?_
        refine f_iload_n K dX9_ploughLine_49 rfl ?_
        refine f_iconst (v := 2) K dX9_ploughLine_50 rfl ?_
        refine f_aload_n K dX9_ploughLine_51 rfl ?_
        refine f_iconst (v := 0) K dX9_ploughLine_52 rfl ?_
        refine f_bipush (v := 99) K dX9_ploughLine_53 rfl ?_
        refine f_invV (As := [.int 0, .int 99]) (rest := [.int 2, .int x_p, .ref m]) K (tm_number (E := E)  ht 0 99 hl hl2 hbS40) cs_X9_229 dX9_ploughLine_55 (tw_o ht) rfl rfl rfl (Nat.le_of_ble_eq_true rfl) (Nat.le_of_ble_eq_true rfl) (Nat.le_of_ble_eq_true rfl) (Nat.le_of_ble_eq_true rfl) (fun v H41 hq hz => ?_) (fun _ _ _ h9 _ _ => h9.elim)
        obtain ⟨rfl, ht, hk1⟩ := hq
        have hk := hk.tr hk1
        have ht : twAt E H41 m ad (psc sc (pnT fb l 0 99 S40.1)) S40.2 f1 f2 f3 f4 fb ft fo := ht
        change Go E Z 2 H41 (0) (0) 58 [(0, .ref m), (1, .int x_p)] [.int (pnum fb l 0 99 S40.1), .int 2, .int x_p, .ref m]
        have hb43 : (pnT fb l 0 99 S40.1).a ≤ 1000 := pnT_b hbS40 hl2
        refine f_invV (As := [.int x_p, .int 2, .int (pnum fb l 0 99 S40.1)]) (rest := []) K (tm_putsPlough (E := E) (p := 1) (w := 2) ht x_p h_p 2 nl_2 (pnum fb l 0 99 S40.1) (by omega)) cs_X9_87 dX9_ploughLine_58 (tw_o ht) rfl rfl rfl (Nat.le_of_ble_eq_true rfl) (Nat.le_of_ble_eq_true rfl) (Nat.le_of_ble_eq_true rfl) (Nat.le_of_ble_eq_true rfl) (fun v H44 hq hz => ?_) (fun _ _ _ h9 _ _ => h9.elim)
        obtain ⟨rfl, ht, hk1⟩ := hq
        have hk := hk.tr hk1
        have ht : twAt E H44 m ad (psc sc (pnT fb l 0 99 S40.1)) (upd S40.2 23 (pnum fb l 0 99 S40.1)) f1 f2 f3 f4 fb ft fo := ht
        change Go E Z 2 H44 (0) (0) 61 [(0, .ref m), (1, .int x_p)] []
        obtain ⟨S46, eS46⟩ : ∃ S : PT × Row, S = nst fb l 23 0 99 S40 := ⟨_, rfl⟩
        have hbS46 : S46.1.a ≤ 1000 := by rw [eS46]; exact hb43
        have ht : twAt E H44 m ad (psc sc S46.1) S46.2 f1 f2 f3 f4 fb ft fo := by rw [eS46]; exact ht
        refine f_aload_n K dX9_ploughLine_61 rfl ?_
        refine f_invV (As := []) (rest := []) K (tm_semicolon (E := E)  ht hl hl2 hbS46) cs_X9_232 dX9_ploughLine_62 (tw_o ht) rfl rfl rfl (Nat.le_of_ble_eq_true rfl) (Nat.le_of_ble_eq_true rfl) (Nat.le_of_ble_eq_true rfl) (Nat.le_of_ble_eq_true rfl) (fun v H47 hq hz => ?_) (fun _ _ _ h9 _ _ => h9.elim)
        obtain ⟨rfl, ht, hk1⟩ := hq
        have hk := hk.tr hk1
        have ht : twAt E H47 m ad (psc sc (psemi fb l S46.1)) S46.2 f1 f2 f3 f4 fb ft fo := ht
        change Go E Z 2 H47 (0) (0) 65 [(0, .ref m), (1, .int x_p)] []
        exact f_retV K X rfl dX9_ploughLine_65 (Nat.le_of_ble_eq_true rfl) (Nat.le_of_ble_eq_true rfl) (⟨rfl, by rw [show pplough fb l n 1 (if 1 = 0 then w_west else w_east) (T, f0) = (psemi fb l (pplo fb l n 1 w_east (T, f0)).1, (pplo fb l n 1 w_east (T, f0)).2) from if_pos c_4]; rw [pplo]; rw [← eS34, ← eS40, ← eS46]; exact ht, hk⟩)
      · exact absurd c_10 (by rw [h_p]; decide)
    · exact f_retV K X rfl dX9_ploughLine_7 (Nat.le_of_ble_eq_true rfl) (Nat.le_of_ble_eq_true rfl) (⟨rfl, by rw [show pplough fb l n _ _ (T, f0) = (T, f0) from if_neg c_4]; exact ht, hk⟩)
