/-! BASE 5: objects and arrays of which less is known: constants; statics -/
set_option maxRecDepth 100000
def woat (E : fE) (q ci : Nat) (fs : List Value) (H : Heap) : Prop := ∃ r : vw_C, fcl[ci]? = some r ∧ ∃ cell : Cell, H[q]? = some cell ∧ cell.cls = E.D.1 ci ∧ cell.vm.isStatics = false ∧ cell.vm ≠ .unknown ∧ ∀ k, k < r.2.2 → cell.slots[E.D.2 ci k]? = some (vp_V fs k)
theorem oat.w {E : fE} {q ci : Nat} {fs : List Value} {H : Heap} (h : oat E q ci fs H) : woat E q ci fs H := by
  obtain ⟨r, h1, cell, g1, g2, g3, g4⟩ := h
  exact ⟨r, h1, cell, g1, g2, (by rw [g3]; rfl), (by rw [g3]; exact (fun z => (by cases z))), g4⟩
theorem woat.k {E : fE} {q ci : Nat} {fs : List Value} {H H' : Heap} (h : woat E q ci fs H) (hk : H'[q]? = H[q]?) : woat E q ci fs H' := by
  obtain ⟨r, h1, cell, g1, g2⟩ := h
  exact ⟨r, h1, cell, by rw [hk]; exact g1, g2⟩
theorem woat.lt {E : fE} {q ci : Nat} {fs : List Value} {H : Heap} (h : woat E q ci fs H) : q < H.size := by
  obtain ⟨r, h1, cell, g1, g2⟩ := h
  exact (Array.getElem?_eq_some_iff.mp g1).1
def wtat (E : fE) (ty : FieldType) (t n : Nat) (F : Nat → Value) (H : Heap) : Prop := ∃ cell : Cell, H[t]? = some cell ∧ E.s.isArrayOf cell ty ∧ cell.vm ≠ .unknown ∧ n ≤ cell.slots.size ∧ cell.slots.size.toInt32 = nI n ∧ ∀ j : Nat, j < n → cell.slots[j]? = some (F j)
theorem wtat.k {E : fE} {ty : FieldType} {t n : Nat} {F : Nat → Value} {H H' : Heap} (h : wtat E ty t n F H) (hk : H'[t]? = H[t]?) : wtat E ty t n F H' := by
  obtain ⟨cell, g1, g2⟩ := h
  exact ⟨cell, by rw [hk]; exact g1, g2⟩
theorem wtat.lt {E : fE} {ty : FieldType} {t n : Nat} {F : Nat → Value} {H : Heap} (h : wtat E ty t n F H) : t < H.size := by
  obtain ⟨cell, g1, g2⟩ := h
  exact (Array.getElem?_eq_some_iff.mp g1).1
theorem aat.w {E : fE} {t n : Nat} {f : Nat → Int32} {H : Heap} (hE : fOK E) (h : aat E t 1 n f H) : wtat E .byte t n (fun j => .int (f j)) H :=
  ⟨_, h, (hE.1.2 1 (E.C 1, .byte) rfl).1 n (fun j => .int (f j)), (fun z => (by cases z)), (by show n ≤ (arrV _ _ _).slots.size; rw [arrV_size]; exact Nat.le_refl _), (by show (arrV _ _ _).slots.size.toInt32 = _; rw [arrV_size]; rfl), fun j hj => (by show (arrV _ _ _).slots[_]? = _; rw [arrV_read _ _ hj])⟩
theorem f_recvw {E : fE} {s : State} {H : Heap} {a ci N : Nat} {C : String} {T : u_T} {fs : List Value} (hG : fG E s) (ha : woat E a ci fs H) (hc : fcl[ci]? = some (C, T, N)) : ∃ cell : Cell, H[a]? = some cell ∧ cell.vm.isStatics = false ∧ s.vm.findClass C = some cell.cls := by
  obtain ⟨r, h1, cell, g1, g2, g3, -⟩ := ha
  exact ⟨cell, g1, g3, by rw [g2]; exact (hG.K.1 ci _ hc).2.1⟩
/-- a text: its bytes, its hash -/
def sat (E : fE) (q v n : Nat) (f : Row) (h z : Int32) (H : Heap) : Prop := woat E q 19 [.ref v, .int 0, .int h, .int z] H ∧ wtat E .byte v n (fun j => .int (f j)) H
theorem sat.k {E : fE} {q v n : Nat} {f : Row} {h z : Int32} {H H' : Heap} (hs : sat E q v n f h z H) (h1 : H'[q]? = H[q]?) (h2 : H'[v]? = H[v]?) : sat E q v n f h z H' := ⟨hs.1.k h1, hs.2.k h2⟩
section FCONST
variable {E : fE} {Z : fZ} {cc : ByteArray} {nL : Nat} {own : String} {ret : Option FieldType} {tb : List ExceptionTableEntry} {nm : String} {L mc ms : Nat} {H : Heap} {cs ss pc : Nat} {lv lv' : List (Nat × Value)} {st : List Value}
variable {y : MethodName} {bytes : ByteArray} {maxL : Nat} {ret' : Option FieldType} {L' mc' ms' index n : Nat} {Post : Option Value → Heap → Prop} {PX : Nat → String → Heap → Prop} {b : Nat} {As rest : List Value}
theorem f_getw (K : Zok E Z cc nL own ret tb nm L mc ms) {index ci k a : Nat} {fs : List Value} {v : Value} (F : FL own index ci k) (hd : decode cc pc = .ok (.getfield index, 3)) (ha : woat E a ci fs H) (hv : fs[k]? = some v) (kk : Go E Z nL H cs ss (pc + 3) lv (v :: st)) : Go E Z nL H cs ss pc lv (.ref a :: st) := by
  obtain ⟨p, e, R, s, m, args, below, meth, c, Q⟩ := Z
  obtain ⟨hx, hb, hml, hown, hts, hlocks, hr, hG, htb, hnm, hLf, hLl, hmc, hms⟩ := K
  obtain ⟨C, T, N, ref, hc, hin, hk, hsame, hlink⟩ := F
  have hs : ∀ x, s.fieldFound? (T k).1 (T k).2.1 (T k).2.2.1 = some x → s.fieldFound? ref (T k).2.1 (T k).2.2.1 = some x := by
    rcases hsame with h | h
    · rw [h]; exact fun _ h9 => h9
    · exact fun x hx9 => u_same (hts _ h) x hx9
  obtain ⟨r, h1, cell, q1, q2, q3, q4, q5⟩ := ha
  obtain rfl : r = (C, T, N) := Option.some.inj (h1.symm.trans hc)
  obtain ⟨hS9, hfc, kC, hkC, hkind⟩ := hG.K.1 ci _ hc
  obtain ⟨cf, kf, fi, f, hi, hsl⟩ := hS9 k hk
  have hvv : cell.slots[f.slot]? = some v := by
    rw [hsl, q5 k hk]
    simp [vp_V, hv]
  rcases hlink with h | ⟨host, h⟩
  · exact fun locs ls hS hl => W.getf hx hb hown (hts _ h) (hs _ hi) (u_facts hfc hkC (u_lays hts hin hk) hi).1 q1 q4 (v := v) hvv rfl rfl hd (kk locs ls hS hl)
  · exact fun locs ls hS hl => va_Wgetf hx hb hown (va_Nw.use rfl (hG.nwF h)) (hs _ hi) (u_facts hfc hkC (u_lays hts hin hk) hi).1 q1 q4 (v := v) hvv rfl rfl hd (kk locs ls hS hl)
theorem f_baldw (K : Zok E Z cc nL own ret tb nm L mc ms) {a n j : Nat} {F : Nat → Value} {i : Int32} (hd : decode cc pc = .ok (.baload, 1)) (ha : wtat E .byte a n F H) (hi : i = nI j) (hj : j < n) (hn : n ≤ 2147483648) (kk : Go E Z nL H cs ss (pc + 1) lv (F j :: st)) : Go E Z nL H cs ss pc lv (.int i :: .ref a :: st) := by
  obtain ⟨p, e, R, s, m, args, below, meth, c, Q⟩ := Z
  obtain ⟨hx, hb, hml, hown, hts, hlocks, hr, hG, htb, hnm, hLf, hLl, hmc, hms⟩ := K
  obtain ⟨h1, h2⟩ := f_vpin hi hj hn
  obtain ⟨cell, g1, g2, g3, g4, g5, g6⟩ := ha
  have hin' : ¬ (i < 0 ∨ cell.slots.size ≤ i.toNatClampNeg) := by
    intro q
    rcases q with q | q
    · exact h1 (Or.inl q)
    · omega
  exact fun locs ls hS hl => W.bald (v := F j) hx hb g1 (State.isArrayOf_alike hG.2.1.alike g2) g3 hin' (by rw [h2]; exact g6 j hj) rfl rfl hd (kk locs ls hS hl)
theorem f_aaldw (K : Zok E Z cc nL own ret tb nm L mc ms) {a n j : Nat} {C : String} {F : Nat → Value} {i : Int32} (hd : decode cc pc = .ok (.aaload, 1)) (ha : wtat E (.object C) a n F H) (hi : i = nI j) (hj : j < n) (hn : n ≤ 2147483648) (kk : Go E Z nL H cs ss (pc + 1) lv (F j :: st)) : Go E Z nL H cs ss pc lv (.int i :: .ref a :: st) := by
  obtain ⟨p, e, R, s, m, args, below, meth, c, Q⟩ := Z
  obtain ⟨hx, hb, hml, hown, hts, hlocks, hr, hG, htb, hnm, hLf, hLl, hmc, hms⟩ := K
  obtain ⟨h1, h2⟩ := f_vpin hi hj hn
  obtain ⟨cell, g1, g2, g3, g4, g5, g6⟩ := ha
  have hin' : ¬ (i < 0 ∨ cell.slots.size ≤ i.toNatClampNeg) := by
    intro q
    rcases q with q | q
    · exact h1 (Or.inl q)
    · omega
  exact fun locs ls hS hl => W.aald (v := F j) (ty := .object C) hx hb g1 (State.isArrayOf_alike hG.2.1.alike g2) rfl g3 hin' (by rw [h2]; exact g6 j hj) rfl rfl hd (kk locs ls hS hl)
theorem f_alenw (K : Zok E Z cc nL own ret tb nm L mc ms) {a n : Nat} {ty : FieldType} {F : Nat → Value} (hd : decode cc pc = .ok (.arraylength, 1)) (ha : wtat E ty a n F H) (kk : Go E Z nL H cs ss (pc + 1) lv (.int (nI n) :: st)) : Go E Z nL H cs ss pc lv (.ref a :: st) := by
  obtain ⟨p, e, R, s, m, args, below, meth, c, Q⟩ := Z
  obtain ⟨hx, hb, hml, hown, hts, hlocks, hr, hG, htb, hnm, hLf, hLl, hmc, hms⟩ := K
  obtain ⟨cell, g1, g2, g3, g4, g5, g6⟩ := ha
  exact fun locs ls hS hl => W.alen (n := nI n) hx hb g1 (State.isArrayOf_alike hG.2.1.alike g2) g5 rfl rfl hd (kk locs ls hS hl)
theorem f_ldcS (K : Zok E Z cc nL own ret tb nm L mc ms) {index q : Nat} {tx : String} (hZ : vk_R own index tx q E.s) (hd : decode cc pc = .ok (.ldc index, 2)) (kk : Go E Z nL H cs ss (pc + 2) lv (.ref q :: st)) : Go E Z nL H cs ss pc lv st := by
  obtain ⟨p, e, R, s, m, args, below, meth, c, Q⟩ := Z
  obtain ⟨hx, hb, hml, hown, hts, hlocks, hr, hG, htb, hnm, hLf, hLl, hmc, hms⟩ := K
  exact fun locs ls hS hl => va_ldcS hx hb hown (vk_R.warm hG.2.1 hZ) hd (kk locs ls hS hl)
theorem fG.zs {E : fE} {U : State} (h : fG E U) {C n d : String} {v : Value} (hZ : va_Z C n d v (fA E) E.s E.s.heap) : va_Z C n d v (fA E) U U.heap := (va_Z.moved h.2.1.alike hZ).kept (fun a ha h9 => h.2.2.2 a (Nat.not_le.mp h9))
theorem f_gets (K : Zok E Z cc nL own ret tb nm L mc ms) {C n d ref : String} {v : Value} {index : Nat} (hZ : va_Z C n d v (fA E) E.s E.s.heap) (hlink : Cond.fieldLink own index ref n d ∈ lw_all) (hsame : ref = C ∨ Cond.sameField ref C n d ∈ lw_all) (hd : decode cc pc = .ok (.getstatic index, 3)) (kk : Go E Z nL H cs ss (pc + 3) lv (v :: st)) : Go E Z nL H cs ss pc lv st := by
  obtain ⟨p, e, R, s, m, args, below, meth, c, Q⟩ := Z
  obtain ⟨hx, hb, hml, hown, hts, hlocks, hr, hG, htb, hnm, hLf, hLl, hmc, hms⟩ := K
  have hs : ∀ x, s.fieldFound? C n d = some x → s.fieldFound? ref n d = some x := by
    rcases hsame with h | h
    · rw [h]; exact fun _ h9 => h9
    · exact fun x hx9 => u_same (hts _ h) x hx9
  exact fun locs ls hS hl => va_gets hx hb (hG.zs hZ) hS hown (hts _ hlink) hs hd (kk locs ls hS hl)
theorem f_getsN (K : Zok E Z cc nL own ret tb nm L mc ms) {C n d ref host : String} {v : Value} {index : Nat} (hZ : va_Z C n d v (fA E) E.s E.s.heap) (hlink : Cond.fieldLinkNest own index ref n d host ∈ lw_tbl) (hsame : ref = C ∨ Cond.sameField ref C n d ∈ lw_all) (hd : decode cc pc = .ok (.getstatic index, 3)) (kk : Go E Z nL H cs ss (pc + 3) lv (v :: st)) : Go E Z nL H cs ss pc lv st := by
  obtain ⟨p, e, R, s, m, args, below, meth, c, Q⟩ := Z
  obtain ⟨hx, hb, hml, hown, hts, hlocks, hr, hG, htb, hnm, hLf, hLl, hmc, hms⟩ := K
  have hs : ∀ x, s.fieldFound? C n d = some x → s.fieldFound? ref n d = some x := by
    rcases hsame with h | h
    · rw [h]; exact fun _ h9 => h9
    · exact fun x hx9 => u_same (hts _ h) x hx9
  exact fun locs ls hS hl => va_getsN hx hb (hG.zs hZ) hS hown (va_Nw.use rfl (hG.nwF hlink)) hs hd (kk locs ls hS hl)
theorem f_invVc (K : Zok E Z cc nL own ret tb nm L mc ms) {ci N : Nat} {T : u_T} {fs : List Value} (hM : fM E y bytes maxL ret' L' mc' ms' (.ref b :: As) H Post PX) (C0 : CSV own index y bytes maxL ret' n) (hd : decode cc pc = .ok (.invokevirtual index, 3)) (hrv : woat E b ci fs H) (hc : fcl[ci]? = some (y.cls, T, N)) (hn : As.length = n) (hs0 : As.reverse ++ .ref b :: rest = st) (hst : (rest.map fun v => v.category).sum ≤ 8) (hL : L' + 1 ≤ L) (hcs : cs + mc' ≤ mc) (hss : ss + ms' ≤ ms)
    (kk : ∀ (v : Option Value) (H' : Heap), Post v H' → H.size ≤ H'.size → Go E Z nL H' (cs + mc') (ss + ms') (pc + 3) lv (v.toList ++ rest))
    (kx : ∀ (q : Nat) (En : String) (H' : Heap), PX q En H' → H.size ≤ H'.size → Thr Z q En H' → GoX E Z nL H' (cs + mc') (ss + ms') pc lv q) : Go E Z nL H cs ss pc lv st := by
  obtain ⟨p, e, R, s, m, args, below, meth, c, Q⟩ := Z
  obtain ⟨hx, hb, hml, hown, hts, hlocks, hr, hG, htb, hnm, hLf, hLl, hmc, hms⟩ := K
  subst hs0
  intro locs ls hS hl
  obtain ⟨⟨z1, z2, z3⟩, q1, q2, q3, q4, q5, hm⟩ := C0
  exact f_run hS hl (vx_runV ⟨hx, hb, hml, hown, hts⟩ hM (cwV n hts (lw_V q1 q2 q3 q4 q5) rfl rfl rfl ⟨rfl, z1, z2, z3⟩ ⟨by show L' + 1 ≤ R.frames; omega, by show 8 + (maxL + 11) + 64 * L' ≤ R.locals; omega⟩) ⟨f_blind, f_recvw hG hrv hc, f_preG hG hS⟩ rfl hn hl.1 rfl (lv_room hst) hd ⟨by omega, by omega⟩) kk kx
end FCONST
/-- the law's premises, one by one -/
def nrw : List Cond := flatC (Jvm.Cond.and given_1 narrow_1)
theorem fOK.n {E : fE} (h : fOK E) {w : Cond} (i : Nat) (hw : nrw[i]? = some w) : w.before #[Value.ref E.b] E.s = true := flat_of_before _ h.2.2.1 w (List.mem_of_getElem? hw)
theorem fOK.r {E : fE} (_ : fOK E) (a : Nat) (h : a < E.s.heap.size) : ¬ fA E a := Nat.not_le.mpr h
def strC (own : String) (idx : Nat) (bs : List Int32) (h z : Int32) : List Cond :=
  [.exactly (.string own idx) "java/lang/String", .eq (.field (.string own idx) "java/lang/String" "coder" "B") (.int 0), .arrayOf (.field (.string own idx) "java/lang/String" "value" "[B") .byte, .eq (.length (.field (.string own idx) "java/lang/String" "value" "[B")) (.int (Int32.ofNat bs.length))]
  ++ (List.range bs.length).map (fun j => .eq (.elem (.field (.string own idx) "java/lang/String" "value" "[B") (.int (Int32.ofNat j))) (.int (bs.getD j 0)))
  ++ [.eq (.field (.string own idx) "java/lang/String" "hash" "I") (.int h), .eq (.field (.string own idx) "java/lang/String" "hashIsZero" "Z") (.int z)]
theorem slot_of {E : fE} (hE : fOK E) {o n d : String} {v : Value} {q k : Nat} (h : va_OF o n d v q (fA E) E.s E.s.heap) {T : u_T} {C : String} {N ci : Nat} (hc : fcl[ci]? = some (C, T, N)) (hk : k < N) (hT : (T k).1 = o ∧ (T k).2.1 = n ∧ (T k).2.2.1 = d) {cell : Cell} (hq : E.s.heap[q]? = some cell) : cell.slots[E.D.2 ci k]? = some v ∧ cell.vm ≠ .unknown := by
  obtain ⟨cf, kf, i, f, cell', h1, h2, h3, h4, h5, h6⟩ := h
  cases hq.symm.trans h3
  obtain ⟨hS9, -⟩ := hE.1.1 ci _ hc
  obtain ⟨cf', kf', fi', f', hi, hsl⟩ := hS9 k hk
  rw [hT.1, hT.2.1, hT.2.2, h1] at hi
  cases hi
  rw [← hsl]
  exact ⟨h5, h4⟩
theorem str_of {E : fE} (hE : fOK E) {own tx : String} {idx : Nat} {bs : List Int32} {h z : Int32} (hr : Cond.stringRef own idx tx ∈ lw_tbl) (hn : bs.length < 2 ^ 31) (hm : ∀ c ∈ strC own idx bs h z, c ∈ nrw) : ∃ q v : Nat, vk_R own idx tx q E.s ∧ sat E q v bs.length (fun j => bs.getD j 0) h z E.s.heap := by
  have hb : ∀ c ∈ strC own idx bs h z, c.before #[Value.ref E.b] E.s = true := fun c hc => flat_of_before _ hE.2.2.1 c (hm c hc)
  have g1 := hb _ (List.mem_append_left _ (List.mem_append_left _ (List.mem_cons_self ..)))
  have g2 := hb _ (List.mem_append_left _ (List.mem_append_left _ (List.mem_cons_of_mem _ (List.mem_cons_self ..))))
  have g3 := hb _ (List.mem_append_left _ (List.mem_append_left _ (List.mem_cons_of_mem _ (List.mem_cons_of_mem _ (List.mem_cons_self ..)))))
  have g4 := hb _ (List.mem_append_left _ (List.mem_append_left _ (List.mem_cons_of_mem _ (List.mem_cons_of_mem _ (List.mem_cons_of_mem _ (List.mem_cons_self ..))))))
  have g5 : ∀ j : Nat, j < bs.length → (Cond.eq (.elem (.field (.string own idx) "java/lang/String" "value" "[B") (.int (Int32.ofNat j))) (.int (bs.getD j 0))).before #[Value.ref E.b] E.s = true := fun j hj => hb _ (List.mem_append_left _ (List.mem_append_right _ (List.mem_map.mpr ⟨j, List.mem_range.mpr hj, rfl⟩)))
  have g6 := hb _ (List.mem_append_right _ (List.mem_cons_self ..))
  have g7 := hb _ (List.mem_append_right _ (List.mem_cons_of_mem _ (List.mem_cons_self ..)))
  obtain ⟨adK, adV, hS, hev⟩ := vk_Sof (args := #[Value.ref E.b]) (s := E.s) (N := 1) (tm := fun _ => .string own idx) (len := [bs.length]) (byt := [bs]) (A := fA E) (fun i hi => by obtain rfl : i = 0 := (by omega); exact hn) (fun _ _ => g1) (fun _ _ => g2) (fun _ _ => g3) (fun i hi => by obtain rfl : i = 0 := (by omega); exact g4) (fun i hi j hj => by obtain rfl : i = 0 := (by omega); exact g5 j hj) (fun i j hi hj hij => absurd (by omega) hij) hE.r
  obtain ⟨⟨cell, c1, c2, c3, c4⟩, q2, q3, t1, t2, t3, t4, t5, t6, t7⟩ := hS.1 0 (by omega)
  have q4 := vk_OFof (hev 0 (by omega)) (va_eqt g6) hE.r
  have q5 := vk_OFof (hev 0 (by omega)) (va_eqt g7) hE.r
  have hc : fcl[19]? = some (RJ9, TJ9, 4) := rfl
  have s0 := slot_of hE q3 hc (k := 0) (by decide) ⟨rfl, rfl, rfl⟩ c1
  have s1 := slot_of hE q2 hc (k := 1) (by decide) ⟨rfl, rfl, rfl⟩ c1
  have s2 := slot_of hE q4 hc (k := 2) (by decide) ⟨rfl, rfl, rfl⟩ c1
  have s3 := slot_of hE q5 hc (k := 3) (by decide) ⟨rfl, rfl, rfl⟩ c1
  refine ⟨adK 0, adV 0, vk_R.of (hE.2.1 _ hr) (hev 0 (by omega)), ⟨_, hc, cell, c1, ?_, c2, s0.2, fun k hk => ?_⟩, t1, t2, t3, t4, t5, t6, fun j hj => t7.1 j hj⟩
  · have h9 := (hE.1.1 19 _ hc).2.1
    exact Option.some.inj (c3.symm.trans h9)
  · match k, hk with
    | 0, _ => exact s0.1
    | 1, _ => exact s1.1
    | 2, _ => exact s2.1
    | 3, _ => exact s3.1
    | k + 4, h9 => exact absurd h9 (by show ¬ k + 4 < 4; omega)
