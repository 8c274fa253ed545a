/-! BASE 2: heap rows and call rows of the judgement Go -/
set_option maxRecDepth 100000
abbrev oat (E : fE) (a ci : Nat) (fs : List Value) (H : Heap) : Prop := va_at E.D fcl (a, .inr (ci, fs)) H
abbrev aat (E : fE) (a t n : Nat) (f : Nat → Int32) (H : Heap) : Prop := va_at E.D fcl (a, .inl (E.C t, n, .inl f)) H
abbrev lat (E : fE) (a n : Nat) (f : Nat → Int64) (H : Heap) : Prop := va_at E.D fcl (a, .inl (E.C 2, n, .inr (.inl f))) H
abbrev rat (E : fE) (a t n : Nat) (f : Nat → Option Nat) (H : Heap) : Prop := va_at E.D fcl (a, .inl (E.C t, n, .inr (.inr (.inr (.inr f))))) H
/-- one cell is written -/
def Up (H H' : Heap) (a : Nat) : Prop := H'.size = H.size ∧ ∀ q : Nat, q ≠ a → H'[q]? = H[q]?
/-- one cell is made, at the heap's end -/
def Nu (H H' : Heap) : Prop := H'.size = H.size + 1 ∧ ∀ q : Nat, q < H.size → H'[q]? = H[q]?
theorem Up.k {H H' : Heap} {a b : Nat} {D : va_G} {e : va_E} (h : Up H H' a) (hne : b ≠ a) (hb : va_at D fcl (b, e) H) : va_at D fcl (b, e) H' := hb.kept (h.2 b hne)
theorem Nu.k {H H' : Heap} {b : Nat} {D : va_G} {e : va_E} (h : Nu H H') (hb : va_at D fcl (b, e) H) : va_at D fcl (b, e) H' := hb.kept (h.2 b hb.lt)
theorem fA_S {E : fE} {s : State} {H : Heap} {locs : List Loc} (hG : fG E s) (hS : va_S (fA E) s.heap H locs) : E.lo ≤ H.size := Nat.le_trans hG.2.2.1 hS.1
theorem fA_K {E : fE} {s : State} {H : Heap} {locs : List Loc} (hG : fG E s) (hS : va_S (fA E) s.heap H locs) (q : Nat) (h : q < E.lo) : H[q]? = E.s.heap[q]? :=
  (hS.2.1 q (Nat.lt_of_lt_of_le h hG.2.2.1) (Nat.not_le.mpr h)).trans (hG.2.2.2 q h)
theorem fA_put {E : fE} {H0 H H' : Heap} {locs : List Loc} {a k : Nat} (hS : va_S (fA E) H0 H locs) (hU : Up H H' a) (ha : E.lo ≤ a) : va_S (fA E) H0 H' (locs ++ [⟨a, k⟩]) := hS.put hU.1 hU.2 ha
theorem fA_new {E : fE} {H0 H H' : Heap} {locs : List Loc} (hS : va_S (fA E) H0 H locs) (hU : Nu H H') : va_S (fA E) H0 H' locs :=
  ⟨Nat.le_trans hS.1 (by rw [hU.1]; omega), fun q h1 h2 => (hU.2 q (Nat.lt_of_lt_of_le h1 hS.1)).trans (hS.2.1 q h1 h2), hS.2.2⟩
theorem fG.nwC {E : fE} {U : State} (h : fG E U) {C T : String} (hw : Cond.castable C T ∈ lw_tbl) : va_Nw (.castable C T) U := va_Nw.warmC h.2.1 (va_Nw.of rfl (h.1.2.1 _ hw))
theorem fG.nwF {E : fE} {U : State} (h : fG E U) {a b n d x : String} {i : Nat} (hw : Cond.fieldLinkNest a i b n d x ∈ lw_tbl) : va_Nw (.fieldLinkNest a i b n d x) U := va_Nw.warmF h.2.1 (va_Nw.of rfl (h.1.2.1 _ hw))
theorem fG.nwM {E : fE} {U : State} (h : fG E U) {a x : String} {i : Nat} {y : MethodName} (hw : Cond.methodLinkNest a i y x ∈ lw_tbl) : va_Nw (.methodLinkNest a i y x) U := va_Nw.warmM h.2.1 (va_Nw.of rfl (h.1.2.1 _ hw))
theorem fG.ao {E : fE} {U : State} (h : fG E U) {C : String} (hw : Cond.arrayOver (.object C) ∈ lw_tbl) : va_AO C U := (va_AO.of (h.1.2.1 _ hw)).moved h.2.1.alike
theorem fG.fw {E : fE} {U : State} (h : fG E U) {C : String} {x y : MethodName} (hx : x.cls ≠ "java/lang/invoke/MethodHandle" ∧ x.cls ≠ "java/lang/invoke/VarHandle") (h1 : Cond.declares x ∈ lw_tbl) (h2 : Cond.interfaceMethod x.cls x.cls x.name x.desc ∈ lw_tbl) (h3 : Cond.publicMethod y ∈ lw_tbl) (h4 : Cond.unhidden C x.name x.desc ∈ lw_tbl) (h5 : Cond.castable C x.cls ∈ lw_tbl) : va_Fw C x y U :=
  (va_Fw.of (h.1.2.1 _ h1) (h.1.2.1 _ h2) (h.1.2.1 _ h3) (h.1.2.1 _ h4) (h.1.2.1 _ h5)).moved hx h.2.1.alike
/-- getfield <index> of the class own reads place k of the objects of class number ci -/
def FL (own : String) (index ci k : Nat) : Prop := ∃ (C : String) (T : u_T) (N : Nat) (ref : String), fcl[ci]? = some (C, T, N) ∧ (∀ w ∈ u_ws C T N, w ∈ lw_all) ∧ k < N ∧ (ref = (T k).1 ∨ Cond.sameField ref (T k).1 (T k).2.1 (T k).2.2.1 ∈ lw_all) ∧
  (Cond.fieldLink own index ref (T k).2.1 (T k).2.2.1 ∈ lw_all ∨ ∃ host, Cond.fieldLinkNest own index ref (T k).2.1 (T k).2.2.1 host ∈ lw_tbl)
/-- putfield <index> of the method nm of the class own writes place k, of type ty -/
def FLp (own : String) (index ci k : Nat) (ty : FieldType) (nm : String) : Prop := ∃ (C : String) (T : u_T) (N : Nat) (ref : String) (ty0 : Nat → FieldType), fcl[ci]? = some (C, T, N) ∧ (∀ w ∈ u_ws C T N, w ∈ lw_all) ∧ k < N ∧ (ref = (T k).1 ∨ Cond.sameField ref (T k).1 (T k).2.1 (T k).2.2.1 ∈ lw_all) ∧
  (∀ k, k < N → parseFieldDescriptor (T k).2.2.1 = some (ty0 k)) ∧ (∀ a, a < N → ∀ b, b < N → a ≠ b → (T a).2.1 ≠ (T b).2.1) ∧ parseFieldDescriptor (T k).2.2.1 = some ty ∧
  ((Cond.fieldLink own index ref (T k).2.1 (T k).2.2.1 ∈ lw_all ∧ ((T k).2.2.2 = false ∨ ((T k).2.2.2 = true ∧ nm = "<init>" ∧ (T k).1 = own))) ∨ ((T k).2.2.2 = false ∧ ∃ host, Cond.fieldLinkNest own index ref (T k).2.1 (T k).2.2.1 host ∈ lw_tbl))
/-- new <index> of the class own makes an object of class number ci, of N fields fs -/
def NWl (own : String) (index ci N : Nat) (fs : List Value) : Prop := ∃ (C : String) (T : u_T) (ty : Nat → FieldType), fcl[ci]? = some (C, T, N) ∧ (∀ w ∈ u_ws C T N, w ∈ lw_all) ∧ (∀ k, k < N → parseFieldDescriptor (T k).2.2.1 = some (ty k)) ∧ Cond.classLink own index C ∈ lw_all ∧ Cond.instantiable C N ∈ lw_all ∧ Cond.initialized C ∈ lw_all ∧ ∀ j, j < N → defaultValue (ty j) = vp_V fs j
theorem f_oneP {E : fE} {a : Nat} {e : va_E} {H : Heap} (h : va_at E.D fcl (a, e) H) : va_P E.D fcl [(a, e)] H := by
  intro k q hk
  have hz : k < 1 := (List.getElem?_eq_some_iff.mp hk).1
  rw [show k = 0 by omega] at hk
  cases hk
  exact h
theorem f_vpin {i : Int32} {j n : Nat} (hi : i = nI j) (hj : j < n) (hn : n ≤ 2147483648) : vp_in i n ∧ i.toNatClampNeg = j := by
  subst hi
  refine ⟨?_, nI_clamp (by omega)⟩
  unfold vp_in
  rw [nI_clamp (by omega)]
  intro h
  rcases h with h | h
  · exact nI_nlt (Nat.zero_le j) (by omega) (by rw [nI_0]; exact h)
  · omega
section FHEAP
variable {E : fE} {Z : fZ} {cc : ByteArray} {nL : Nat} {own : String} {ret : Option FieldType} {tb : List ExceptionTableEntry} {nm : String} {L mc ms : Nat} {H : Heap} {cs ss pc : Nat} {lv lv' : List (Nat × Value)} {st : List Value}
theorem Go.lo (K : Zok E Z cc nL own ret tb nm L mc ms) (k : E.lo ≤ H.size → (∀ q, q < E.lo → H[q]? = E.s.heap[q]?) → Go E Z nL H cs ss pc lv st) : Go E Z nL H cs ss pc lv st := by
  obtain ⟨p, e, R, s, m, args, below, meth, c, Q⟩ := Z
  obtain ⟨hx, hb, hml, hown, hts, hlocks, hr, hG, htb, hnm, hLf, hLl, hmc, hms⟩ := K
  exact fun locs ls hS hl => k (fA_S hG hS) (fA_K hG hS) locs ls hS hl
theorem Go.ok (K : Zok E Z cc nL own ret tb nm L mc ms) (k : fOK E → Go E Z nL H cs ss pc lv st) : Go E Z nL H cs ss pc lv st := by
  obtain ⟨p, e, R, s, m, args, below, meth, c, Q⟩ := Z
  obtain ⟨hx, hb, hml, hown, hts, hlocks, hr, hG, htb, hnm, hLf, hLl, hmc, hms⟩ := K
  exact k hG.1
theorem f_get (K : Zok E Z cc nL own ret tb nm L mc ms) {index ci k a : Nat} {fs : List Value} {v : Value} (F : FL own index ci k) (hd : decode cc pc = .ok (.getfield index, 3)) (ha : oat E a ci fs H) (hv : fs[k]? = some v) (kk : Go E Z nL H cs ss (pc + 3) lv (v :: st)) : Go E Z nL H cs ss pc lv (.ref a :: st) := by
  obtain ⟨p, e, R, s, m, args, below, meth, c, Q⟩ := Z
  obtain ⟨hx, hb, hml, hown, hts, hlocks, hr, hG, htb, hnm, hLf, hLl, hmc, hms⟩ := K
  obtain ⟨C, T, N, ref, hc, hin, hk, hsame, hlink⟩ := F
  have hs : ∀ x, s.fieldFound? (T k).1 (T k).2.1 (T k).2.2.1 = some x → s.fieldFound? ref (T k).2.1 (T k).2.2.1 = some x := by
    rcases hsame with h | h
    · rw [h]; exact fun _ h9 => h9
    · exact fun x hx9 => u_same (hts _ h) x hx9
  rcases hlink with h | ⟨host, h⟩
  · exact fun locs ls hS hl => va_get hx hb hts hin hown hG.K (f_oneP ha) 0 rfl hc k hk (hts _ h) hs hv hd (kk locs ls hS hl)
  · exact fun locs ls hS hl => va_getN hx hb hts hin hown hG.K (f_oneP ha) 0 rfl hc k hk (va_Nw.use rfl (hG.nwF h)) hs hv hd (kk locs ls hS hl)
theorem f_put (K : Zok E Z cc nL own ret tb nm L mc ms) {index ci k a : Nat} {ty : FieldType} {fs : List Value} {v : Value} (F : FLp own index ci k ty nm) (hd : decode cc pc = .ok (.putfield index, 3)) (ha : oat E a ci fs H) (hlo : E.lo ≤ a) (hl0 : k < fs.length) (hn : narrow ty v = v) (hfit : fits ty v = true)
    (kk : ∀ H' : Heap, Up H H' a → oat E a ci (fs.set k v) H' → Go E Z nL H' cs ss (pc + 3) lv st) : Go E Z nL H cs ss pc lv (v :: .ref a :: st) := by
  obtain ⟨p, e, R, s, m, args, below, meth, c, Q⟩ := Z
  obtain ⟨hx, hb, hml, hown, hts, hlocks, hr, hG, htb, hnm, hLf, hLl, hmc, hms⟩ := K
  obtain ⟨C, T, N, ref, ty0, hc, hin, hk, hsame, hty, hnms, hpd, hlink⟩ := F
  have hs : ∀ x, s.fieldFound? (T k).1 (T k).2.1 (T k).2.2.1 = some x → s.fieldFound? ref (T k).2.1 (T k).2.2.1 = some x := by
    rcases hsame with h | h
    · rw [h]; exact fun _ h9 => h9
    · exact fun x hx9 => u_same (hts _ h) x hx9
  intro locs ls hS hl
  have hK := hG.K
  have hap := va_apart (own := own) hts hin ty0 hty hnms hK hc
  obtain ⟨r, h1, cell, q1, q2, q3, q4⟩ := ha
  have hr9 : r = (C, T, N) := Option.some.inj (h1.symm.trans hc)
  subst hr9
  obtain ⟨hS9, hfc, kC, hkC, hkind⟩ := hK.1 ci _ hc
  obtain ⟨cf, kf, fi, f, hi, hsl⟩ := hS9 k hk
  have hst := (u_facts hfc hkC (u_lays hts hin hk) hi).1
  have fin : ∀ H' : Heap, H'[a]? = some (cell.setSlot f.slot v) → H'.size = H.size → (∀ q, q ≠ a → H'[q]? = H[q]?) → W p E.l e R s m args below meth c H' (locs ++ [⟨a, f.slot⟩]) cs ss Q (F0 m (pc + 3) ls st) := by
    intro H' e1 e2 e3
    rw [hsl] at e1 ⊢
    exact kk H' ⟨e2, e3⟩ ⟨_, hc, t_OB.to (V := updV (vp_V fs) k v) ⟨_, e1, q2, q3, t_set q4 hap hk v⟩ (fun j _ => vp_updV_set hl0 v j)⟩ _ _ (fA_put hS ⟨e2, e3⟩ hlo) hl
  have hlay := hts _ (hin _ (u_in_lay hk))
  unfold u_lay at hlay
  rcases hlink with ⟨hlk, hfin | ⟨hfin, hini, hdecl⟩⟩ | ⟨hfin, host, hlk⟩
  · rw [if_neg (by rw [hfin]; decide)] at hlay
    have h6 := u_store hfc hkC hkind hlay hi hpd hn hfit
    exact W.putK hx hb (f := f) ⟨hown, hts _ hlk, ⟨_, _, _, hs _ hi⟩, hst⟩ (by rw [q2]; exact h6) q1 q3 (by rw [hsl]; exact k2_hasslot (q4 k hk)) rfl rfl hd fin
  · rw [if_pos hfin] at hlay
    have hcf : m.cls = cf := by
      obtain ⟨_, _, c', _, _, _, -, -, hf', -, -, -, hown2, -⟩ := Cond.laysFinal_spec hlay
      have e1 : c' = cf := by have := hi.symm.trans hf'; simp at this; exact this.1.symm
      rw [hdecl] at hown2
      rw [← e1]; exact Option.some.inj (hown.symm.trans hown2)
    have h6 := u_fits hfc hkC hkind (Or.inr hlay) hi hpd hn hfit
    exact W.putFinK hx hb hown (hts _ hlk) (hs _ hi) hst hcf (hnm.trans hini) (by rw [q2]; exact h6) q1 q3 (by rw [hsl]; exact k2_hasslot (q4 k hk)) rfl rfl hd fin
  · rw [if_neg (by rw [hfin]; decide)] at hlay
    have h6 := u_store hfc hkC hkind hlay hi hpd hn hfit
    exact va_WputK hx hb (f := f) hown (va_Nw.use rfl (hG.nwF hlk)) (hs _ hi) hst (by rw [q2]; exact h6) q1 q3 (by rw [hsl]; exact k2_hasslot (q4 k hk)) rfl rfl hd fin
theorem f_new (K : Zok E Z cc nL own ret tb nm L mc ms) {index ci N : Nat} {fs : List Value} (F : NWl own index ci N fs) (hd : decode cc pc = .ok (.new index, 3)) (hcs : cs + 1 ≤ mc) (hss : ss + N ≤ ms)
    (kk : ∀ H' : Heap, Nu H H' → oat E H.size ci fs H' → Go E Z nL H' (cs + 1) (ss + N) (pc + 3) lv (.ref H.size :: st)) : Go E Z nL H cs ss pc lv st := by
  obtain ⟨p, e, R, s, m, args, below, meth, c, Q⟩ := Z
  obtain ⟨hx, hb, hml, hown, hts, hlocks, hr, hG, htb, hnm, hLf, hLl, hmc, hms⟩ := K
  obtain ⟨C, T, ty, hc, hin, hty, hcl, hinst, hini, hfs⟩ := F
  intro locs ls hS hl
  have hKn := hG.K.1 ci _ hc
  refine W.newcK hx hb hown (hts _ hcl) (hts _ hinst) (hts _ hini) rfl hd (by omega) (by omega) hKn.2.1 rfl fun H1 kC hkC e1 z1 o1 => ?_
  exact kk H1 ⟨z1, o1⟩ ⟨_, hc, (u_born ty hts hin hKn hkC e1 hty).to hfs⟩ locs ls (fA_new hS ⟨z1, o1⟩) hl
theorem f_newa (K : Zok E Z cc nL own ret tb nm L mc ms) {atype : ArrayType} {ty : FieldType} {t : Nat} (hty : newarray.typeOf atype = ty) (hq : Cond.arrayClass ty ∈ lw_all) (ht : ∀ C : Nat → ClassId, (ftys C)[t]? = some (C t, ty)) (hp : ∀ U cA, va_RA U cA ty → U.vm.findClass ("[" ++ ty.toString) = some cA)
    {n : Int32} {N' : Nat} {a0 : (Nat → Int32) ⊕ (Nat → Int64) ⊕ (Nat → UInt32) ⊕ (Nat → UInt64) ⊕ (Nat → Option Nat)} (ha : ∀ cA : ClassId, vp_cell cA (N', a0) = arrV cA N' (fun _ => defaultValue ty)) (hn : n = nI N') (hN : N' < 100000) (hd : decode cc pc = .ok (.newarray atype, 2)) (hcs : cs + 1 ≤ mc) (hss : ss + N' ≤ ms)
    (kk : ∀ H' : Heap, Nu H H' → va_at E.D fcl (H.size, .inl (E.C t, N', a0)) H' → Go E Z nL H' (cs + 1) (ss + N') (pc + 2) lv (.ref H.size :: st)) : Go E Z nL H cs ss pc lv (.int n :: st) := by
  obtain ⟨p, e, R, s, m, args, below, meth, c, Q⟩ := Z
  obtain ⟨hx, hb, hml, hown, hts, hlocks, hr, hG, htb, hnm, hLf, hLl, hmc, hms⟩ := K
  subst hty
  intro locs ls hS hl
  have hbytes : componentBytes (newarray.typeOf atype) ≤ 8 := by cases atype <;> decide
  refine va_newaK (N := N') hx hb (hts _ hq) rfl hd rfl (by rw [hn]; exact nI_pos (by omega)) (by rw [hn]; exact nI_clamp (by omega)) (by have := Nat.mul_le_mul (Nat.le_of_lt hN) hbytes; omega) (by omega) (by omega) rfl fun H1 cA e1 z1 o1 hAr hNm => ?_
  have hcA : cA = E.C t := Option.some.inj (hNm.symm.trans (hp _ _ (hG.K.2 t _ (ht E.C)).2))
  subst hcA
  exact kk H1 ⟨z1, o1⟩ (show H1[H.size]? = some (vp_cell _ _) by rw [e1, ha]) locs ls (fA_new hS ⟨z1, o1⟩) hl
theorem f_anew (K : Zok E Z cc nL own ret tb nm L mc ms) {C : String} {index t : Nat} (hcl : Cond.classLink own index C ∈ lw_all) (hov : Cond.arrayOver (.object C) ∈ lw_tbl) (ht : ∀ X : Nat → ClassId, (ftys X)[t]? = some (X t, .object C))
    {n : Int32} {N' : Nat} (hn : n = nI N') (hN : N' < 100000) (hd : decode cc pc = .ok (.anewarray index, 3)) (hcs : cs + 1 ≤ mc) (hss : ss + N' ≤ ms)
    (kk : ∀ H' : Heap, Nu H H' → rat E H.size t N' (fun _ => none) H' → Go E Z nL H' (cs + 1) (ss + N') (pc + 3) lv (.ref H.size :: st)) : Go E Z nL H cs ss pc lv (.int n :: st) := by
  obtain ⟨p, e, R, s, m, args, below, meth, c, Q⟩ := Z
  obtain ⟨hx, hb, hml, hown, hts, hlocks, hr, hG, htb, hnm, hLf, hLl, hmc, hms⟩ := K
  intro locs ls hS hl
  have hcn : n.toNatClampNeg = N' := by rw [hn]; exact nI_clamp (by omega)
  refine W.anew hx hb hown (hts _ hcl) (va_AO.use (hG.ao hov)) rfl hd rfl (by rw [hn]; exact nI_pos (by omega)) (by rw [hcn]; omega) (by omega) (by rw [hcn]; omega) fun cA kA comp f1 f2 f3 f4 => ?_
  rw [hcn]
  obtain ⟨k9, comp9, g1, g2, g3, g4⟩ := (hG.K.2 t _ (ht E.C)).2
  have hcA : cA = E.C t := Option.some.inj (f1.symm.trans g4)
  subst hcA
  generalize hH1 : H.push ({ cls := E.C t, slots := Array.replicate N' .null, vm := .none } : Cell) = H1
  have z1 : H1.size = H.size + 1 := by rw [← hH1, Array.size_push]
  have e1 : H1[H.size]? = some (arrV (E.C t) N' (fun _ => .null)) := by rw [← hH1, Array.getElem?_push_size, ← arrV_new]
  have o1 : ∀ q : Nat, q < H.size → H1[q]? = H[q]? := fun q hq => by rw [← hH1, Array.getElem?_push, if_neg (Nat.ne_of_lt hq)]
  exact kk H1 ⟨z1, o1⟩ (show H1[H.size]? = some (vp_cell _ _) by rw [vp_cell_q]; exact e1) locs ls (fA_new hS ⟨z1, o1⟩) hl
theorem f_alen (K : Zok E Z cc nL own ret tb nm L mc ms) {a t n : Nat} {ty : FieldType} {x : (Nat → Int32) ⊕ (Nat → Int64) ⊕ (Nat → UInt32) ⊕ (Nat → UInt64) ⊕ (Nat → Option Nat)} (ht : ∀ X : Nat → ClassId, (ftys X)[t]? = some (X t, ty)) (hd : decode cc pc = .ok (.arraylength, 1)) (ha : va_at E.D fcl (a, .inl (E.C t, n, x)) H) (kk : Go E Z nL H cs ss (pc + 1) lv (.int (nI n) :: st)) : Go E Z nL H cs ss pc lv (.ref a :: st) := by
  obtain ⟨p, e, R, s, m, args, below, meth, c, Q⟩ := Z
  obtain ⟨hx, hb, hml, hown, hts, hlocks, hr, hG, htb, hnm, hLf, hLl, hmc, hms⟩ := K
  exact fun locs ls hS hl => va_alen hx hb hG.K (f_oneP ha) 0 t rfl (ht E.C) rfl hd (kk locs ls hS hl)
theorem f_iald (K : Zok E Z cc nL own ret tb nm L mc ms) {a n j : Nat} {f : Nat → Int32} {i : Int32} (hd : decode cc pc = .ok (.iaload, 1)) (ha : aat E a 0 n f H) (hi : i = nI j) (hj : j < n) (hn : n ≤ 2147483648) (kk : Go E Z nL H cs ss (pc + 1) lv (.int (f j) :: st)) : Go E Z nL H cs ss pc lv (.int i :: .ref a :: st) := by
  obtain ⟨p, e, R, s, m, args, below, meth, c, Q⟩ := Z
  obtain ⟨hx, hb, hml, hown, hts, hlocks, hr, hG, htb, hnm, hLf, hLl, hmc, hms⟩ := K
  obtain ⟨h1, h2⟩ := f_vpin hi hj hn
  exact fun locs ls hS hl => va_iald hx hb hG.K (f_oneP ha) 0 0 rfl rfl h1 hd (by rw [h2]; exact kk locs ls hS hl)
theorem f_bald (K : Zok E Z cc nL own ret tb nm L mc ms) {a n j : Nat} {f : Nat → Int32} {i : Int32} (hd : decode cc pc = .ok (.baload, 1)) (ha : aat E a 1 n f H) (hi : i = nI j) (hj : j < n) (hn : n ≤ 2147483648) (kk : Go E Z nL H cs ss (pc + 1) lv (.int (f j) :: st)) : Go E Z nL H cs ss pc lv (.int i :: .ref a :: st) := by
  obtain ⟨p, e, R, s, m, args, below, meth, c, Q⟩ := Z
  obtain ⟨hx, hb, hml, hown, hts, hlocks, hr, hG, htb, hnm, hLf, hLl, hmc, hms⟩ := K
  obtain ⟨h1, h2⟩ := f_vpin hi hj hn
  exact fun locs ls hS hl => va_bald hx hb hG.K (f_oneP ha) 0 1 rfl rfl h1 hd (by rw [h2]; exact kk locs ls hS hl)
theorem f_lald (K : Zok E Z cc nL own ret tb nm L mc ms) {a n j : Nat} {f : Nat → Int64} {i : Int32} (hd : decode cc pc = .ok (.laload, 1)) (ha : lat E a n f H) (hi : i = nI j) (hj : j < n) (hn : n ≤ 2147483648) (kk : Go E Z nL H cs ss (pc + 1) lv (.long (f j) :: st)) : Go E Z nL H cs ss pc lv (.int i :: .ref a :: st) := by
  obtain ⟨p, e, R, s, m, args, below, meth, c, Q⟩ := Z
  obtain ⟨hx, hb, hml, hown, hts, hlocks, hr, hG, htb, hnm, hLf, hLl, hmc, hms⟩ := K
  obtain ⟨h1, h2⟩ := f_vpin hi hj hn
  exact fun locs ls hS hl => va_lald hx hb hG.K (f_oneP ha) 0 2 rfl rfl h1 hd (by rw [h2]; exact kk locs ls hS hl)
theorem f_aald (K : Zok E Z cc nL own ret tb nm L mc ms) {a t n j : Nat} {C : String} {f : Nat → Option Nat} {i : Int32} (ht : ∀ X : Nat → ClassId, (ftys X)[t]? = some (X t, .object C)) (hd : decode cc pc = .ok (.aaload, 1)) (ha : rat E a t n f H) (hi : i = nI j) (hj : j < n) (hn : n ≤ 2147483648) {v : Value} (hv : va_rf (f j) = v) (kk : Go E Z nL H cs ss (pc + 1) lv (v :: st)) : Go E Z nL H cs ss pc lv (.int i :: .ref a :: st) := by
  obtain ⟨p, e, R, s, m, args, below, meth, c, Q⟩ := Z
  obtain ⟨hx, hb, hml, hown, hts, hlocks, hr, hG, htb, hnm, hLf, hLl, hmc, hms⟩ := K
  obtain ⟨h1, h2⟩ := f_vpin hi hj hn
  subst hv
  exact fun locs ls hS hl => va_aldq hx hb hG.K (f_oneP ha) 0 t rfl (ht E.C) h1 hd (by rw [h2]; exact kk locs ls hS hl)
theorem f_iast (K : Zok E Z cc nL own ret tb nm L mc ms) {a n j : Nat} {f : Nat → Int32} {i x : Int32} (hd : decode cc pc = .ok (.iastore, 1)) (ha : aat E a 0 n f H) (hi : i = nI j) (hj : j < n) (hn : n ≤ 2147483648) (hlo : E.lo ≤ a)
    (kk : ∀ H' : Heap, Up H H' a → aat E a 0 n (upd f j x) H' → Go E Z nL H' cs ss (pc + 1) lv st) : Go E Z nL H cs ss pc lv (.int x :: .int i :: .ref a :: st) := by
  obtain ⟨p, e, R, s, m, args, below, meth, c, Q⟩ := Z
  obtain ⟨hx, hb, hml, hown, hts, hlocks, hr, hG, htb, hnm, hLf, hLl, hmc, hms⟩ := K
  obtain ⟨h1, h2⟩ := f_vpin hi hj hn
  intro locs ls hS hl
  refine W.iast hx hb ha ((hG.K.2 0 _ rfl).1 n (fun j => .int (f j))) (fun q => by cases q) (by show ¬ (i < 0 ∨ (arrV _ _ _).slots.size ≤ _); rw [arrV_size]; exact h1) rfl rfl hd fun H1 e z oq => ?_
  refine kk H1 ⟨z, oq⟩ ?_ _ _ (fA_put hS ⟨z, oq⟩ hlo) hl
  show H1[a]? = some (vp_cell _ _)
  rw [e, h2]
  rw [vp_cell_i, vp_cell_i, arrV_store]
  congr 2
  funext q
  by_cases hq : q = j
  · subst hq
    simp [updV, upd]
  · simp [updV, upd, hq]
theorem f_bast (K : Zok E Z cc nL own ret tb nm L mc ms) {a n j : Nat} {f : Nat → Int32} {i x : Int32} (hd : decode cc pc = .ok (.bastore, 1)) (ha : aat E a 1 n f H) (hi : i = nI j) (hj : j < n) (hn : n ≤ 2147483648) (hlo : E.lo ≤ a)
    (kk : ∀ H' : Heap, Up H H' a → aat E a 1 n (upd f j (vp_nar .byte x)) H' → Go E Z nL H' cs ss (pc + 1) lv st) : Go E Z nL H cs ss pc lv (.int x :: .int i :: .ref a :: st) := by
  obtain ⟨p, e, R, s, m, args, below, meth, c, Q⟩ := Z
  obtain ⟨hx, hb, hml, hown, hts, hlocks, hr, hG, htb, hnm, hLf, hLl, hmc, hms⟩ := K
  obtain ⟨h1, h2⟩ := f_vpin hi hj hn
  intro locs ls hS hl
  refine W.bast hx hb ha ((hG.K.2 1 _ rfl).1 n (fun j => .int (f j))) (fun q => by cases q) (by show ¬ (i < 0 ∨ (arrV _ _ _).slots.size ≤ _); rw [arrV_size]; exact h1) rfl rfl hd fun H1 e z oq => ?_
  refine kk H1 ⟨z, oq⟩ ?_ _ _ (fA_put hS ⟨z, oq⟩ hlo) hl
  show H1[a]? = some (vp_cell _ _)
  rw [e, h2]
  rw [vp_cell_i, vp_cell_i, arrV_store]
  congr 2
  funext q
  by_cases hq : q = j
  · subst hq
    simp [updV, upd, vp_nar, narrow]
  · simp [updV, upd, hq]
theorem f_last (K : Zok E Z cc nL own ret tb nm L mc ms) {a n j : Nat} {f : Nat → Int64} {i : Int32} {x : Int64} (hd : decode cc pc = .ok (.lastore, 1)) (ha : lat E a n f H) (hi : i = nI j) (hj : j < n) (hn : n ≤ 2147483648) (hlo : E.lo ≤ a)
    (kk : ∀ H' : Heap, Up H H' a → lat E a n (vp_updL f j x) H' → Go E Z nL H' cs ss (pc + 1) lv st) : Go E Z nL H cs ss pc lv (.long x :: .int i :: .ref a :: st) := by
  obtain ⟨p, e, R, s, m, args, below, meth, c, Q⟩ := Z
  obtain ⟨hx, hb, hml, hown, hts, hlocks, hr, hG, htb, hnm, hLf, hLl, hmc, hms⟩ := K
  obtain ⟨h1, h2⟩ := f_vpin hi hj hn
  intro locs ls hS hl
  refine W.last hx hb ha ((hG.K.2 2 _ rfl).1 n (fun j => .long (f j))) (fun q => by cases q) (by show ¬ (i < 0 ∨ (arrV _ _ _).slots.size ≤ _); rw [arrV_size]; exact h1) rfl rfl hd fun H1 e z oq => ?_
  refine kk H1 ⟨z, oq⟩ ?_ _ _ (fA_put hS ⟨z, oq⟩ hlo) hl
  show H1[a]? = some (vp_cell _ _)
  rw [e, h2]
  rw [vp_cell_l, vp_cell_l, arrV_store]
  congr 2
  funext q
  by_cases hq : q = j
  · subst hq
    simp [updV, vp_updL]
  · simp [updV, vp_updL, hq]
/-- a reference into an array: the object's class may stand there -/
theorem f_aast (K : Zok E Z cc nL own ret tb nm L mc ms) {a t n j v ci N : Nat} {C X : String} {T : u_T} {vs : List Value} {f : Nat → Option Nat} {i : Int32} (ht : ∀ X : Nat → ClassId, (ftys X)[t]? = some (X t, .object C)) (hc : fcl[ci]? = some (X, T, N)) (hca : X = C ∨ Cond.castable X C ∈ lw_tbl) (hd : decode cc pc = .ok (.aastore, 1)) (ha : rat E a t n f H) (hv : oat E v ci vs H) (hi : i = nI j) (hj : j < n) (hn : n ≤ 2147483648) (hlo : E.lo ≤ a)
    (kk : ∀ H' : Heap, Up H H' a → rat E a t n (va_up f j (some v)) H' → Go E Z nL H' cs ss (pc + 1) lv st) : Go E Z nL H cs ss pc lv (.ref v :: .int i :: .ref a :: st) := by
  obtain ⟨p, e, R, s, m, args, below, meth, c, Q⟩ := Z
  obtain ⟨hx, hb, hml, hown, hts, hlocks, hr, hG, htb, hnm, hLf, hLl, hmc, hms⟩ := K
  obtain ⟨h1, h2⟩ := f_vpin hi hj hn
  intro locs ls hS hl
  have h0 : ¬ i < 0 := fun q => h1 (Or.inl q)
  obtain ⟨r', hr', cellV, g1, g2, g3, -⟩ := hv
  have hcls := (hG.K.1 ci _ hc).2
  obtain ⟨kA, comp, k1, k2, k3, -⟩ := (hG.K.2 t _ (ht E.C)).2
  have hasg : s.vm.assignable (E.D.1 ci) comp = true := by
    rcases hca with h | h
    · have hcomp : comp = E.D.1 ci := Option.some.inj (k3.symm.trans (by rw [← h]; exact hcls.1))
      rw [hcomp]
      exact va_assign hcls
    · obtain ⟨c3, t3, f1, f2, f3⟩ := Cond.castable_spec (va_Nw.use (A := args) rfl (hG.nwC h))
      have e1 : c3 = E.D.1 ci := Option.some.inj (f1.symm.trans hcls.1)
      have e2 : t3 = comp := Option.some.inj (f2.symm.trans k3)
      rw [← e1, ← e2]; exact f3
  obtain ⟨kC, hkC, -⟩ := hcls.2
  obtain ⟨kco, hkco⟩ : ∃ kco, s.vm.classes[comp]? = some kco := by
    obtain ⟨k9, h9, -⟩ := Vm.findClass_spec k3
    exact ⟨k9, h9⟩
  refine W.aast hx hb ha (fun q h => by cases h) (fun h => by cases h) k1 k2 rfl hkco ⟨h0, by show _ < (arrV _ _ _).slots.size; rw [arrV_size, h2]; exact hj⟩ g1 (fun q h => by rw [g3] at h; cases h) (by rw [g2]; exact hkC) (by rw [g2]; exact hasg) rfl rfl hd fun H1 e z oq => ?_
  refine kk H1 ⟨z, oq⟩ ?_ _ _ (fA_put hS ⟨z, oq⟩ hlo) hl
  show H1[a]? = some (vp_cell _ _)
  rw [e, h2]
  rw [vp_cell_q, vp_cell_q, arrV_store]
  congr 2
  funext q
  by_cases hq : q = j
  · subst hq
    simp [updV, va_up, va_rf]
  · simp [updV, va_up, hq]
theorem f_aastN (K : Zok E Z cc nL own ret tb nm L mc ms) {a t n j : Nat} {C : String} {f : Nat → Option Nat} {i : Int32} (ht : ∀ X : Nat → ClassId, (ftys X)[t]? = some (X t, .object C)) (hd : decode cc pc = .ok (.aastore, 1)) (ha : rat E a t n f H) (hi : i = nI j) (hj : j < n) (hn : n ≤ 2147483648) (hlo : E.lo ≤ a)
    (kk : ∀ H' : Heap, Up H H' a → rat E a t n (va_up f j none) H' → Go E Z nL H' cs ss (pc + 1) lv st) : Go E Z nL H cs ss pc lv (.null :: .int i :: .ref a :: st) := by
  obtain ⟨p, e, R, s, m, args, below, meth, c, Q⟩ := Z
  obtain ⟨hx, hb, hml, hown, hts, hlocks, hr, hG, htb, hnm, hLf, hLl, hmc, hms⟩ := K
  obtain ⟨h1, h2⟩ := f_vpin hi hj hn
  intro locs ls hS hl
  refine va_WaastN (C := C) hx hb ha ((hG.K.2 t _ (ht E.C)).1 n (fun j => va_rf (f j))) (fun h => by cases h) (by show ¬ (i < 0 ∨ (arrV _ _ _).slots.size ≤ _); rw [arrV_size]; exact h1) rfl rfl hd fun H1 e z oq => ?_
  refine kk H1 ⟨z, oq⟩ ?_ _ _ (fA_put hS ⟨z, oq⟩ hlo) hl
  show H1[a]? = some (vp_cell _ _)
  rw [e, h2]
  rw [vp_cell_q, vp_cell_q, arrV_store]
  congr 2
  funext q
  by_cases hq : q = j
  · subst hq
    simp [updV, va_up, va_rf]
  · simp [updV, va_up, hq]
/-- an exit: the answer v -/
theorem f_retI {v : Int32} {Post : Option Value → Heap → Prop} {PX : Nat → String → Heap → Prop} (K : Zok E Z cc nL own ret tb nm L mc ms) (X : Zex E Z mc ms Post PX) (hr0 : ret = some .int ∨ (ret = some .boolean ∧ (v = 0 ∨ v = 1))) (hd : decode cc pc = .ok (.ireturn, 1)) (hcs : cs ≤ mc) (hss : ss ≤ ms) (hp : Post (some (.int v)) H) : Go E Z nL H cs ss pc lv [.int v] := by
  obtain ⟨p, e, R, s, m, args, below, meth, c, Q⟩ := Z
  obtain ⟨hx, hb, hml, hown, hts, hlocks, hr, hG, htb, hnm, hLf, hLl, hmc, hms⟩ := K
  intro locs ls hS hl
  obtain rfl : Q = _ := X
  refine W.widen hcs hss (vx_ret ?_)
  rcases hr0 with h | ⟨h, hv⟩
  · exact W.iret (v := v) hx hb (hr.trans h) (fun t ht _ => ⟨⟨_, rfl, by rw [ht]; exact hp⟩, hS.F ht⟩) hS.2.2 hd
  · exact W.zret (v := v) hx hb (hr.trans h) (by rcases hv with rfl | rfl <;> rfl) (fun t ht _ => ⟨⟨_, rfl, by rw [ht]; exact hp⟩, hS.F ht⟩) hS.2.2 hd
theorem f_retV {Post : Option Value → Heap → Prop} {PX : Nat → String → Heap → Prop} (K : Zok E Z cc nL own ret tb nm L mc ms) (X : Zex E Z mc ms Post PX) (hr0 : ret = none) (hd : decode cc pc = .ok (.return_, 1)) (hcs : cs ≤ mc) (hss : ss ≤ ms) (hp : Post none H) : Go E Z nL H cs ss pc lv [] := by
  obtain ⟨p, e, R, s, m, args, below, meth, c, Q⟩ := Z
  obtain ⟨hx, hb, hml, hown, hts, hlocks, hr, hG, htb, hnm, hLf, hLl, hmc, hms⟩ := K
  intro locs ls hS hl
  obtain rfl : Q = _ := X
  exact W.widen hcs hss (vx_ret (W.vret hx hb (hr.trans hr0) (fun t ht _ => ⟨⟨_, rfl, by rw [ht]; exact hp⟩, hS.F ht⟩) hS.2.2 hd))
theorem f_retA {v : Value} {rt : FieldType} {Post : Option Value → Heap → Prop} {PX : Nat → String → Heap → Prop} (K : Zok E Z cc nL own (some rt) tb nm L mc ms) (X : Zex E Z mc ms Post PX) (hrt : (∃ n, rt = .object n) ∨ ∃ t, rt = .array t) (hv : v = .null ∨ ∃ a, v = .ref a) (hd : decode cc pc = .ok (.areturn, 1)) (hcs : cs ≤ mc) (hss : ss ≤ ms) (hp : Post (some v) H) : Go E Z nL H cs ss pc lv [v] := by
  obtain ⟨p, e, R, s, m, args, below, meth, c, Q⟩ := Z
  obtain ⟨hx, hb, hml, hown, hts, hlocks, hr, hG, htb, hnm, hLf, hLl, hmc, hms⟩ := K
  intro locs ls hS hl
  obtain rfl : Q = _ := X
  exact W.widen hcs hss (vx_ret (W.aret hx hb hr hrt hv (fun t ht _ => ⟨⟨_, rfl, by rw [ht]; exact hp⟩, hS.F ht⟩) hS.2.2 hd))
theorem f_retD {v : UInt64} {Post : Option Value → Heap → Prop} {PX : Nat → String → Heap → Prop} (K : Zok E Z cc nL own (some .double) tb nm L mc ms) (X : Zex E Z mc ms Post PX) (hd : decode cc pc = .ok (.dreturn, 1)) (hcs : cs ≤ mc) (hss : ss ≤ ms) (hp : Post (some (.double v)) H) : Go E Z nL H cs ss pc lv [.double v] := by
  obtain ⟨p, e, R, s, m, args, below, meth, c, Q⟩ := Z
  obtain ⟨hx, hb, hml, hown, hts, hlocks, hr, hG, htb, hnm, hLf, hLl, hmc, hms⟩ := K
  intro locs ls hS hl
  obtain rfl : Q = _ := X
  exact W.widen hcs hss (vx_ret (W.dret hx hb hr (fun t ht _ => ⟨⟨_, rfl, by rw [ht]; exact hp⟩, hS.F ht⟩) hS.2.2 hd hlocks))
theorem f_retF {v : UInt32} {Post : Option Value → Heap → Prop} {PX : Nat → String → Heap → Prop} (K : Zok E Z cc nL own (some .float) tb nm L mc ms) (X : Zex E Z mc ms Post PX) (hd : decode cc pc = .ok (.freturn, 1)) (hcs : cs ≤ mc) (hss : ss ≤ ms) (hp : Post (some (.float v)) H) : Go E Z nL H cs ss pc lv [.float v] := by
  obtain ⟨p, e, R, s, m, args, below, meth, c, Q⟩ := Z
  obtain ⟨hx, hb, hml, hown, hts, hlocks, hr, hG, htb, hnm, hLf, hLl, hmc, hms⟩ := K
  intro locs ls hS hl
  obtain rfl : Q = _ := X
  exact W.widen hcs hss (vx_ret (W.fret hx hb hr (fun t ht _ => ⟨⟨_, rfl, by rw [ht]; exact hp⟩, hS.F ht⟩) hS.2.2 hd hlocks))
end FHEAP
