/-! BASE 3: calls and throws -/
set_option maxRecDepth 100000
/-- the thrown object's class -/
def Thr (Z : fZ) (q : Nat) (En : String) (H : Heap) : Prop :=
  match Z with
  | (_, _, _, s, _, _, _, _, _, _) => ∃ ce : Cell, H[q]? = some ce ∧ ce.vm = .none ∧ s.vm.findClass En = some ce.cls
theorem f_blind {E : fE} {args : List Value} {H : Heap} : FrameBlind (fP E args H) := fun _ _ _ _ h => h
theorem f_preG {E : fE} {s : State} {H : Heap} {locs : List Loc} {args : List Value} (hG : fG E s) (hS : va_S (fA E) s.heap H locs) : ∀ U : State, U.heap = H → s.WarmedH U.vm → fP E args H args.toArray U := fun U hU hW =>
  ⟨rfl, hU, fG.moved hG hW (by rw [hU]; exact fA_S hG hS) (fun q hq => by rw [hU]; exact hS.2.1 q (Nat.lt_of_lt_of_le hq hG.2.2.1) (Nat.not_le.mpr hq))⟩
theorem f_recv {E : fE} {s : State} {H : Heap} {a ci N : Nat} {C : String} {T : u_T} {fs : List Value} (hG : fG E s) (ha : oat E a ci fs H) (hc : fcl[ci]? = some (C, T, N)) : ∃ cell : Cell, H[a]? = some cell ∧ cell.vm.isStatics = false ∧ s.vm.findClass C = some cell.cls :=
  va_recv (q := (C, T, N)) hG.K (f_oneP ha) (q0 := 0) hc rfl
def okM (y : MethodName) (n : Nat) : Prop := y.cls ≠ "java/lang/invoke/MethodHandle" ∧ y.cls ≠ "java/lang/invoke/VarHandle" ∧ (parseMethodDescriptor y.desc).map (fun d => d.parameters.length) = some n
def CSV (own : String) (index : Nat) (y : MethodName) (b : ByteArray) (nL : Nat) (r : Option FieldType) (n : Nat) : Prop := okM y n ∧ Cond.methodLink own index y ∈ lw_all ∧ Cond.instanceMethod y ∈ lw_all ∧ Cond.selects y.cls y y ∈ lw_all ∧ Cond.initialized y.cls ∈ lw_all ∧ Cond.code y b nL r ∈ lw_all ∧ nL ≤ 45
def CSVW (own : String) (index : Nat) (y : MethodName) (b : ByteArray) (nL : Nat) (r : Option FieldType) (hh : List (Nat × Nat × Nat × Nat)) (n : Nat) : Prop := okM y n ∧ Cond.methodLink own index y ∈ lw_all ∧ Cond.instanceMethod y ∈ lw_all ∧ Cond.selects y.cls y y ∈ lw_all ∧ Cond.initialized y.cls ∈ lw_all ∧ Cond.codeWith y b nL r hh ∈ lw_all ∧ nL ≤ 45
def CSS (own : String) (index : Nat) (y : MethodName) (b : ByteArray) (nL : Nat) (r : Option FieldType) (n : Nat) : Prop := okM y n ∧ Cond.methodLink own index y ∈ lw_all ∧ Cond.static y ∈ lw_all ∧ Cond.initialized y.cls ∈ lw_all ∧ Cond.code y b nL r ∈ lw_all ∧ nL ≤ 45
def CSSW (own : String) (index : Nat) (y : MethodName) (b : ByteArray) (nL : Nat) (r : Option FieldType) (hh : List (Nat × Nat × Nat × Nat)) (n : Nat) : Prop := okM y n ∧ Cond.methodLink own index y ∈ lw_all ∧ Cond.static y ∈ lw_all ∧ Cond.initialized y.cls ∈ lw_all ∧ Cond.codeWith y b nL r hh ∈ lw_all ∧ nL ≤ 45
def CSI (own : String) (index : Nat) (y : MethodName) (b : ByteArray) (nL n : Nat) : Prop := okM y n ∧ Cond.methodLink own index y ∈ lw_all ∧ Cond.instanceMethod y ∈ lw_all ∧ y.name = "<init>" ∧ Cond.initialized y.cls ∈ lw_all ∧ Cond.code y b nL none ∈ lw_all ∧ nL ≤ 45
def CSVN (own : String) (index : Nat) (y : MethodName) (b : ByteArray) (nL : Nat) (r : Option FieldType) (n : Nat) : Prop := okM y n ∧ (∃ host, Cond.methodLinkNest own index y host ∈ lw_tbl) ∧ Cond.instanceMethod y ∈ lw_all ∧ Cond.selects y.cls y y ∈ lw_all ∧ Cond.initialized y.cls ∈ lw_all ∧ Cond.code y b nL r ∈ lw_all ∧ nL ≤ 45
def CSSN (own : String) (index : Nat) (y : MethodName) (b : ByteArray) (nL : Nat) (r : Option FieldType) (n : Nat) : Prop := okM y n ∧ (∃ host, Cond.methodLinkNest own index y host ∈ lw_tbl) ∧ Cond.static y ∈ lw_all ∧ Cond.initialized y.cls ∈ lw_all ∧ Cond.code y b nL r ∈ lw_all ∧ nL ≤ 45
def CSIN (own : String) (index : Nat) (y : MethodName) (b : ByteArray) (nL n : Nat) : Prop := okM y n ∧ (∃ host, Cond.methodLinkNest own index y host ∈ lw_tbl) ∧ Cond.instanceMethod y ∈ lw_all ∧ y.name = "<init>" ∧ Cond.initialized y.cls ∈ lw_all ∧ Cond.code y b nL none ∈ lw_all ∧ nL ≤ 45
/-- inherited: the reference names x, the receiver's class C has y of 'owner' for it -/
def CSU (own : String) (index : Nat) (C : String) (x y : MethodName) (b : ByteArray) (nL : Nat) (r : Option FieldType) (n : Nat) : Prop := (y.cls ≠ "java/lang/invoke/MethodHandle" ∧ y.cls ≠ "java/lang/invoke/VarHandle" ∧ (parseMethodDescriptor x.desc).map (fun d => d.parameters.length) = some n) ∧ y = ⟨y.cls, x.name, x.desc⟩ ∧ Cond.methodLink own index x ∈ lw_all ∧ Cond.sameMethod x.cls y.cls x.name x.desc ∈ lw_all ∧ Cond.selects C x y ∈ lw_all ∧ Cond.instanceMethod y ∈ lw_all ∧ Cond.initialized y.cls ∈ lw_all ∧ Cond.code y b nL r ∈ lw_all ∧ nL ≤ 45
/-- overriding: x resolves to owner's method (with code b0), the receiver's class C has y -/
def CSO (own : String) (index : Nat) (C owner : String) (x y : MethodName) (b : ByteArray) (nL : Nat) (r : Option FieldType) (n : Nat) : Prop := (owner ≠ "java/lang/invoke/MethodHandle" ∧ owner ≠ "java/lang/invoke/VarHandle" ∧ (parseMethodDescriptor x.desc).map (fun d => d.parameters.length) = some n) ∧ (∃ b0 m0 r0, Cond.code ⟨owner, x.name, x.desc⟩ b0 m0 r0 ∈ lw_all) ∧ Cond.methodLink own index x ∈ lw_all ∧ Cond.sameMethod x.cls owner x.name x.desc ∈ lw_all ∧ Cond.instanceMethod ⟨owner, x.name, x.desc⟩ ∈ lw_all ∧ Cond.selects C x y ∈ lw_all ∧ Cond.instanceMethod y ∈ lw_all ∧ Cond.initialized y.cls ∈ lw_all ∧ Cond.code y b nL r ∈ lw_all ∧ nL ≤ 45
/-- by an interface -/
def CSF (own : String) (index : Nat) (C : String) (x y : MethodName) (b : ByteArray) (nL : Nat) (r : Option FieldType) (n : Nat) : Prop := okM x n ∧ Cond.methodLink own index x ∈ lw_all ∧ Cond.selects C x y ∈ lw_all ∧ Cond.instanceMethod y ∈ lw_all ∧ Cond.initialized y.cls ∈ lw_all ∧ Cond.code y b nL r ∈ lw_all ∧ nL ≤ 45 ∧ Cond.declares x ∈ lw_tbl ∧ Cond.interfaceMethod x.cls x.cls x.name x.desc ∈ lw_tbl ∧ Cond.publicMethod y ∈ lw_tbl ∧ Cond.unhidden C x.name x.desc ∈ lw_tbl ∧ Cond.castable C x.cls ∈ lw_tbl
/-- super.m(..) -/
def CSSU (own : String) (index : Nat) (y : MethodName) (b : ByteArray) (nL : Nat) (r : Option FieldType) (n : Nat) : Prop := (y.name ≠ "<init>" ∧ (parseMethodDescriptor y.desc).map (fun d => d.parameters.length) = some n) ∧ Cond.methodLink own index y ∈ lw_all ∧ Cond.sameMethod y.cls y.cls y.name y.desc ∈ lw_all ∧ Cond.superclass own y.cls ∈ lw_all ∧ Cond.instanceMethod y ∈ lw_all ∧ Cond.initialized y.cls ∈ lw_all ∧ Cond.code y b nL r ∈ lw_all ∧ nL ≤ 45
section FCALLS
variable {E : fE} {Z : fZ} {cc : ByteArray} {nL : Nat} {own : String} {ret : Option FieldType} {tb : List ExceptionTableEntry} {nm : String} {L mc ms : Nat} {H : Heap} {cs ss pc : Nat} {lv lv' : List (Nat × Value)} {st : List Value}
variable {y : MethodName} {bytes : ByteArray} {maxL : Nat} {ret' : Option FieldType} {L' mc' ms' index n : Nat} {Post : Option Value → Heap → Prop} {PX : Nat → String → Heap → Prop} {b : Nat} {As rest : List Value}
theorem f_run {p : Program} {e : Env} {R : Room} {s : State} {m : MethodId} {args a : Array Value} {below : List Frame} {meth : Method} {c : Code} {Q : State → Prop} {locs : List Loc} {ls : Array Slot} {st0 : List Value} (hS : va_S (fA E) s.heap H locs) (hl : lv_has ls nL lv)
    (hr : vx_Run p E.l e R s m args below meth c H locs cs ss mc' ms' (F0 m pc ls st0) rest (fQ (fA E) Post a) (fX (fA E) PX) (fA E))
    (kk : ∀ (v : Option Value) (H' : Heap), Post v H' → H.size ≤ H'.size → Go E (p, e, R, s, m, args, below, meth, c, Q) nL H' (cs + mc') (ss + ms') (pc + 3) lv (v.toList ++ rest))
    (kx : ∀ (q : Nat) (En : String) (H' : Heap), PX q En H' → H.size ≤ H'.size → Thr (p, e, R, s, m, args, below, meth, c, Q) q En H' → GoX E (p, e, R, s, m, args, below, meth, c, Q) nL H' (cs + mc') (ss + ms') pc lv q) :
    W p E.l e R s m args below meth c H locs cs ss Q (F0 m pc ls st0) := by
  intro T hT X
  rcases hr T hT X with ⟨v, st₀, t, T', L1, h0, X', hL, e1, e2, ⟨⟨v2, hv, hp⟩, hF⟩, hst⟩ | ⟨q, st₀, t, T', L1, En, ce, h0, X', hL, e1, e2, ⟨hp, hF⟩, hce, hcv, hcl, hst⟩
  · cases hv
    obtain ⟨g1, g2, g3⟩ := vx_keep (free := fA E) h0 e1 hS (fun _ _ h => h) (fun _ h => h) hL hF
    obtain ⟨t2, a1, b1⟩ := kk v T'.heap (by rw [e1]; exact hp) g1 _ ls g3 hl T' rfl X'
    exact ⟨t2, hst t2 a1, b1⟩
  · obtain ⟨g1, g2, g3⟩ := vx_keep (free := fA E) h0 e1 hS (fun _ _ h => h) (fun _ h => h) hL hF
    obtain ⟨t2, a1, b1⟩ := kx q En T'.heap (by rw [e1]; exact hp) g1 ⟨ce, by rw [e1]; exact hce, hcv, hcl⟩ _ ls rest g3 hl T' rfl X'
    exact ⟨t2, hst.trans a1, b1⟩
theorem f_run5 {p : Program} {e : Env} {R : Room} {s : State} {m : MethodId} {args a : Array Value} {below : List Frame} {meth : Method} {c : Code} {Q : State → Prop} {locs : List Loc} {ls : Array Slot} {st0 : List Value} (hS : va_S (fA E) s.heap H locs) (hl : lv_has ls nL lv)
    (hr : vx_Run5 p E.l e R s m args below meth c H locs cs ss mc' ms' (F0 m pc ls st0) rest (fQ (fA E) Post a) (fX (fA E) PX) (fA E))
    (kk : ∀ (v : Option Value) (H' : Heap), Post v H' → H.size ≤ H'.size → Go E (p, e, R, s, m, args, below, meth, c, Q) nL H' (cs + mc') (ss + ms') (pc + 5) lv (v.toList ++ rest))
    (kx : ∀ (q : Nat) (En : String) (H' : Heap), PX q En H' → H.size ≤ H'.size → Thr (p, e, R, s, m, args, below, meth, c, Q) q En H' → GoX E (p, e, R, s, m, args, below, meth, c, Q) nL H' (cs + mc') (ss + ms') pc lv q) :
    W p E.l e R s m args below meth c H locs cs ss Q (F0 m pc ls st0) := by
  intro T hT X
  rcases hr T hT X with ⟨v, st₀, t, T', L1, h0, X', hL, e1, e2, ⟨⟨v2, hv, hp⟩, hF⟩, hst⟩ | ⟨q, st₀, t, T', L1, En, ce, h0, X', hL, e1, e2, ⟨hp, hF⟩, hce, hcv, hcl, hst⟩
  · cases hv
    obtain ⟨g1, g2, g3⟩ := vx_keep (free := fA E) h0 e1 hS (fun _ _ h => h) (fun _ h => h) hL hF
    obtain ⟨t2, a1, b1⟩ := kk v T'.heap (by rw [e1]; exact hp) g1 _ ls g3 hl T' rfl X'
    exact ⟨t2, hst t2 a1, b1⟩
  · obtain ⟨g1, g2, g3⟩ := vx_keep (free := fA E) h0 e1 hS (fun _ _ h => h) (fun _ h => h) hL hF
    obtain ⟨t2, a1, b1⟩ := kx q En T'.heap (by rw [e1]; exact hp) g1 ⟨ce, by rw [e1]; exact hce, hcv, hcl⟩ _ ls rest g3 hl T' rfl X'
    exact ⟨t2, hst.trans a1, b1⟩

theorem f_invV (K : Zok E Z cc nL own ret tb nm L mc ms) {ci N : Nat} {T : u_T} {fs : List Value} (hM : fM E y bytes maxL ret' L' mc' ms' (.ref b :: As) H Post PX) (C0 : CSV own index y bytes maxL ret' n) (hd : decode cc pc = .ok (.invokevirtual index, 3)) (hrv : oat E b ci fs H) (hc : fcl[ci]? = some (y.cls, T, N)) (hn : As.length = n) (hs0 : As.reverse ++ .ref b :: rest = st) (hst : (rest.map fun v => v.category).sum ≤ 8) (hL : L' + 1 ≤ L) (hcs : cs + mc' ≤ mc) (hss : ss + ms' ≤ ms)
    (kk : ∀ (v : Option Value) (H' : Heap), Post v H' → H.size ≤ H'.size → Go E Z nL H' (cs + mc') (ss + ms') (pc + 3) lv (v.toList ++ rest))
    (kx : ∀ (q : Nat) (En : String) (H' : Heap), PX q En H' → H.size ≤ H'.size → Thr Z q En H' → GoX E Z nL H' (cs + mc') (ss + ms') pc lv q) : Go E Z nL H cs ss pc lv st := by
  obtain ⟨p, e, R, s, m, args, below, meth, c, Q⟩ := Z
  obtain ⟨hx, hb, hml, hown, hts, hlocks, hr, hG, htb, hnm, hLf, hLl, hmc, hms⟩ := K
  subst hs0
  intro locs ls hS hl
  obtain ⟨⟨z1, z2, z3⟩, q1, q2, q3, q4, q5, hm⟩ := C0
  exact f_run hS hl (vx_runV ⟨hx, hb, hml, hown, hts⟩ hM (cwV n hts (lw_V q1 q2 q3 q4 q5) rfl rfl rfl ⟨rfl, z1, z2, z3⟩ ⟨by show L' + 1 ≤ R.frames; omega, by show 8 + (maxL + 11) + 64 * L' ≤ R.locals; omega⟩) ⟨f_blind, f_recv hG hrv hc, f_preG hG hS⟩ rfl hn hl.1 rfl (lv_room hst) hd ⟨by omega, by omega⟩) kk kx
theorem f_invVW (K : Zok E Z cc nL own ret tb nm L mc ms) {hh : List (Nat × Nat × Nat × Nat)} {ci N : Nat} {T : u_T} {fs : List Value} (hM : fMW E y bytes maxL ret' hh L' mc' ms' (.ref b :: As) H Post PX) (C0 : CSVW own index y bytes maxL ret' hh n) (hd : decode cc pc = .ok (.invokevirtual index, 3)) (hrv : oat E b ci fs H) (hc : fcl[ci]? = some (y.cls, T, N)) (hn : As.length = n) (hs0 : As.reverse ++ .ref b :: rest = st) (hst : (rest.map fun v => v.category).sum ≤ 8) (hL : L' + 1 ≤ L) (hcs : cs + mc' ≤ mc) (hss : ss + ms' ≤ ms)
    (kk : ∀ (v : Option Value) (H' : Heap), Post v H' → H.size ≤ H'.size → Go E Z nL H' (cs + mc') (ss + ms') (pc + 3) lv (v.toList ++ rest))
    (kx : ∀ (q : Nat) (En : String) (H' : Heap), PX q En H' → H.size ≤ H'.size → Thr Z q En H' → GoX E Z nL H' (cs + mc') (ss + ms') pc lv q) : Go E Z nL H cs ss pc lv st := by
  obtain ⟨p, e, R, s, m, args, below, meth, c, Q⟩ := Z
  obtain ⟨hx, hb, hml, hown, hts, hlocks, hr, hG, htb, hnm, hLf, hLl, hmc, hms⟩ := K
  subst hs0
  intro locs ls hS hl
  obtain ⟨⟨z1, z2, z3⟩, q1, q2, q3, q4, q5, hm⟩ := C0
  exact f_run hS hl (vx_runVX ⟨hx, hb, hml, hown, hts⟩ hM (vx_cwVW n hts (lw_VW q1 q2 q3 q4 q5) rfl rfl rfl ⟨rfl, z1, z2, z3⟩ ⟨by show L' + 1 ≤ R.frames; omega, by show 8 + (maxL + 11) + 64 * L' ≤ R.locals; omega⟩) ⟨f_blind, f_recv hG hrv hc, f_preG hG hS⟩ rfl hn hl.1 rfl (lv_room hst) hd ⟨by omega, by omega⟩) kk kx
theorem f_invS (K : Zok E Z cc nL own ret tb nm L mc ms) (hM : fM E y bytes maxL ret' L' mc' ms' (As) H Post PX) (C0 : CSS own index y bytes maxL ret' n) (hd : decode cc pc = .ok (.invokestatic index, 3)) (hn : As.length = n) (hs0 : As.reverse ++ rest = st) (hst : (rest.map fun v => v.category).sum ≤ 8) (hL : L' + 1 ≤ L) (hcs : cs + mc' ≤ mc) (hss : ss + ms' ≤ ms)
    (kk : ∀ (v : Option Value) (H' : Heap), Post v H' → H.size ≤ H'.size → Go E Z nL H' (cs + mc') (ss + ms') (pc + 3) lv (v.toList ++ rest))
    (kx : ∀ (q : Nat) (En : String) (H' : Heap), PX q En H' → H.size ≤ H'.size → Thr Z q En H' → GoX E Z nL H' (cs + mc') (ss + ms') pc lv q) : Go E Z nL H cs ss pc lv st := by
  obtain ⟨p, e, R, s, m, args, below, meth, c, Q⟩ := Z
  obtain ⟨hx, hb, hml, hown, hts, hlocks, hr, hG, htb, hnm, hLf, hLl, hmc, hms⟩ := K
  subst hs0
  intro locs ls hS hl
  obtain ⟨⟨z1, z2, z3⟩, q1, q2, q3, q4, hm⟩ := C0
  exact f_run hS hl (vx_runS ⟨hx, hb, hml, hown, hts⟩ hM (va_cwS n hts (lw_S q1 q2 q3 q4) rfl rfl rfl ⟨z1, z2, z3⟩ ⟨by show L' + 1 ≤ R.frames; omega, by show 8 + (maxL + 11) + 64 * L' ≤ R.locals; omega⟩) ⟨f_blind, f_preG hG hS⟩ rfl hn hl.1 rfl (lv_room hst) hd ⟨by omega, by omega⟩) kk kx
theorem f_invSW (K : Zok E Z cc nL own ret tb nm L mc ms) {hh : List (Nat × Nat × Nat × Nat)} (hM : fMW E y bytes maxL ret' hh L' mc' ms' (As) H Post PX) (C0 : CSSW own index y bytes maxL ret' hh n) (hd : decode cc pc = .ok (.invokestatic index, 3)) (hn : As.length = n) (hs0 : As.reverse ++ rest = st) (hst : (rest.map fun v => v.category).sum ≤ 8) (hL : L' + 1 ≤ L) (hcs : cs + mc' ≤ mc) (hss : ss + ms' ≤ ms)
    (kk : ∀ (v : Option Value) (H' : Heap), Post v H' → H.size ≤ H'.size → Go E Z nL H' (cs + mc') (ss + ms') (pc + 3) lv (v.toList ++ rest))
    (kx : ∀ (q : Nat) (En : String) (H' : Heap), PX q En H' → H.size ≤ H'.size → Thr Z q En H' → GoX E Z nL H' (cs + mc') (ss + ms') pc lv q) : Go E Z nL H cs ss pc lv st := by
  obtain ⟨p, e, R, s, m, args, below, meth, c, Q⟩ := Z
  obtain ⟨hx, hb, hml, hown, hts, hlocks, hr, hG, htb, hnm, hLf, hLl, hmc, hms⟩ := K
  subst hs0
  intro locs ls hS hl
  obtain ⟨⟨z1, z2, z3⟩, q1, q2, q3, q4, hm⟩ := C0
  exact f_run hS hl (vx_runSX ⟨hx, hb, hml, hown, hts⟩ hM (vx_cwSW n hts (lw_SW q1 q2 q3 q4) rfl rfl rfl ⟨z1, z2, z3⟩ ⟨by show L' + 1 ≤ R.frames; omega, by show 8 + (maxL + 11) + 64 * L' ≤ R.locals; omega⟩) ⟨f_blind, f_preG hG hS⟩ rfl hn hl.1 rfl (lv_room hst) hd ⟨by omega, by omega⟩) kk kx
theorem f_invI (K : Zok E Z cc nL own ret tb nm L mc ms) (hM : fM E y bytes maxL none L' mc' ms' (.ref b :: As) H Post PX) (C0 : CSI own index y bytes maxL n) (hd : decode cc pc = .ok (.invokespecial index, 3)) (hn : As.length = n) (hs0 : As.reverse ++ .ref b :: rest = st) (hst : (rest.map fun v => v.category).sum ≤ 8) (hL : L' + 1 ≤ L) (hcs : cs + mc' ≤ mc) (hss : ss + ms' ≤ ms)
    (kk : ∀ (v : Option Value) (H' : Heap), Post v H' → H.size ≤ H'.size → Go E Z nL H' (cs + mc') (ss + ms') (pc + 3) lv (v.toList ++ rest))
    (kx : ∀ (q : Nat) (En : String) (H' : Heap), PX q En H' → H.size ≤ H'.size → Thr Z q En H' → GoX E Z nL H' (cs + mc') (ss + ms') pc lv q) : Go E Z nL H cs ss pc lv st := by
  obtain ⟨p, e, R, s, m, args, below, meth, c, Q⟩ := Z
  obtain ⟨hx, hb, hml, hown, hts, hlocks, hr, hG, htb, hnm, hLf, hLl, hmc, hms⟩ := K
  subst hs0
  intro locs ls hS hl
  obtain ⟨⟨z1, z2, z3⟩, q1, q2, q3, q4, q5, hm⟩ := C0
  exact f_run hS hl (vx_runI ⟨hx, hb, hml, hown, hts⟩ hM (cwI n hts (lw_meth q5) rfl rfl rfl (hts _ q4) (hts _ q1) (hts _ q2) q3 ⟨z1, z2, z3⟩ ⟨by show L' + 1 ≤ R.frames; omega, by show 8 + (maxL + 11) + 64 * L' ≤ R.locals; omega⟩) ⟨f_blind, f_preG hG hS⟩ rfl hn hl.1 rfl (lv_room hst) hd ⟨by omega, by omega⟩) kk kx
theorem f_invVN (K : Zok E Z cc nL own ret tb nm L mc ms) {ci N : Nat} {T : u_T} {fs : List Value} (hM : fM E y bytes maxL ret' L' mc' ms' (.ref b :: As) H Post PX) (C0 : CSVN own index y bytes maxL ret' n) (hd : decode cc pc = .ok (.invokevirtual index, 3)) (hrv : oat E b ci fs H) (hc : fcl[ci]? = some (y.cls, T, N)) (hn : As.length = n) (hs0 : As.reverse ++ .ref b :: rest = st) (hst : (rest.map fun v => v.category).sum ≤ 8) (hL : L' + 1 ≤ L) (hcs : cs + mc' ≤ mc) (hss : ss + ms' ≤ ms)
    (kk : ∀ (v : Option Value) (H' : Heap), Post v H' → H.size ≤ H'.size → Go E Z nL H' (cs + mc') (ss + ms') (pc + 3) lv (v.toList ++ rest))
    (kx : ∀ (q : Nat) (En : String) (H' : Heap), PX q En H' → H.size ≤ H'.size → Thr Z q En H' → GoX E Z nL H' (cs + mc') (ss + ms') pc lv q) : Go E Z nL H cs ss pc lv st := by
  obtain ⟨p, e, R, s, m, args, below, meth, c, Q⟩ := Z
  obtain ⟨hx, hb, hml, hown, hts, hlocks, hr, hG, htb, hnm, hLf, hLl, hmc, hms⟩ := K
  subst hs0
  intro locs ls hS hl
  obtain ⟨⟨z1, z2, z3⟩, ⟨host, q1⟩, q2, q3, q4, q5, hm⟩ := C0
  exact f_run hS hl (vx_runVN ⟨hx, hb, hml, hown, hts⟩ hM ⟨va_cnB n hts (lw_meth q5) rfl rfl rfl (hG.nwM q1) (hts _ q4) ⟨z1, z2, z3⟩ ⟨by show L' + 1 ≤ R.frames; omega, by show 8 + (maxL + 11) + 64 * L' ≤ R.locals; omega⟩, hts _ q2, hts _ q3⟩ ⟨f_blind, f_recv hG hrv hc, f_preG hG hS⟩ rfl hn hl.1 rfl (lv_room hst) hd ⟨by omega, by omega⟩) kk kx
theorem f_invSN (K : Zok E Z cc nL own ret tb nm L mc ms) (hM : fM E y bytes maxL ret' L' mc' ms' (As) H Post PX) (C0 : CSSN own index y bytes maxL ret' n) (hd : decode cc pc = .ok (.invokestatic index, 3)) (hn : As.length = n) (hs0 : As.reverse ++ rest = st) (hst : (rest.map fun v => v.category).sum ≤ 8) (hL : L' + 1 ≤ L) (hcs : cs + mc' ≤ mc) (hss : ss + ms' ≤ ms)
    (kk : ∀ (v : Option Value) (H' : Heap), Post v H' → H.size ≤ H'.size → Go E Z nL H' (cs + mc') (ss + ms') (pc + 3) lv (v.toList ++ rest))
    (kx : ∀ (q : Nat) (En : String) (H' : Heap), PX q En H' → H.size ≤ H'.size → Thr Z q En H' → GoX E Z nL H' (cs + mc') (ss + ms') pc lv q) : Go E Z nL H cs ss pc lv st := by
  obtain ⟨p, e, R, s, m, args, below, meth, c, Q⟩ := Z
  obtain ⟨hx, hb, hml, hown, hts, hlocks, hr, hG, htb, hnm, hLf, hLl, hmc, hms⟩ := K
  subst hs0
  intro locs ls hS hl
  obtain ⟨⟨z1, z2, z3⟩, ⟨host, q1⟩, q2, q3, q4, hm⟩ := C0
  exact f_run hS hl (vx_runSN ⟨hx, hb, hml, hown, hts⟩ hM ⟨va_cnB n hts (lw_meth q4) rfl rfl rfl (hG.nwM q1) (hts _ q3) ⟨z1, z2, z3⟩ ⟨by show L' + 1 ≤ R.frames; omega, by show 8 + (maxL + 11) + 64 * L' ≤ R.locals; omega⟩, hts _ q2, trivial⟩ ⟨f_blind, f_preG hG hS⟩ rfl hn hl.1 rfl (lv_room hst) hd ⟨by omega, by omega⟩) kk kx
theorem f_invIN (K : Zok E Z cc nL own ret tb nm L mc ms) (hM : fM E y bytes maxL none L' mc' ms' (.ref b :: As) H Post PX) (C0 : CSIN own index y bytes maxL n) (hd : decode cc pc = .ok (.invokespecial index, 3)) (hn : As.length = n) (hs0 : As.reverse ++ .ref b :: rest = st) (hst : (rest.map fun v => v.category).sum ≤ 8) (hL : L' + 1 ≤ L) (hcs : cs + mc' ≤ mc) (hss : ss + ms' ≤ ms)
    (kk : ∀ (v : Option Value) (H' : Heap), Post v H' → H.size ≤ H'.size → Go E Z nL H' (cs + mc') (ss + ms') (pc + 3) lv (v.toList ++ rest))
    (kx : ∀ (q : Nat) (En : String) (H' : Heap), PX q En H' → H.size ≤ H'.size → Thr Z q En H' → GoX E Z nL H' (cs + mc') (ss + ms') pc lv q) : Go E Z nL H cs ss pc lv st := by
  obtain ⟨p, e, R, s, m, args, below, meth, c, Q⟩ := Z
  obtain ⟨hx, hb, hml, hown, hts, hlocks, hr, hG, htb, hnm, hLf, hLl, hmc, hms⟩ := K
  subst hs0
  intro locs ls hS hl
  obtain ⟨⟨z1, z2, z3⟩, ⟨host, q1⟩, q2, q3, q4, q5, hm⟩ := C0
  exact f_run hS hl (vx_runIN ⟨hx, hb, hml, hown, hts⟩ hM ⟨va_cnB n hts (lw_meth q5) rfl rfl rfl (hG.nwM q1) (hts _ q4) ⟨z1, z2, z3⟩ ⟨by show L' + 1 ≤ R.frames; omega, by show 8 + (maxL + 11) + 64 * L' ≤ R.locals; omega⟩, q3, hts _ q2⟩ ⟨f_blind, f_preG hG hS⟩ rfl hn hl.1 rfl (lv_room hst) hd ⟨by omega, by omega⟩) kk kx
theorem f_invU (K : Zok E Z cc nL own ret tb nm L mc ms) {ci N : Nat} {T : u_T} {fs : List Value} {C : String} {x : MethodName} (hM : fM E y bytes maxL ret' L' mc' ms' (.ref b :: As) H Post PX) (C0 : CSU own index C x y bytes maxL ret' n) (hd : decode cc pc = .ok (.invokevirtual index, 3)) (hrv : oat E b ci fs H) (hc : fcl[ci]? = some (C, T, N)) (hn : As.length = n) (hs0 : As.reverse ++ .ref b :: rest = st) (hst : (rest.map fun v => v.category).sum ≤ 8) (hL : L' + 1 ≤ L) (hcs : cs + mc' ≤ mc) (hss : ss + ms' ≤ ms)
    (kk : ∀ (v : Option Value) (H' : Heap), Post v H' → H.size ≤ H'.size → Go E Z nL H' (cs + mc') (ss + ms') (pc + 3) lv (v.toList ++ rest))
    (kx : ∀ (q : Nat) (En : String) (H' : Heap), PX q En H' → H.size ≤ H'.size → Thr Z q En H' → GoX E Z nL H' (cs + mc') (ss + ms') pc lv q) : Go E Z nL H cs ss pc lv st := by
  obtain ⟨p, e, R, s, m, args, below, meth, c, Q⟩ := Z
  obtain ⟨hx, hb, hml, hown, hts, hlocks, hr, hG, htb, hnm, hLf, hLl, hmc, hms⟩ := K
  subst hs0
  intro locs ls hS hl
  obtain ⟨⟨z1, z2, z3⟩, hyx, q1, q2, q3, q4, q5, q6, hm⟩ := C0
  have hall : ∀ w ∈ ([.methodLink own index x, .sameMethod x.cls y.cls x.name x.desc, .selects C x y, .instanceMethod y, .initialized y.cls] : List Cond), w ∈ lw_all := by
    intro w hw
    simp only [List.mem_cons, List.not_mem_nil, or_false] at hw
    rcases hw with e | e | e | e | e <;> rw [e] <;> assumption
  exact f_run hS hl (vx_runU ⟨hx, hb, hml, hown, hts⟩ hM (va_cwU (owner := y.cls) n hts (lw_app hall (lw_meth q6)) rfl rfl rfl hyx ⟨z1, z2, z3⟩ ⟨by show L' + 1 ≤ R.frames; omega, by show 8 + (maxL + 11) + 64 * L' ≤ R.locals; omega⟩) ⟨f_blind, f_recv hG hrv hc, f_preG hG hS⟩ rfl hn hl.1 rfl (lv_room hst) hd ⟨by omega, by omega⟩) kk kx
theorem f_invO (K : Zok E Z cc nL own ret tb nm L mc ms) {ci N : Nat} {T : u_T} {fs : List Value} {C owner : String} {x : MethodName} (hM : fM E y bytes maxL ret' L' mc' ms' (.ref b :: As) H Post PX) (C0 : CSO own index C owner x y bytes maxL ret' n) (hd : decode cc pc = .ok (.invokevirtual index, 3)) (hrv : oat E b ci fs H) (hc : fcl[ci]? = some (C, T, N)) (hn : As.length = n) (hs0 : As.reverse ++ .ref b :: rest = st) (hst : (rest.map fun v => v.category).sum ≤ 8) (hL : L' + 1 ≤ L) (hcs : cs + mc' ≤ mc) (hss : ss + ms' ≤ ms)
    (kk : ∀ (v : Option Value) (H' : Heap), Post v H' → H.size ≤ H'.size → Go E Z nL H' (cs + mc') (ss + ms') (pc + 3) lv (v.toList ++ rest))
    (kx : ∀ (q : Nat) (En : String) (H' : Heap), PX q En H' → H.size ≤ H'.size → Thr Z q En H' → GoX E Z nL H' (cs + mc') (ss + ms') pc lv q) : Go E Z nL H cs ss pc lv st := by
  obtain ⟨p, e, R, s, m, args, below, meth, c, Q⟩ := Z
  obtain ⟨hx, hb, hml, hown, hts, hlocks, hr, hG, htb, hnm, hLf, hLl, hmc, hms⟩ := K
  subst hs0
  intro locs ls hS hl
  obtain ⟨⟨z1, z2, z3⟩, ⟨b0, m0, r0, q0⟩, q1, q2, q3, q4, q5, q6, q7, hm⟩ := C0
  have hall : ∀ w ∈ ([.methodLink own index x, .sameMethod x.cls owner x.name x.desc, .instanceMethod ⟨owner, x.name, x.desc⟩, .selects C x y, .instanceMethod y, .initialized y.cls] : List Cond), w ∈ lw_all := by
    intro w hw
    simp only [List.mem_cons, List.not_mem_nil, or_false] at hw
    rcases hw with e | e | e | e | e | e <;> rw [e] <;> assumption
  exact f_run hS hl (vx_runU ⟨hx, hb, hml, hown, hts⟩ hM (va_cwO n hts (lw_app hall (lw_meth q7)) rfl rfl rfl q0 ⟨z1, z2, z3⟩ ⟨by show L' + 1 ≤ R.frames; omega, by show 8 + (maxL + 11) + 64 * L' ≤ R.locals; omega⟩) ⟨f_blind, f_recv hG hrv hc, f_preG hG hS⟩ rfl hn hl.1 rfl (lv_room hst) hd ⟨by omega, by omega⟩) kk kx
theorem f_invF (K : Zok E Z cc nL own ret tb nm L mc ms) {count : Nat} {ci N : Nat} {T : u_T} {fs : List Value} {C : String} {x : MethodName} (hM : fM E y bytes maxL ret' L' mc' ms' (.ref b :: As) H Post PX) (C0 : CSF own index C x y bytes maxL ret' n) (hd : decode cc pc = .ok (.invokeinterface index count, 5)) (hrv : oat E b ci fs H) (hc : fcl[ci]? = some (C, T, N)) (hn : As.length = n) (hs0 : As.reverse ++ .ref b :: rest = st) (hst : (rest.map fun v => v.category).sum ≤ 8) (hL : L' + 1 ≤ L) (hcs : cs + mc' ≤ mc) (hss : ss + ms' ≤ ms)
    (kk : ∀ (v : Option Value) (H' : Heap), Post v H' → H.size ≤ H'.size → Go E Z nL H' (cs + mc') (ss + ms') (pc + 5) lv (v.toList ++ rest))
    (kx : ∀ (q : Nat) (En : String) (H' : Heap), PX q En H' → H.size ≤ H'.size → Thr Z q En H' → GoX E Z nL H' (cs + mc') (ss + ms') pc lv q) : Go E Z nL H cs ss pc lv st := by
  obtain ⟨p, e, R, s, m, args, below, meth, c, Q⟩ := Z
  obtain ⟨hx, hb, hml, hown, hts, hlocks, hr, hG, htb, hnm, hLf, hLl, hmc, hms⟩ := K
  subst hs0
  intro locs ls hS hl
  obtain ⟨⟨z1, z2, z3⟩, q1, q2, q3, q4, q5, hm, w1, w2, w3, w4, w5⟩ := C0
  have hall : ∀ w ∈ ([.methodLink own index x, .selects C x y, .instanceMethod y, .initialized y.cls] : List Cond), w ∈ lw_all := by
    intro w hw
    simp only [List.mem_cons, List.not_mem_nil, or_false] at hw
    rcases hw with e | e | e | e <;> rw [e] <;> assumption
  exact f_run5 hS hl (vx_runF (hG.K.1 ci _ hc).2 ⟨hx, hb, hml, hown, hts⟩ hM (va_cwF n hts (lw_app hall (lw_meth q5)) rfl rfl rfl (hG.fw ⟨z1, z2⟩ w1 w2 w3 w4 w5) ⟨z1, z2, z3⟩ ⟨by show L' + 1 ≤ R.frames; omega, by show 8 + (maxL + 11) + 64 * L' ≤ R.locals; omega⟩) ⟨f_blind, f_recv hG hrv hc, f_preG hG hS⟩ rfl hn hl.1 rfl (lv_room hst) hd ⟨by omega, by omega⟩) kk kx
theorem f_invSU (K : Zok E Z cc nL own ret tb nm L mc ms) {ci N : Nat} {T : u_T} {fs : List Value} {C : String} (hM : fM E y bytes maxL ret' L' mc' ms' (.ref b :: As) H Post PX) (C0 : CSSU own index y bytes maxL ret' n) (hd : decode cc pc = .ok (.invokespecial index, 3)) (hrv : oat E b ci fs H) (hc : fcl[ci]? = some (C, T, N)) (hn : As.length = n) (hs0 : As.reverse ++ .ref b :: rest = st) (hst : (rest.map fun v => v.category).sum ≤ 8) (hL : L' + 1 ≤ L) (hcs : cs + mc' ≤ mc) (hss : ss + ms' ≤ ms)
    (kk : ∀ (v : Option Value) (H' : Heap), Post v H' → H.size ≤ H'.size → Go E Z nL H' (cs + mc') (ss + ms') (pc + 3) lv (v.toList ++ rest))
    (kx : ∀ (q : Nat) (En : String) (H' : Heap), PX q En H' → H.size ≤ H'.size → Thr Z q En H' → GoX E Z nL H' (cs + mc') (ss + ms') pc lv q) : Go E Z nL H cs ss pc lv st := by
  obtain ⟨p, e, R, s, m, args, below, meth, c, Q⟩ := Z
  obtain ⟨hx, hb, hml, hown, hts, hlocks, hr, hG, htb, hnm, hLf, hLl, hmc, hms⟩ := K
  subst hs0
  intro locs ls hS hl
  obtain ⟨⟨z1, z2⟩, q1, q2, q3, q4, q5, q6, hm⟩ := C0
  have hall : ∀ w ∈ ([.methodLink own index y, .sameMethod y.cls y.cls y.name y.desc, .superclass own y.cls, .instanceMethod y, .initialized y.cls] : List Cond), w ∈ lw_all := by
    intro w hw
    simp only [List.mem_cons, List.not_mem_nil, or_false] at hw
    rcases hw with e | e | e | e | e <;> rw [e] <;> assumption
  exact f_run hS hl (vx_runSU (hG.K.1 ci _ hc).2 ⟨hx, hb, hml, hown, hts⟩ hM (va_cwSU n hts (lw_app hall (lw_meth q6)) rfl rfl rfl ⟨z1, z2⟩ ⟨by show L' + 1 ≤ R.frames; omega, by show 8 + (maxL + 11) + 64 * L' ≤ R.locals; omega⟩) ⟨f_blind, f_recv hG hrv hc, f_preG hG hS⟩ rfl hn hl.1 rfl (lv_room hst) hd ⟨by omega, by omega⟩) kk kx
/-- no exception comes -/
theorem f_nx {Z : fZ} {H' : Heap} {G : Prop} : ∀ (q : Nat) (En : String) (H2 : Heap), noX q En H2 → H'.size ≤ H2.size → Thr Z q En H2 → G := fun _ _ _ h _ _ => h.elim
/-- thrown on, out of this method -/
theorem f_out {q : Nat} {En : String} {Post : Option Value → Heap → Prop} {PX : Nat → String → Heap → Prop} (K : Zok E Z cc nL own ret [] nm L mc ms) (X : Zex E Z mc ms Post PX) (ht : Thr Z q En H) (hcs : cs ≤ mc) (hss : ss ≤ ms) (hp : PX q En H) : GoX E Z nL H cs ss pc lv q := by
  obtain ⟨p, e, R, s, m, args, below, meth, c, Q⟩ := Z
  obtain ⟨hx, hb, hml, hown, hts, hlocks, hr, hG, htb, hnm, hLf, hLl, hmc, hms⟩ := K
  intro locs ls st0 hS hl
  obtain rfl : Q = _ := X
  obtain ⟨ce, h1, h2, h3⟩ := ht
  exact vx_out (fun x hx9 => by rw [htb] at hx9; cases hx9) hlocks h1 h2 h3 (fun t ht _ => ⟨by rw [ht]; exact hp, hS.F ht⟩) hS.2.2 hcs hss
theorem f_athrow {q : Nat} (K : Zok E Z cc nL own ret tb nm L mc ms) (hd : decode cc pc = .ok (.athrow, 1)) (k : GoX E Z nL H cs ss pc lv q) : Go E Z nL H cs ss pc lv (.ref q :: st) := by
  obtain ⟨p, e, R, s, m, args, below, meth, c, Q⟩ := Z
  obtain ⟨hx, hb, hml, hown, hts, hlocks, hr, hG, htb, hnm, hLf, hLl, hmc, hms⟩ := K
  exact fun locs ls hS hl => vx_athrow hx hb hd (k locs ls st hS hl)
theorem f_thr {a ci N : Nat} {C : String} {T : u_T} {fs : List Value} (K : Zok E Z cc nL own ret tb nm L mc ms) (ha : oat E a ci fs H) (hc : fcl[ci]? = some (C, T, N)) : Thr Z a C H := by
  obtain ⟨p, e, R, s, m, args, below, meth, c, Q⟩ := Z
  obtain ⟨hx, hb, hml, hown, hts, hlocks, hr, hG, htb, hnm, hLf, hLl, hmc, hms⟩ := K
  obtain ⟨r', hr', cellV, g1, g2, g3, -⟩ := ha
  exact ⟨cellV, g1, g3, by rw [g2]; exact (hG.K.1 ci _ hc).2.1⟩
end FCALLS
