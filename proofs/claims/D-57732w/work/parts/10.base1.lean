/-! BASE 1: the environment of a run, the judgement Go, rows of locals, stack, arithmetic, branches -/
set_option maxRecDepth 100000
def fcl : List vw_C := [(RX1, TX1, 8), (RX2, TX2, 16), (RX3, TX3, 4), (RX4, TX4, 3), (RX5, TX5, 5), (RX6, TX6, 3), (RX7, TX7, 1), (RX8, TX8, 2), (RX9, TX9, 22), (RX10, TX10, 7), (RX11, TX11, 8), (RX12, TX12, 2), (RX13, TX13, 4), (RX14, TX14, 4), (RJ2, TJ2, 3), (RJ20, TJ20, 12), (RJ23, TJ23, 6), (RJ27, TJ27, 3), (RJ8, TJ8, 4), (RJ9, TJ9, 4), (RJ17, TJ17, 1), (RJ41, TJ41, 2), (RJ35, TJ35, 5), (RJ38, TJ38, 2), (RJ34, TJ34, 5), (RJ32, TJ32, 4), (RJ39, TJ39, 6), (RJ6, TJ6, 6), (RJ28, TJ28, 6), (RJ30, TJ30, 6), (RJ31, TJ31, 4)]
/-- launch, the classes' numbers and slots, the array classes, the law's start, the script's cell -/
abbrev fE : Type := Launch × va_G × (Nat → ClassId) × State × Nat
abbrev fE.l (E : fE) : Launch := E.1
abbrev fE.D (E : fE) : va_G := E.2.1
abbrev fE.C (E : fE) : Nat → ClassId := E.2.2.1
abbrev fE.s (E : fE) : State := E.2.2.2.1
abbrev fE.b (E : fE) : Nat := E.2.2.2.2
abbrev fE.lo (E : fE) : Nat := E.s.heap.size
def ftys (C : Nat → ClassId) : List (ClassId × FieldType) := [(C 0, .int), (C 1, .byte), (C 2, .long), (C 3, .object "java/lang/Object"), (C 4, .object "SnowPass$Plough"), (C 5, .object "java/util/HashMap$Node"), (C 6, .object "SnowPass$Operation")]
def fOK (E : fE) : Prop := va_K E.D fcl (ftys E.C) E.s ∧ (∀ w ∈ lw_tbl, w.before #[Value.ref E.b] E.s = true) ∧ (Jvm.Cond.and given_1 narrow_1).before #[Value.ref E.b] E.s = true ∧ E.l.stackTraces = false
def fA (E : fE) : Nat → Prop := fun q => E.lo ≤ q
def fG (E : fE) (U : State) : Prop := fOK E ∧ E.s.WarmedH U.vm ∧ E.lo ≤ U.heap.size ∧ ∀ q, q < E.lo → U.heap[q]? = E.s.heap[q]?
theorem fG.K {E : fE} {U : State} (h : fG E U) : va_K E.D fcl (ftys E.C) U := va_K.moved (u := E.s) h.2.1.alike h.1.1
theorem fG.moved {E : fE} {u U : State} (h : fG E u) (hW : u.WarmedH U.vm) (hS : E.lo ≤ U.heap.size) (hk : ∀ q, q < E.lo → U.heap[q]? = u.heap[q]?) : fG E U :=
  ⟨h.1, State.WarmedH.trans h.2.1 hW, hS, fun q hq => (hk q hq).trans (h.2.2.2 q hq)⟩
def fR (L mc ms : Nat) : Room := { frames := L, cells := mc, slots := ms, locals := 64 * L }
def fQ (A : Nat → Prop) (Post : Option Value → Heap → Prop) : Array Value → State → Outcome → State → Prop := fun _ st oc t => (∃ v, oc = .returned v ∧ Post v t.heap) ∧ va_F A st t
def fX (A : Nat → Prop) (PX : Nat → String → Heap → Prop) : Addr → String → State → State → Prop := fun q E st t => PX q E t.heap ∧ va_F A st t
def fP (E : fE) (args : List Value) (H : Heap) : Array Value → State → Prop := va_Pc args (fun U => U.heap = H ∧ fG E U)
/-- a method's contract: from the heap H, with these arguments, it returns with Post or throws with PX -/
def fM (E : fE) (y : MethodName) (code : ByteArray) (nL : Nat) (ret : Option FieldType) (L mc ms : Nat) (args : List Value) (H : Heap) (Post : Option Value → Heap → Prop) (PX : Nat → String → Heap → Prop) : Prop :=
  vx_Met E.l y (ws_ y code nL ret) (fR L mc ms) (fP E args H) (fQ (fA E) Post) (fX (fA E) PX) mc ms (fA E)
/-- the same, of a method with handlers -/
def fMW (E : fE) (y : MethodName) (code : ByteArray) (nL : Nat) (ret : Option FieldType) (hh : List (Nat × Nat × Nat × Nat)) (L mc ms : Nat) (args : List Value) (H : Heap) (Post : Option Value → Heap → Prop) (PX : Nat → String → Heap → Prop) : Prop :=
  vx_Met E.l y (wsW_ y code nL ret hh) (fR L mc ms) (fP E args H) (fQ (fA E) Post) (fX (fA E) PX) mc ms (fA E)
def noX : Nat → String → Heap → Prop := fun _ _ _ => False
abbrev fZ : Type := Program × Env × Room × State × MethodId × Array Value × List Frame × Method × Code × (State → Prop)
def Go (E : fE) (Z : fZ) (nL : Nat) (H : Heap) (cs ss pc : Nat) (lv : List (Nat × Value)) (st : List Value) : Prop :=
  match Z with
  | (p, e, R, s, m, args, below, meth, c, Q) => ∀ (locs : List Loc) (ls : Array Slot), va_S (fA E) s.heap H locs → lv_has ls nL lv → W p E.l e R s m args below meth c H locs cs ss Q (F0 m pc ls st)
/-- q is thrown over the frame -/
def GoX (E : fE) (Z : fZ) (nL : Nat) (H : Heap) (cs ss pc : Nat) (lv : List (Nat × Value)) (q : Nat) : Prop :=
  match Z with
  | (p, e, R, s, m, args, below, meth, c, Q) => ∀ (locs : List Loc) (ls : Array Slot) (st : List Value), va_S (fA E) s.heap H locs → lv_has ls nL lv → vx_W p E.l e R s m args below meth c H locs cs ss Q (F0 m pc ls st) q
def Zok (E : fE) (Z : fZ) (cc : ByteArray) (nL : Nat) (own : String) (ret : Option FieldType) (tb : List ExceptionTableEntry) (nm : String) (L mc ms : Nat) : Prop :=
  match Z with
  | (p, _, R, s, m, args, _, meth, c, _) => p.tables.exec = Jvm.exec ∧ c.code = cc ∧ c.maxLocals = nL ∧ s.vm.findClass own = some m.cls ∧ (∀ w ∈ lw_all, w.before args s = true) ∧ meth.locks = false ∧ meth.sig.returnType = ret ∧ fG E s ∧ c.exceptionTable.toList = tb ∧ meth.name = nm ∧ L ≤ R.frames ∧ 64 * L ≤ R.locals ∧ mc ≤ R.cells ∧ ms ≤ R.slots
def Zex (E : fE) (Z : fZ) (mc ms : Nat) (Post : Option Value → Heap → Prop) (PX : Nat → String → Heap → Prop) : Prop :=
  match Z with
  | (_, _, _, s, _, args, below, _, _, Q) => Q = vx_MQ below (fQ (fA E) Post) (fX (fA E) PX) args s mc ms (fA E)
theorem f_start {E : fE} {y : MethodName} {cc : ByteArray} {nL : Nat} {own nm : String} {ret : Option FieldType} {L mc ms : Nat} {args : List Value} {lv : List (Nat × Value)} {H : Heap} {Post : Option Value → Heap → Prop} {PX : Nat → String → Heap → Prop}
    (hy : plainName y.cls = true) (ho : y.cls = own) (hn : y.name = nm) (hlen : (lg_sl args).length ≤ nL) (hlv : lv_args 0 args = lv)
    (body : ∀ Z, Zok E Z cc nL own ret [] nm L mc ms → Zex E Z mc ms Post PX → Go E Z nL H 0 0 0 lv []) : fM E y cc nL ret L mc ms args H Post PX := by
  subst ho
  subst hn
  refine vx_ofW (cc := cc) (maxL := nL) (ret := ret) hy rfl ?_
  intro p e s m args' below meth c s₁ B hml hnoX hv
  obtain ⟨rfl, hH, hG⟩ := hv
  have hts := atoms_spec (ws := ws_ y cc nL ret) B.pre
  have hts : ∀ w ∈ lw_all, w.before _ s = true := fun w h => hts w (List.mem_cons_of_mem _ h)
  have htb : c.exceptionTable.toList = [] := List.eq_nil_iff_forall_not_mem.mpr fun x hx => hnoX x hx
  have hz := body (p, e, (headSpec (ws_ y cc nL ret) (fR L mc ms)).room, s, m, args.toArray, below, meth, c, vx_MQ below (fQ (fA E) Post) (fX (fA E) PX) args.toArray s mc ms (fA E))
    ⟨B.exec, B.bytes, hml, findClass_of_methodNamed B.named, hts, B.notSynchronized, B.returns, hG, htb, (name_of_methodNamed B.named B.method).1, Nat.le_refl _, Nat.le_refl _, Nat.le_refl _, Nat.le_refl _⟩ rfl
  rw [lg_entry_eq, hH]
  subst hH
  exact hz [] _ va_S.rf (by rw [← hlv]; exact lv_entry args hlen)
theorem f_startW {E : fE} {y : MethodName} {cc : ByteArray} {nL : Nat} {own nm : String} {ret : Option FieldType} {hh : List (Nat × Nat × Nat × Nat)} {tb : List ExceptionTableEntry} {L mc ms : Nat} {args : List Value} {lv : List (Nat × Value)} {H : Heap} {Post : Option Value → Heap → Prop} {PX : Nat → String → Heap → Prop}
    (hy : plainName y.cls = true) (ho : y.cls = own) (hn : y.name = nm) (hlen : (lg_sl args).length ≤ nL) (hlv : lv_args 0 args = lv) (ht : tableOf hh = tb)
    (body : ∀ Z, Zok E Z cc nL own ret tb nm L mc ms → Zex E Z mc ms Post PX → Go E Z nL H 0 0 0 lv []) : fMW E y cc nL ret hh L mc ms args H Post PX := by
  subst ho
  subst hn
  refine vx_ofWH (cc := cc) (maxL := nL) (ret := ret) (hh := hh) hy rfl ?_
  intro p e s m args' below meth c s₁ B hml hv
  obtain ⟨rfl, hH, hG⟩ := hv
  have hts0 := atoms_spec (ws := wsW_ y cc nL ret hh) B.pre
  have hts : ∀ w ∈ lw_all, w.before _ s = true := fun w h => hts0 w (List.mem_cons_of_mem _ h)
  have htb : c.exceptionTable.toList = tb := by rw [← ht]; exact vx_table (x := y) B (hts0 _ List.mem_cons_self)
  have hz := body (p, e, (headSpec (wsW_ y cc nL ret hh) (fR L mc ms)).room, s, m, args.toArray, below, meth, c, vx_MQ below (fQ (fA E) Post) (fX (fA E) PX) args.toArray s mc ms (fA E))
    ⟨B.exec, B.bytes, hml, findClass_of_methodNamed B.named, hts, B.notSynchronized, B.returns, hG, htb, (name_of_methodNamed B.named B.method).1, Nat.le_refl _, Nat.le_refl _, Nat.le_refl _, Nat.le_refl _⟩ rfl
  rw [lg_entry_eq, hH]
  subst hH
  exact hz [] _ va_S.rf (by rw [← hlv]; exact lv_entry args hlen)
theorem f_lk {ls : Array Slot} {nL : Nat} {i : Nat} {v : Value} : ∀ {lv : List (Nat × Value)}, (∀ q ∈ lv, ls[q.1]? = some (.val q.2)) → lv.lookup i = some v → ls[i]? = some (.val v)
  | [], _, h => by cases h
  | (j, x) :: l, hl, h => by
    rw [List.lookup_cons] at h
    by_cases e : i = j
    · subst e
      rw [beq_self_eq_true] at h
      cases h
      exact hl _ List.mem_cons_self
    · rw [beq_false_of_ne e] at h
      exact f_lk (nL := nL) (fun q hq => hl q (List.mem_cons_of_mem _ hq)) h
section FROWS
variable {E : fE} {Z : fZ} {cc : ByteArray} {nL : Nat} {own : String} {ret : Option FieldType} {tb : List ExceptionTableEntry} {nm : String} {L mc ms : Nat} {H : Heap} {cs ss pc : Nat} {lv lv' : List (Nat × Value)} {st : List Value}
theorem Go.cast {lv2 : List (Nat × Value)} {st2 : List Value} {pc2 : Nat} (h1 : pc2 = pc) (h2 : lv2 = lv) (h3 : st2 = st) (k : Go E Z nL H cs ss pc2 lv2 st2) : Go E Z nL H cs ss pc lv st := by subst h1; subst h2; subst h3; exact k
theorem Go.widen {cs2 ss2 : Nat} (h1 : cs ≤ cs2) (h2 : ss ≤ ss2) (k : Go E Z nL H cs2 ss2 pc lv st) : Go E Z nL H cs ss pc lv st := by
  obtain ⟨p, e, R, s, m, args, below, meth, c, Q⟩ := Z
  exact fun locs ls hS hl => W.widen h1 h2 (k locs ls hS hl)
/-- fewer locals are known -/
theorem Go.sub (hl2 : lv'.all (fun q => match lv.lookup q.1 with | some v => decide (v = q.2) | none => false) = true) (k : Go E Z nL H cs ss pc lv' st) : Go E Z nL H cs ss pc lv st := by
  obtain ⟨p, e, R, s, m, args, below, meth, c, Q⟩ := Z
  refine fun locs ls hS hl => k locs ls hS ⟨hl.1, hl.2.1, fun q hq => ?_⟩
  have h1 := List.all_eq_true.mp hl2 q hq
  cases hz : lv.lookup q.1 with
  | none => rw [hz] at h1; cases h1
  | some v =>
    rw [hz] at h1
    have e1 : v = q.2 := of_decide_eq_true h1
    rw [← e1]
    exact f_lk (nL := nL) hl.2.2 hz
theorem Go.subQ {st : List Value} (h : ∀ q ∈ lv', lv.lookup q.1 = some q.2) (k : Go E Z nL H cs ss pc lv' st) : Go E Z nL H cs ss pc lv st := by
  obtain ⟨p, e, R, s, m, args, below, meth, c, Q⟩ := Z
  exact fun locs ls hS hl => k locs ls hS ⟨hl.1, hl.2.1, fun q hq => f_lk (nL := nL) hl.2.2 (h q hq)⟩
theorem Go.fst {x y : Value} (h : x = y) (k : Go E Z nL H cs ss pc lv (y :: st)) : Go E Z nL H cs ss pc lv (x :: st) := by subst h; exact k
theorem Go.topi {x : Int32} (k : ∀ y : Int32, y = x → Go E Z nL H cs ss pc lv (.int y :: st)) : Go E Z nL H cs ss pc lv (.int x :: st) := k x rfl

theorem f_iconst (K : Zok E Z cc nL own ret tb nm L mc ms) {n : Int} {v : Int32} (hd : decode cc pc = .ok (.iconst n, 1)) (hv : Int32.ofInt n = v) (k : Go E Z nL H cs ss (pc + 1) lv (.int v :: st)) : Go E Z nL H cs ss pc lv st := by
  obtain ⟨p, e, R, s, m, args, below, meth, c, Q⟩ := Z
  obtain ⟨hx, hb, hml, hown, hts, hlocks, hr, hG, htb, hnm, hLf, hLl, hmc, hms⟩ := K
  exact fun locs ls hS hl => lv_iconst hx hb hd hv (k locs ls hS hl)
theorem f_bipush (K : Zok E Z cc nL own ret tb nm L mc ms) {n : Int} {v : Int32} (hd : decode cc pc = .ok (.bipush n, 2)) (hv : (Int8.ofInt n).toInt32 = v) (k : Go E Z nL H cs ss (pc + 2) lv (.int v :: st)) : Go E Z nL H cs ss pc lv st := by
  obtain ⟨p, e, R, s, m, args, below, meth, c, Q⟩ := Z
  obtain ⟨hx, hb, hml, hown, hts, hlocks, hr, hG, htb, hnm, hLf, hLl, hmc, hms⟩ := K
  exact fun locs ls hS hl => lv_bipush hx hb hd hv (k locs ls hS hl)
theorem f_sipush (K : Zok E Z cc nL own ret tb nm L mc ms) {n : Int} {v : Int32} (hd : decode cc pc = .ok (.sipush n, 3)) (hv : (Int16.ofInt n).toInt32 = v) (k : Go E Z nL H cs ss (pc + 3) lv (.int v :: st)) : Go E Z nL H cs ss pc lv st := by
  obtain ⟨p, e, R, s, m, args, below, meth, c, Q⟩ := Z
  obtain ⟨hx, hb, hml, hown, hts, hlocks, hr, hG, htb, hnm, hLf, hLl, hmc, hms⟩ := K
  exact fun locs ls hS hl => lv_sipush hx hb hd hv (k locs ls hS hl)
theorem f_lconst (K : Zok E Z cc nL own ret tb nm L mc ms) {n : Fin 2} {v : Int64} (hd : decode cc pc = .ok (.lconst n, 1)) (hv : Int64.ofNat (n : Nat) = v) (k : Go E Z nL H cs ss (pc + 1) lv (.long v :: st)) : Go E Z nL H cs ss pc lv st := by
  obtain ⟨p, e, R, s, m, args, below, meth, c, Q⟩ := Z
  obtain ⟨hx, hb, hml, hown, hts, hlocks, hr, hG, htb, hnm, hLf, hLl, hmc, hms⟩ := K
  exact fun locs ls hS hl => lv_lconst hx hb hd hv (k locs ls hS hl)
theorem f_null (K : Zok E Z cc nL own ret tb nm L mc ms) (hd : decode cc pc = .ok (.aconst_null, 1)) (k : Go E Z nL H cs ss (pc + 1) lv (.null :: st)) : Go E Z nL H cs ss pc lv st := by
  obtain ⟨p, e, R, s, m, args, below, meth, c, Q⟩ := Z
  obtain ⟨hx, hb, hml, hown, hts, hlocks, hr, hG, htb, hnm, hLf, hLl, hmc, hms⟩ := K
  exact fun locs ls hS hl => lv_null hx hb hd (k locs ls hS hl)
theorem f_iload_n (K : Zok E Z cc nL own ret tb nm L mc ms) {k : Fin 4} {x : Int32} (hd : decode cc pc = .ok (.iload_n k, 1)) (hv : lv.lookup (k : Nat) = some (.int x)) (k2 : Go E Z nL H cs ss (pc + 1) lv (.int x :: st)) : Go E Z nL H cs ss pc lv st := by
  obtain ⟨p, e, R, s, m, args, below, meth, c, Q⟩ := Z
  obtain ⟨hx, hb, hml, hown, hts, hlocks, hr, hG, htb, hnm, hLf, hLl, hmc, hms⟩ := K
  exact fun locs ls hS hl => lv_iload_n hx hb hd rfl (f_lk (nL := nL) hl.2.2 hv) (k2 locs ls hS hl)
theorem f_iload (K : Zok E Z cc nL own ret tb nm L mc ms) {k : Nat} {x : Int32} (hd : decode cc pc = .ok (.iload k, 2)) (hv : lv.lookup (k : Nat) = some (.int x)) (k2 : Go E Z nL H cs ss (pc + 2) lv (.int x :: st)) : Go E Z nL H cs ss pc lv st := by
  obtain ⟨p, e, R, s, m, args, below, meth, c, Q⟩ := Z
  obtain ⟨hx, hb, hml, hown, hts, hlocks, hr, hG, htb, hnm, hLf, hLl, hmc, hms⟩ := K
  exact fun locs ls hS hl => lv_iload hx hb hd (f_lk (nL := nL) hl.2.2 hv) (k2 locs ls hS hl)
theorem f_lload_n (K : Zok E Z cc nL own ret tb nm L mc ms) {k : Fin 4} {x : Int64} (hd : decode cc pc = .ok (.lload_n k, 1)) (hv : lv.lookup (k : Nat) = some (.long x)) (k2 : Go E Z nL H cs ss (pc + 1) lv (.long x :: st)) : Go E Z nL H cs ss pc lv st := by
  obtain ⟨p, e, R, s, m, args, below, meth, c, Q⟩ := Z
  obtain ⟨hx, hb, hml, hown, hts, hlocks, hr, hG, htb, hnm, hLf, hLl, hmc, hms⟩ := K
  exact fun locs ls hS hl => lv_lload_n hx hb hd rfl (f_lk (nL := nL) hl.2.2 hv) (k2 locs ls hS hl)
theorem f_lload (K : Zok E Z cc nL own ret tb nm L mc ms) {k : Nat} {x : Int64} (hd : decode cc pc = .ok (.lload k, 2)) (hv : lv.lookup (k : Nat) = some (.long x)) (k2 : Go E Z nL H cs ss (pc + 2) lv (.long x :: st)) : Go E Z nL H cs ss pc lv st := by
  obtain ⟨p, e, R, s, m, args, below, meth, c, Q⟩ := Z
  obtain ⟨hx, hb, hml, hown, hts, hlocks, hr, hG, htb, hnm, hLf, hLl, hmc, hms⟩ := K
  exact fun locs ls hS hl => lv_lload hx hb hd (f_lk (nL := nL) hl.2.2 hv) (k2 locs ls hS hl)
theorem f_aload_n (K : Zok E Z cc nL own ret tb nm L mc ms) {k : Fin 4} {x : Nat} (hd : decode cc pc = .ok (.aload_n k, 1)) (hv : lv.lookup (k : Nat) = some (.ref x)) (k2 : Go E Z nL H cs ss (pc + 1) lv (.ref x :: st)) : Go E Z nL H cs ss pc lv st := by
  obtain ⟨p, e, R, s, m, args, below, meth, c, Q⟩ := Z
  obtain ⟨hx, hb, hml, hown, hts, hlocks, hr, hG, htb, hnm, hLf, hLl, hmc, hms⟩ := K
  exact fun locs ls hS hl => lv_aload_n hx hb hd rfl (f_lk (nL := nL) hl.2.2 hv) (k2 locs ls hS hl)
theorem f_aload (K : Zok E Z cc nL own ret tb nm L mc ms) {k : Nat} {x : Nat} (hd : decode cc pc = .ok (.aload k, 2)) (hv : lv.lookup (k : Nat) = some (.ref x)) (k2 : Go E Z nL H cs ss (pc + 2) lv (.ref x :: st)) : Go E Z nL H cs ss pc lv st := by
  obtain ⟨p, e, R, s, m, args, below, meth, c, Q⟩ := Z
  obtain ⟨hx, hb, hml, hown, hts, hlocks, hr, hG, htb, hnm, hLf, hLl, hmc, hms⟩ := K
  exact fun locs ls hS hl => lv_aload hx hb hd (f_lk (nL := nL) hl.2.2 hv) (k2 locs ls hS hl)
theorem f_dload_n (K : Zok E Z cc nL own ret tb nm L mc ms) {k : Fin 4} {x : UInt64} (hd : decode cc pc = .ok (.dload_n k, 1)) (hv : lv.lookup (k : Nat) = some (.double x)) (k2 : Go E Z nL H cs ss (pc + 1) lv (.double x :: st)) : Go E Z nL H cs ss pc lv st := by
  obtain ⟨p, e, R, s, m, args, below, meth, c, Q⟩ := Z
  obtain ⟨hx, hb, hml, hown, hts, hlocks, hr, hG, htb, hnm, hLf, hLl, hmc, hms⟩ := K
  exact fun locs ls hS hl => lv_dload_n hx hb hd rfl (f_lk (nL := nL) hl.2.2 hv) (k2 locs ls hS hl)
theorem f_dload (K : Zok E Z cc nL own ret tb nm L mc ms) {k : Nat} {x : UInt64} (hd : decode cc pc = .ok (.dload k, 2)) (hv : lv.lookup (k : Nat) = some (.double x)) (k2 : Go E Z nL H cs ss (pc + 2) lv (.double x :: st)) : Go E Z nL H cs ss pc lv st := by
  obtain ⟨p, e, R, s, m, args, below, meth, c, Q⟩ := Z
  obtain ⟨hx, hb, hml, hown, hts, hlocks, hr, hG, htb, hnm, hLf, hLl, hmc, hms⟩ := K
  exact fun locs ls hS hl => lv_dload hx hb hd (f_lk (nL := nL) hl.2.2 hv) (k2 locs ls hS hl)
theorem f_fload_n (K : Zok E Z cc nL own ret tb nm L mc ms) {k : Fin 4} {x : UInt32} (hd : decode cc pc = .ok (.fload_n k, 1)) (hv : lv.lookup (k : Nat) = some (.float x)) (k2 : Go E Z nL H cs ss (pc + 1) lv (.float x :: st)) : Go E Z nL H cs ss pc lv st := by
  obtain ⟨p, e, R, s, m, args, below, meth, c, Q⟩ := Z
  obtain ⟨hx, hb, hml, hown, hts, hlocks, hr, hG, htb, hnm, hLf, hLl, hmc, hms⟩ := K
  exact fun locs ls hS hl => lv_fload_n hx hb hd rfl (f_lk (nL := nL) hl.2.2 hv) (k2 locs ls hS hl)
theorem f_fload (K : Zok E Z cc nL own ret tb nm L mc ms) {k : Nat} {x : UInt32} (hd : decode cc pc = .ok (.fload k, 2)) (hv : lv.lookup (k : Nat) = some (.float x)) (k2 : Go E Z nL H cs ss (pc + 2) lv (.float x :: st)) : Go E Z nL H cs ss pc lv st := by
  obtain ⟨p, e, R, s, m, args, below, meth, c, Q⟩ := Z
  obtain ⟨hx, hb, hml, hown, hts, hlocks, hr, hG, htb, hnm, hLf, hLl, hmc, hms⟩ := K
  exact fun locs ls hS hl => lv_fload hx hb hd (f_lk (nL := nL) hl.2.2 hv) (k2 locs ls hS hl)
theorem f_aload_nN (K : Zok E Z cc nL own ret tb nm L mc ms) {k : Fin 4} (hd : decode cc pc = .ok (.aload_n k, 1)) (hv : lv.lookup (k : Nat) = some .null) (k2 : Go E Z nL H cs ss (pc + 1) lv (.null :: st)) : Go E Z nL H cs ss pc lv st := by
  obtain ⟨p, e, R, s, m, args, below, meth, c, Q⟩ := Z
  obtain ⟨hx, hb, hml, hown, hts, hlocks, hr, hG, htb, hnm, hLf, hLl, hmc, hms⟩ := K
  exact fun locs ls hS hl => lv_aload_nN hx hb hd rfl (f_lk (nL := nL) hl.2.2 hv) (k2 locs ls hS hl)
theorem f_aload_nq (K : Zok E Z cc nL own ret tb nm L mc ms) {k : Fin 4} {r : Option Nat} (hd : decode cc pc = .ok (.aload_n k, 1)) (hv : lv.lookup (k : Nat) = some (va_rf r)) (k2 : Go E Z nL H cs ss (pc + 1) lv (va_rf r :: st)) : Go E Z nL H cs ss pc lv st := by
  cases r with
  | none => exact f_aload_nN K hd hv k2
  | some a => exact f_aload_n K hd hv k2
theorem f_aloadN (K : Zok E Z cc nL own ret tb nm L mc ms) {k : Nat} (hd : decode cc pc = .ok (.aload k, 2)) (hv : lv.lookup (k : Nat) = some .null) (k2 : Go E Z nL H cs ss (pc + 2) lv (.null :: st)) : Go E Z nL H cs ss pc lv st := by
  obtain ⟨p, e, R, s, m, args, below, meth, c, Q⟩ := Z
  obtain ⟨hx, hb, hml, hown, hts, hlocks, hr, hG, htb, hnm, hLf, hLl, hmc, hms⟩ := K
  exact fun locs ls hS hl => lv_aloadN hx hb hd (f_lk (nL := nL) hl.2.2 hv) (k2 locs ls hS hl)
theorem f_aloadq (K : Zok E Z cc nL own ret tb nm L mc ms) {k : Nat} {r : Option Nat} (hd : decode cc pc = .ok (.aload k, 2)) (hv : lv.lookup (k : Nat) = some (va_rf r)) (k2 : Go E Z nL H cs ss (pc + 2) lv (va_rf r :: st)) : Go E Z nL H cs ss pc lv st := by
  cases r with
  | none => exact f_aloadN K hd hv k2
  | some a => exact f_aload K hd hv k2
theorem f_istore_n (K : Zok E Z cc nL own ret tb nm L mc ms) {k : Fin 4} {x : Int32} (hd : decode cc pc = .ok (.istore_n k, 1)) (hn : (k : Nat) < nL) (he : ((k : Nat), Value.int x) :: lv.filter (fun q => !(q.1 == (k : Nat)) && !(q.1 + 1 == (k : Nat) && q.2.category == 2)) = lv') (k2 : Go E Z nL H cs ss (pc + 1) lv' st) : Go E Z nL H cs ss pc lv (Value.int x :: st) := by
  obtain ⟨p, e, R, s, m, args, below, meth, c, Q⟩ := Z
  obtain ⟨hx, hb, hml, hown, hts, hlocks, hr, hG, htb, hnm, hLf, hLl, hmc, hms⟩ := K
  exact fun locs ls hS hl => lv_istore_n hx hb hd rfl hl hn he (fun ls2 hl2 => k2 locs ls2 hS hl2)
theorem f_istore (K : Zok E Z cc nL own ret tb nm L mc ms) {k : Nat} {x : Int32} (hd : decode cc pc = .ok (.istore k, 2)) (hn : (k : Nat) < nL) (he : ((k : Nat), Value.int x) :: lv.filter (fun q => !(q.1 == (k : Nat)) && !(q.1 + 1 == (k : Nat) && q.2.category == 2)) = lv') (k2 : Go E Z nL H cs ss (pc + 2) lv' st) : Go E Z nL H cs ss pc lv (Value.int x :: st) := by
  obtain ⟨p, e, R, s, m, args, below, meth, c, Q⟩ := Z
  obtain ⟨hx, hb, hml, hown, hts, hlocks, hr, hG, htb, hnm, hLf, hLl, hmc, hms⟩ := K
  exact fun locs ls hS hl => lv_istore hx hb hd hl hn he (fun ls2 hl2 => k2 locs ls2 hS hl2)
theorem f_astore_n (K : Zok E Z cc nL own ret tb nm L mc ms) {k : Fin 4} {x : Nat} (hd : decode cc pc = .ok (.astore_n k, 1)) (hn : (k : Nat) < nL) (he : ((k : Nat), Value.ref x) :: lv.filter (fun q => !(q.1 == (k : Nat)) && !(q.1 + 1 == (k : Nat) && q.2.category == 2)) = lv') (k2 : Go E Z nL H cs ss (pc + 1) lv' st) : Go E Z nL H cs ss pc lv (Value.ref x :: st) := by
  obtain ⟨p, e, R, s, m, args, below, meth, c, Q⟩ := Z
  obtain ⟨hx, hb, hml, hown, hts, hlocks, hr, hG, htb, hnm, hLf, hLl, hmc, hms⟩ := K
  exact fun locs ls hS hl => lv_astore_n hx hb hd rfl hl hn he (fun ls2 hl2 => k2 locs ls2 hS hl2)
theorem f_astore (K : Zok E Z cc nL own ret tb nm L mc ms) {k : Nat} {x : Nat} (hd : decode cc pc = .ok (.astore k, 2)) (hn : (k : Nat) < nL) (he : ((k : Nat), Value.ref x) :: lv.filter (fun q => !(q.1 == (k : Nat)) && !(q.1 + 1 == (k : Nat) && q.2.category == 2)) = lv') (k2 : Go E Z nL H cs ss (pc + 2) lv' st) : Go E Z nL H cs ss pc lv (Value.ref x :: st) := by
  obtain ⟨p, e, R, s, m, args, below, meth, c, Q⟩ := Z
  obtain ⟨hx, hb, hml, hown, hts, hlocks, hr, hG, htb, hnm, hLf, hLl, hmc, hms⟩ := K
  exact fun locs ls hS hl => lv_astore hx hb hd hl hn he (fun ls2 hl2 => k2 locs ls2 hS hl2)
theorem f_lstore_n (K : Zok E Z cc nL own ret tb nm L mc ms) {k : Fin 4} {x : Int64} (hd : decode cc pc = .ok (.lstore_n k, 1)) (hn : (k : Nat) + 1 < nL) (he : ((k : Nat), Value.long x) :: lv.filter (fun q => !(q.1 == (k : Nat)) && (!(q.1 == (k : Nat) + 1) && !(q.1 + 1 == (k : Nat) && q.2.category == 2))) = lv') (k2 : Go E Z nL H cs ss (pc + 1) lv' st) : Go E Z nL H cs ss pc lv (Value.long x :: st) := by
  obtain ⟨p, e, R, s, m, args, below, meth, c, Q⟩ := Z
  obtain ⟨hx, hb, hml, hown, hts, hlocks, hr, hG, htb, hnm, hLf, hLl, hmc, hms⟩ := K
  exact fun locs ls hS hl => lv_lstore_n hx hb hd rfl hl hn he (fun ls2 hl2 => k2 locs ls2 hS hl2)
theorem f_lstore (K : Zok E Z cc nL own ret tb nm L mc ms) {k : Nat} {x : Int64} (hd : decode cc pc = .ok (.lstore k, 2)) (hn : (k : Nat) + 1 < nL) (he : ((k : Nat), Value.long x) :: lv.filter (fun q => !(q.1 == (k : Nat)) && (!(q.1 == (k : Nat) + 1) && !(q.1 + 1 == (k : Nat) && q.2.category == 2))) = lv') (k2 : Go E Z nL H cs ss (pc + 2) lv' st) : Go E Z nL H cs ss pc lv (Value.long x :: st) := by
  obtain ⟨p, e, R, s, m, args, below, meth, c, Q⟩ := Z
  obtain ⟨hx, hb, hml, hown, hts, hlocks, hr, hG, htb, hnm, hLf, hLl, hmc, hms⟩ := K
  exact fun locs ls hS hl => lv_lstore hx hb hd hl hn he (fun ls2 hl2 => k2 locs ls2 hS hl2)
theorem f_dstore_n (K : Zok E Z cc nL own ret tb nm L mc ms) {k : Fin 4} {x : UInt64} (hd : decode cc pc = .ok (.dstore_n k, 1)) (hn : (k : Nat) + 1 < nL) (he : ((k : Nat), Value.double x) :: lv.filter (fun q => !(q.1 == (k : Nat)) && (!(q.1 == (k : Nat) + 1) && !(q.1 + 1 == (k : Nat) && q.2.category == 2))) = lv') (k2 : Go E Z nL H cs ss (pc + 1) lv' st) : Go E Z nL H cs ss pc lv (Value.double x :: st) := by
  obtain ⟨p, e, R, s, m, args, below, meth, c, Q⟩ := Z
  obtain ⟨hx, hb, hml, hown, hts, hlocks, hr, hG, htb, hnm, hLf, hLl, hmc, hms⟩ := K
  exact fun locs ls hS hl => lv_dstore_n hx hb hd rfl hl hn he (fun ls2 hl2 => k2 locs ls2 hS hl2)
theorem f_dstore (K : Zok E Z cc nL own ret tb nm L mc ms) {k : Nat} {x : UInt64} (hd : decode cc pc = .ok (.dstore k, 2)) (hn : (k : Nat) + 1 < nL) (he : ((k : Nat), Value.double x) :: lv.filter (fun q => !(q.1 == (k : Nat)) && (!(q.1 == (k : Nat) + 1) && !(q.1 + 1 == (k : Nat) && q.2.category == 2))) = lv') (k2 : Go E Z nL H cs ss (pc + 2) lv' st) : Go E Z nL H cs ss pc lv (Value.double x :: st) := by
  obtain ⟨p, e, R, s, m, args, below, meth, c, Q⟩ := Z
  obtain ⟨hx, hb, hml, hown, hts, hlocks, hr, hG, htb, hnm, hLf, hLl, hmc, hms⟩ := K
  exact fun locs ls hS hl => lv_dstore hx hb hd hl hn he (fun ls2 hl2 => k2 locs ls2 hS hl2)
theorem f_fstore_n (K : Zok E Z cc nL own ret tb nm L mc ms) {k : Fin 4} {x : UInt32} (hd : decode cc pc = .ok (.fstore_n k, 1)) (hn : (k : Nat) < nL) (he : ((k : Nat), Value.float x) :: lv.filter (fun q => !(q.1 == (k : Nat)) && !(q.1 + 1 == (k : Nat) && q.2.category == 2)) = lv') (k2 : Go E Z nL H cs ss (pc + 1) lv' st) : Go E Z nL H cs ss pc lv (Value.float x :: st) := by
  obtain ⟨p, e, R, s, m, args, below, meth, c, Q⟩ := Z
  obtain ⟨hx, hb, hml, hown, hts, hlocks, hr, hG, htb, hnm, hLf, hLl, hmc, hms⟩ := K
  exact fun locs ls hS hl => lv_fstore_n hx hb hd rfl hl hn he (fun ls2 hl2 => k2 locs ls2 hS hl2)
theorem f_fstore (K : Zok E Z cc nL own ret tb nm L mc ms) {k : Nat} {x : UInt32} (hd : decode cc pc = .ok (.fstore k, 2)) (hn : (k : Nat) < nL) (he : ((k : Nat), Value.float x) :: lv.filter (fun q => !(q.1 == (k : Nat)) && !(q.1 + 1 == (k : Nat) && q.2.category == 2)) = lv') (k2 : Go E Z nL H cs ss (pc + 2) lv' st) : Go E Z nL H cs ss pc lv (Value.float x :: st) := by
  obtain ⟨p, e, R, s, m, args, below, meth, c, Q⟩ := Z
  obtain ⟨hx, hb, hml, hown, hts, hlocks, hr, hG, htb, hnm, hLf, hLl, hmc, hms⟩ := K
  exact fun locs ls hS hl => lv_fstore hx hb hd hl hn he (fun ls2 hl2 => k2 locs ls2 hS hl2)
theorem f_astore_nN (K : Zok E Z cc nL own ret tb nm L mc ms) {k : Fin 4} (hd : decode cc pc = .ok (.astore_n k, 1)) (hn : (k : Nat) < nL) (he : ((k : Nat), Value.null) :: lv.filter (fun q => !(q.1 == (k : Nat)) && !(q.1 + 1 == (k : Nat) && q.2.category == 2)) = lv') (k2 : Go E Z nL H cs ss (pc + 1) lv' st) : Go E Z nL H cs ss pc lv (.null :: st) := by
  obtain ⟨p, e, R, s, m, args, below, meth, c, Q⟩ := Z
  obtain ⟨hx, hb, hml, hown, hts, hlocks, hr, hG, htb, hnm, hLf, hLl, hmc, hms⟩ := K
  exact fun locs ls hS hl => lv_astore_nN hx hb hd rfl hl hn he (fun ls2 hl2 => k2 locs ls2 hS hl2)
theorem f_astore_nq (K : Zok E Z cc nL own ret tb nm L mc ms) {k : Fin 4} {r : Option Nat} (hd : decode cc pc = .ok (.astore_n k, 1)) (hn : (k : Nat) < nL) (he : ((k : Nat), va_rf r) :: lv.filter (fun q => !(q.1 == (k : Nat)) && !(q.1 + 1 == (k : Nat) && q.2.category == 2)) = lv') (k2 : Go E Z nL H cs ss (pc + 1) lv' st) : Go E Z nL H cs ss pc lv (va_rf r :: st) := by
  cases r with
  | none => exact f_astore_nN K hd hn he k2
  | some a => exact f_astore_n K hd hn he k2
theorem f_astoreN (K : Zok E Z cc nL own ret tb nm L mc ms) {k : Nat} (hd : decode cc pc = .ok (.astore k, 2)) (hn : (k : Nat) < nL) (he : ((k : Nat), Value.null) :: lv.filter (fun q => !(q.1 == (k : Nat)) && !(q.1 + 1 == (k : Nat) && q.2.category == 2)) = lv') (k2 : Go E Z nL H cs ss (pc + 2) lv' st) : Go E Z nL H cs ss pc lv (.null :: st) := by
  obtain ⟨p, e, R, s, m, args, below, meth, c, Q⟩ := Z
  obtain ⟨hx, hb, hml, hown, hts, hlocks, hr, hG, htb, hnm, hLf, hLl, hmc, hms⟩ := K
  exact fun locs ls hS hl => lv_astoreN hx hb hd hl hn he (fun ls2 hl2 => k2 locs ls2 hS hl2)
theorem f_astoreq (K : Zok E Z cc nL own ret tb nm L mc ms) {k : Nat} {r : Option Nat} (hd : decode cc pc = .ok (.astore k, 2)) (hn : (k : Nat) < nL) (he : ((k : Nat), va_rf r) :: lv.filter (fun q => !(q.1 == (k : Nat)) && !(q.1 + 1 == (k : Nat) && q.2.category == 2)) = lv') (k2 : Go E Z nL H cs ss (pc + 2) lv' st) : Go E Z nL H cs ss pc lv (va_rf r :: st) := by
  cases r with
  | none => exact f_astoreN K hd hn he k2
  | some a => exact f_astore K hd hn he k2
theorem f_iinc (K : Zok E Z cc nL own ret tb nm L mc ms) {k : Nat} {n : Int} {x v : Int32} (hd : decode cc pc = .ok (.iinc k n, 3)) (hx0 : lv.lookup k = some (.int x)) (hv : x + Int32.ofInt n = v) (hn : k < nL) (he : (k, Value.int v) :: lv.filter (fun q => !(q.1 == (k : Nat)) && !(q.1 + 1 == (k : Nat) && q.2.category == 2)) = lv') (k2 : Go E Z nL H cs ss (pc + 3) lv' st) : Go E Z nL H cs ss pc lv st := by
  obtain ⟨p, e, R, s, m, args, below, meth, c, Q⟩ := Z
  obtain ⟨hx, hb, hml, hown, hts, hlocks, hr, hG, htb, hnm, hLf, hLl, hmc, hms⟩ := K
  have hm : ∀ {lv : List (Nat × Value)}, lv.lookup k = some (Value.int x) → ∃ j : Nat, lv[j]? = some (k, Value.int x) := by
    intro lv
    induction lv with
    | nil => intro h; cases h
    | cons a t ih =>
      obtain ⟨i, w⟩ := a
      intro h
      rw [List.lookup_cons] at h
      by_cases e : k = i
      · subst e
        rw [beq_self_eq_true] at h
        cases h
        exact ⟨0, rfl⟩
      · rw [beq_false_of_ne e] at h
        obtain ⟨j, hj⟩ := ih h
        exact ⟨j + 1, hj⟩
  obtain ⟨j, hj⟩ := hm hx0
  exact fun locs ls hS hl => lv_iinc hx hb hd hl (k := j) hj hv hn he (fun ls2 hl2 => k2 locs ls2 hS hl2)
theorem f_iadd (K : Zok E Z cc nL own ret tb nm L mc ms) {x y : Int32} (hd : decode cc pc = .ok (.iadd, 1)) (k : Go E Z nL H cs ss (pc + 1) lv (.int (x + y) :: st)) : Go E Z nL H cs ss pc lv (.int y :: .int x :: st) := by
  obtain ⟨p, e, R, s, m, args, below, meth, c, Q⟩ := Z
  obtain ⟨hx, hb, hml, hown, hts, hlocks, hr, hG, htb, hnm, hLf, hLl, hmc, hms⟩ := K
  exact fun locs ls hS hl => lv_iadd hx hb hd (k locs ls hS hl)
theorem f_isub (K : Zok E Z cc nL own ret tb nm L mc ms) {x y : Int32} (hd : decode cc pc = .ok (.isub, 1)) (k : Go E Z nL H cs ss (pc + 1) lv (.int (x - y) :: st)) : Go E Z nL H cs ss pc lv (.int y :: .int x :: st) := by
  obtain ⟨p, e, R, s, m, args, below, meth, c, Q⟩ := Z
  obtain ⟨hx, hb, hml, hown, hts, hlocks, hr, hG, htb, hnm, hLf, hLl, hmc, hms⟩ := K
  exact fun locs ls hS hl => lv_isub hx hb hd (k locs ls hS hl)
theorem f_imul (K : Zok E Z cc nL own ret tb nm L mc ms) {x y : Int32} (hd : decode cc pc = .ok (.imul, 1)) (k : Go E Z nL H cs ss (pc + 1) lv (.int (x * y) :: st)) : Go E Z nL H cs ss pc lv (.int y :: .int x :: st) := by
  obtain ⟨p, e, R, s, m, args, below, meth, c, Q⟩ := Z
  obtain ⟨hx, hb, hml, hown, hts, hlocks, hr, hG, htb, hnm, hLf, hLl, hmc, hms⟩ := K
  exact fun locs ls hS hl => lv_imul hx hb hd (k locs ls hS hl)
theorem f_iand (K : Zok E Z cc nL own ret tb nm L mc ms) {x y : Int32} (hd : decode cc pc = .ok (.iand, 1)) (k : Go E Z nL H cs ss (pc + 1) lv (.int (x &&& y) :: st)) : Go E Z nL H cs ss pc lv (.int y :: .int x :: st) := by
  obtain ⟨p, e, R, s, m, args, below, meth, c, Q⟩ := Z
  obtain ⟨hx, hb, hml, hown, hts, hlocks, hr, hG, htb, hnm, hLf, hLl, hmc, hms⟩ := K
  exact fun locs ls hS hl => lv_iand hx hb hd (k locs ls hS hl)
theorem f_ior (K : Zok E Z cc nL own ret tb nm L mc ms) {x y : Int32} (hd : decode cc pc = .ok (.ior, 1)) (k : Go E Z nL H cs ss (pc + 1) lv (.int (x ||| y) :: st)) : Go E Z nL H cs ss pc lv (.int y :: .int x :: st) := by
  obtain ⟨p, e, R, s, m, args, below, meth, c, Q⟩ := Z
  obtain ⟨hx, hb, hml, hown, hts, hlocks, hr, hG, htb, hnm, hLf, hLl, hmc, hms⟩ := K
  exact fun locs ls hS hl => lv_ior hx hb hd (k locs ls hS hl)
theorem f_ixor (K : Zok E Z cc nL own ret tb nm L mc ms) {x y : Int32} (hd : decode cc pc = .ok (.ixor, 1)) (k : Go E Z nL H cs ss (pc + 1) lv (.int (x ^^^ y) :: st)) : Go E Z nL H cs ss pc lv (.int y :: .int x :: st) := by
  obtain ⟨p, e, R, s, m, args, below, meth, c, Q⟩ := Z
  obtain ⟨hx, hb, hml, hown, hts, hlocks, hr, hG, htb, hnm, hLf, hLl, hmc, hms⟩ := K
  exact fun locs ls hS hl => lv_ixor hx hb hd (k locs ls hS hl)
theorem f_idiv (K : Zok E Z cc nL own ret tb nm L mc ms) {x y : Int32} (hd : decode cc pc = .ok (.idiv, 1)) (hne : ¬ y = 0) (k : Go E Z nL H cs ss (pc + 1) lv (.int (x / y) :: st)) : Go E Z nL H cs ss pc lv (.int y :: .int x :: st) := by
  obtain ⟨p, e, R, s, m, args, below, meth, c, Q⟩ := Z
  obtain ⟨hx, hb, hml, hown, hts, hlocks, hr, hG, htb, hnm, hLf, hLl, hmc, hms⟩ := K
  exact fun locs ls hS hl => lv_idiv hx hb hd hne (k locs ls hS hl)
theorem f_irem (K : Zok E Z cc nL own ret tb nm L mc ms) {x y : Int32} (hd : decode cc pc = .ok (.irem, 1)) (hne : ¬ y = 0) (k : Go E Z nL H cs ss (pc + 1) lv (.int (x - x / y * y) :: st)) : Go E Z nL H cs ss pc lv (.int y :: .int x :: st) := by
  obtain ⟨p, e, R, s, m, args, below, meth, c, Q⟩ := Z
  obtain ⟨hx, hb, hml, hown, hts, hlocks, hr, hG, htb, hnm, hLf, hLl, hmc, hms⟩ := K
  exact fun locs ls hS hl => lv_irem hx hb hd hne (k locs ls hS hl)
theorem f_ladd (K : Zok E Z cc nL own ret tb nm L mc ms) {x y : Int64} (hd : decode cc pc = .ok (.ladd, 1)) (k : Go E Z nL H cs ss (pc + 1) lv (.long (x + y) :: st)) : Go E Z nL H cs ss pc lv (.long y :: .long x :: st) := by
  obtain ⟨p, e, R, s, m, args, below, meth, c, Q⟩ := Z
  obtain ⟨hx, hb, hml, hown, hts, hlocks, hr, hG, htb, hnm, hLf, hLl, hmc, hms⟩ := K
  exact fun locs ls hS hl => lv_ladd hx hb hd (k locs ls hS hl)
theorem f_lsub (K : Zok E Z cc nL own ret tb nm L mc ms) {x y : Int64} (hd : decode cc pc = .ok (.lsub, 1)) (k : Go E Z nL H cs ss (pc + 1) lv (.long (x - y) :: st)) : Go E Z nL H cs ss pc lv (.long y :: .long x :: st) := by
  obtain ⟨p, e, R, s, m, args, below, meth, c, Q⟩ := Z
  obtain ⟨hx, hb, hml, hown, hts, hlocks, hr, hG, htb, hnm, hLf, hLl, hmc, hms⟩ := K
  exact fun locs ls hS hl => lv_lsub hx hb hd (k locs ls hS hl)
theorem f_ineg (K : Zok E Z cc nL own ret tb nm L mc ms) {x : Int32} (hd : decode cc pc = .ok (.ineg, 1)) (k : Go E Z nL H cs ss (pc + 1) lv (.int (-x) :: st)) : Go E Z nL H cs ss pc lv (.int x :: st) := by
  obtain ⟨p, e, R, s, m, args, below, meth, c, Q⟩ := Z
  obtain ⟨hx, hb, hml, hown, hts, hlocks, hr, hG, htb, hnm, hLf, hLl, hmc, hms⟩ := K
  exact fun locs ls hS hl => lv_ineg hx hb hd (k locs ls hS hl)
theorem f_iushr (K : Zok E Z cc nL own ret tb nm L mc ms) {x y v : Int32} (hd : decode cc pc = .ok (.iushr, 1)) (hv : (x.toUInt32 >>> (y.toUInt32 &&& Int32.toUInt32 31)).toInt32 = v) (k : Go E Z nL H cs ss (pc + 1) lv (.int v :: st)) : Go E Z nL H cs ss pc lv (.int y :: .int x :: st) := by
  obtain ⟨p, e, R, s, m, args, below, meth, c, Q⟩ := Z
  obtain ⟨hx, hb, hml, hown, hts, hlocks, hr, hG, htb, hnm, hLf, hLl, hmc, hms⟩ := K
  exact fun locs ls hS hl => lv_iushr hx hb hd hv (k locs ls hS hl)
theorem f_i2l (K : Zok E Z cc nL own ret tb nm L mc ms) {x : Int32} {v : Int64} (hd : decode cc pc = .ok (.i2l, 1)) (hv : x.toInt64 = v) (k : Go E Z nL H cs ss (pc + 1) lv (.long v :: st)) : Go E Z nL H cs ss pc lv (.int x :: st) := by
  obtain ⟨p, e, R, s, m, args, below, meth, c, Q⟩ := Z
  obtain ⟨hx, hb, hml, hown, hts, hlocks, hr, hG, htb, hnm, hLf, hLl, hmc, hms⟩ := K
  exact fun locs ls hS hl => lv_i2l hx hb hd hv (k locs ls hS hl)
theorem f_i2b (K : Zok E Z cc nL own ret tb nm L mc ms) {x : Int32} {v : Int32} (hd : decode cc pc = .ok (.i2b, 1)) (hv : x.toInt8.toInt32 = v) (k : Go E Z nL H cs ss (pc + 1) lv (.int v :: st)) : Go E Z nL H cs ss pc lv (.int x :: st) := by
  obtain ⟨p, e, R, s, m, args, below, meth, c, Q⟩ := Z
  obtain ⟨hx, hb, hml, hown, hts, hlocks, hr, hG, htb, hnm, hLf, hLl, hmc, hms⟩ := K
  exact fun locs ls hS hl => lv_i2b hx hb hd hv (k locs ls hS hl)
theorem f_dup (K : Zok E Z cc nL own ret tb nm L mc ms) {va : Value} (hd : decode cc pc = .ok (.dup, 1)) (hc : va.category = 1) (k : Go E Z nL H cs ss (pc + 1) lv (va :: va :: st)) : Go E Z nL H cs ss pc lv (va :: st) := by
  obtain ⟨p, e, R, s, m, args, below, meth, c, Q⟩ := Z
  obtain ⟨hx, hb, hml, hown, hts, hlocks, hr, hG, htb, hnm, hLf, hLl, hmc, hms⟩ := K
  exact fun locs ls hS hl => lv_dup hx hb hd hc (k locs ls hS hl)
theorem f_pop (K : Zok E Z cc nL own ret tb nm L mc ms) {va : Value} (hd : decode cc pc = .ok (.pop, 1)) (hc : va.category = 1) (k : Go E Z nL H cs ss (pc + 1) lv st) : Go E Z nL H cs ss pc lv (va :: st) := by
  obtain ⟨p, e, R, s, m, args, below, meth, c, Q⟩ := Z
  obtain ⟨hx, hb, hml, hown, hts, hlocks, hr, hG, htb, hnm, hLf, hLl, hmc, hms⟩ := K
  exact fun locs ls hS hl => lv_pop hx hb hd hc (k locs ls hS hl)
theorem f_dup_x1 (K : Zok E Z cc nL own ret tb nm L mc ms) {va vb : Value} (hd : decode cc pc = .ok (.dup_x1, 1)) (hc : va.category = 1) (hc2 : vb.category = 1) (k : Go E Z nL H cs ss (pc + 1) lv (va :: vb :: va :: st)) : Go E Z nL H cs ss pc lv (va :: vb :: st) := by
  obtain ⟨p, e, R, s, m, args, below, meth, c, Q⟩ := Z
  obtain ⟨hx, hb, hml, hown, hts, hlocks, hr, hG, htb, hnm, hLf, hLl, hmc, hms⟩ := K
  exact fun locs ls hS hl => lv_dup_x1 hx hb hd hc hc2 (k locs ls hS hl)
theorem f_dup2 (K : Zok E Z cc nL own ret tb nm L mc ms) {va vb : Value} (hd : decode cc pc = .ok (.dup2, 1)) (hc : va.category = 1) (hc2 : vb.category = 1) (k : Go E Z nL H cs ss (pc + 1) lv (va :: vb :: va :: vb :: st)) : Go E Z nL H cs ss pc lv (va :: vb :: st) := by
  obtain ⟨p, e, R, s, m, args, below, meth, c, Q⟩ := Z
  obtain ⟨hx, hb, hml, hown, hts, hlocks, hr, hG, htb, hnm, hLf, hLl, hmc, hms⟩ := K
  exact fun locs ls hS hl => lv_dup2_11 hx hb hd hc hc2 (k locs ls hS hl)
-- BRANCHES
theorem f_goto (K : Zok E Z cc nL own ret tb nm L mc ms) {off : Int} {tgt : Nat} (hd : decode cc pc = .ok (.goto off, 3)) (ht : (pc : Int) + off = (tgt : Int)) (k : Go E Z nL H cs ss tgt lv st) : Go E Z nL H cs ss pc lv st := by
  obtain ⟨p, e, R, s, m, args, below, meth, c, Q⟩ := Z
  obtain ⟨hx, hb, hml, hown, hts, hlocks, hr, hG, htb, hnm, hLf, hLl, hmc, hms⟩ := K
  exact fun locs ls hS hl => lv_goto hx hb hd ht (k locs ls hS hl)
theorem f_if_eq (K : Zok E Z cc nL own ret tb nm L mc ms) {x : Int32} {off : Int} {tgt : Nat} (hd : decode cc pc = .ok (.ifCond .eq off, 3)) (ht : (pc : Int) + off = (tgt : Int)) (kt : x = 0 → Go E Z nL H cs ss tgt lv st) (kf : ¬ x = 0 → Go E Z nL H cs ss (pc + 3) lv st) : Go E Z nL H cs ss pc lv (.int x :: st) := by
  obtain ⟨p, e, R, s, m, args, below, meth, c, Q⟩ := Z
  obtain ⟨hx, hb, hml, hown, hts, hlocks, hr, hG, htb, hnm, hLf, hLl, hmc, hms⟩ := K
  exact fun locs ls hS hl => lv_if_eq hx hb hd ht (fun h => kt h locs ls hS hl) (fun h => kf h locs ls hS hl)
theorem f_icmp_eq (K : Zok E Z cc nL own ret tb nm L mc ms) {x y : Int32} {off : Int} {tgt : Nat} (hd : decode cc pc = .ok (.if_icmp .eq off, 3)) (ht : (pc : Int) + off = (tgt : Int)) (kt : x = y → Go E Z nL H cs ss tgt lv st) (kf : ¬ x = y → Go E Z nL H cs ss (pc + 3) lv st) : Go E Z nL H cs ss pc lv (.int y :: .int x :: st) := by
  obtain ⟨p, e, R, s, m, args, below, meth, c, Q⟩ := Z
  obtain ⟨hx, hb, hml, hown, hts, hlocks, hr, hG, htb, hnm, hLf, hLl, hmc, hms⟩ := K
  exact fun locs ls hS hl => lv_icmp_eq hx hb hd ht (fun h => kt h locs ls hS hl) (fun h => kf h locs ls hS hl)
theorem f_if_ne (K : Zok E Z cc nL own ret tb nm L mc ms) {x : Int32} {off : Int} {tgt : Nat} (hd : decode cc pc = .ok (.ifCond .ne off, 3)) (ht : (pc : Int) + off = (tgt : Int)) (kt : ¬ x = 0 → Go E Z nL H cs ss tgt lv st) (kf : x = 0 → Go E Z nL H cs ss (pc + 3) lv st) : Go E Z nL H cs ss pc lv (.int x :: st) := by
  obtain ⟨p, e, R, s, m, args, below, meth, c, Q⟩ := Z
  obtain ⟨hx, hb, hml, hown, hts, hlocks, hr, hG, htb, hnm, hLf, hLl, hmc, hms⟩ := K
  exact fun locs ls hS hl => lv_if_ne hx hb hd ht (fun h => kt h locs ls hS hl) (fun h => kf h locs ls hS hl)
theorem f_icmp_ne (K : Zok E Z cc nL own ret tb nm L mc ms) {x y : Int32} {off : Int} {tgt : Nat} (hd : decode cc pc = .ok (.if_icmp .ne off, 3)) (ht : (pc : Int) + off = (tgt : Int)) (kt : ¬ x = y → Go E Z nL H cs ss tgt lv st) (kf : x = y → Go E Z nL H cs ss (pc + 3) lv st) : Go E Z nL H cs ss pc lv (.int y :: .int x :: st) := by
  obtain ⟨p, e, R, s, m, args, below, meth, c, Q⟩ := Z
  obtain ⟨hx, hb, hml, hown, hts, hlocks, hr, hG, htb, hnm, hLf, hLl, hmc, hms⟩ := K
  exact fun locs ls hS hl => lv_icmp_ne hx hb hd ht (fun h => kt h locs ls hS hl) (fun h => kf h locs ls hS hl)
theorem f_if_lt (K : Zok E Z cc nL own ret tb nm L mc ms) {x : Int32} {off : Int} {tgt : Nat} (hd : decode cc pc = .ok (.ifCond .lt off, 3)) (ht : (pc : Int) + off = (tgt : Int)) (kt : x < 0 → Go E Z nL H cs ss tgt lv st) (kf : ¬ x < 0 → Go E Z nL H cs ss (pc + 3) lv st) : Go E Z nL H cs ss pc lv (.int x :: st) := by
  obtain ⟨p, e, R, s, m, args, below, meth, c, Q⟩ := Z
  obtain ⟨hx, hb, hml, hown, hts, hlocks, hr, hG, htb, hnm, hLf, hLl, hmc, hms⟩ := K
  exact fun locs ls hS hl => lv_if_lt hx hb hd ht (fun h => kt h locs ls hS hl) (fun h => kf h locs ls hS hl)
theorem f_icmp_lt (K : Zok E Z cc nL own ret tb nm L mc ms) {x y : Int32} {off : Int} {tgt : Nat} (hd : decode cc pc = .ok (.if_icmp .lt off, 3)) (ht : (pc : Int) + off = (tgt : Int)) (kt : x < y → Go E Z nL H cs ss tgt lv st) (kf : ¬ x < y → Go E Z nL H cs ss (pc + 3) lv st) : Go E Z nL H cs ss pc lv (.int y :: .int x :: st) := by
  obtain ⟨p, e, R, s, m, args, below, meth, c, Q⟩ := Z
  obtain ⟨hx, hb, hml, hown, hts, hlocks, hr, hG, htb, hnm, hLf, hLl, hmc, hms⟩ := K
  exact fun locs ls hS hl => lv_icmp_lt hx hb hd ht (fun h => kt h locs ls hS hl) (fun h => kf h locs ls hS hl)
theorem f_if_ge (K : Zok E Z cc nL own ret tb nm L mc ms) {x : Int32} {off : Int} {tgt : Nat} (hd : decode cc pc = .ok (.ifCond .ge off, 3)) (ht : (pc : Int) + off = (tgt : Int)) (kt : 0 ≤ x → Go E Z nL H cs ss tgt lv st) (kf : ¬ 0 ≤ x → Go E Z nL H cs ss (pc + 3) lv st) : Go E Z nL H cs ss pc lv (.int x :: st) := by
  obtain ⟨p, e, R, s, m, args, below, meth, c, Q⟩ := Z
  obtain ⟨hx, hb, hml, hown, hts, hlocks, hr, hG, htb, hnm, hLf, hLl, hmc, hms⟩ := K
  exact fun locs ls hS hl => lv_if_ge hx hb hd ht (fun h => kt h locs ls hS hl) (fun h => kf h locs ls hS hl)
theorem f_icmp_ge (K : Zok E Z cc nL own ret tb nm L mc ms) {x y : Int32} {off : Int} {tgt : Nat} (hd : decode cc pc = .ok (.if_icmp .ge off, 3)) (ht : (pc : Int) + off = (tgt : Int)) (kt : y ≤ x → Go E Z nL H cs ss tgt lv st) (kf : ¬ y ≤ x → Go E Z nL H cs ss (pc + 3) lv st) : Go E Z nL H cs ss pc lv (.int y :: .int x :: st) := by
  obtain ⟨p, e, R, s, m, args, below, meth, c, Q⟩ := Z
  obtain ⟨hx, hb, hml, hown, hts, hlocks, hr, hG, htb, hnm, hLf, hLl, hmc, hms⟩ := K
  exact fun locs ls hS hl => lv_icmp_ge hx hb hd ht (fun h => kt h locs ls hS hl) (fun h => kf h locs ls hS hl)
theorem f_if_gt (K : Zok E Z cc nL own ret tb nm L mc ms) {x : Int32} {off : Int} {tgt : Nat} (hd : decode cc pc = .ok (.ifCond .gt off, 3)) (ht : (pc : Int) + off = (tgt : Int)) (kt : 0 < x → Go E Z nL H cs ss tgt lv st) (kf : ¬ 0 < x → Go E Z nL H cs ss (pc + 3) lv st) : Go E Z nL H cs ss pc lv (.int x :: st) := by
  obtain ⟨p, e, R, s, m, args, below, meth, c, Q⟩ := Z
  obtain ⟨hx, hb, hml, hown, hts, hlocks, hr, hG, htb, hnm, hLf, hLl, hmc, hms⟩ := K
  exact fun locs ls hS hl => lv_if_gt hx hb hd ht (fun h => kt h locs ls hS hl) (fun h => kf h locs ls hS hl)
theorem f_icmp_gt (K : Zok E Z cc nL own ret tb nm L mc ms) {x y : Int32} {off : Int} {tgt : Nat} (hd : decode cc pc = .ok (.if_icmp .gt off, 3)) (ht : (pc : Int) + off = (tgt : Int)) (kt : y < x → Go E Z nL H cs ss tgt lv st) (kf : ¬ y < x → Go E Z nL H cs ss (pc + 3) lv st) : Go E Z nL H cs ss pc lv (.int y :: .int x :: st) := by
  obtain ⟨p, e, R, s, m, args, below, meth, c, Q⟩ := Z
  obtain ⟨hx, hb, hml, hown, hts, hlocks, hr, hG, htb, hnm, hLf, hLl, hmc, hms⟩ := K
  exact fun locs ls hS hl => lv_icmp_gt hx hb hd ht (fun h => kt h locs ls hS hl) (fun h => kf h locs ls hS hl)
theorem f_if_le (K : Zok E Z cc nL own ret tb nm L mc ms) {x : Int32} {off : Int} {tgt : Nat} (hd : decode cc pc = .ok (.ifCond .le off, 3)) (ht : (pc : Int) + off = (tgt : Int)) (kt : x ≤ 0 → Go E Z nL H cs ss tgt lv st) (kf : ¬ x ≤ 0 → Go E Z nL H cs ss (pc + 3) lv st) : Go E Z nL H cs ss pc lv (.int x :: st) := by
  obtain ⟨p, e, R, s, m, args, below, meth, c, Q⟩ := Z
  obtain ⟨hx, hb, hml, hown, hts, hlocks, hr, hG, htb, hnm, hLf, hLl, hmc, hms⟩ := K
  exact fun locs ls hS hl => lv_if_le hx hb hd ht (fun h => kt h locs ls hS hl) (fun h => kf h locs ls hS hl)
theorem f_icmp_le (K : Zok E Z cc nL own ret tb nm L mc ms) {x y : Int32} {off : Int} {tgt : Nat} (hd : decode cc pc = .ok (.if_icmp .le off, 3)) (ht : (pc : Int) + off = (tgt : Int)) (kt : x ≤ y → Go E Z nL H cs ss tgt lv st) (kf : ¬ x ≤ y → Go E Z nL H cs ss (pc + 3) lv st) : Go E Z nL H cs ss pc lv (.int y :: .int x :: st) := by
  obtain ⟨p, e, R, s, m, args, below, meth, c, Q⟩ := Z
  obtain ⟨hx, hb, hml, hown, hts, hlocks, hr, hG, htb, hnm, hLf, hLl, hmc, hms⟩ := K
  exact fun locs ls hS hl => lv_icmp_le hx hb hd ht (fun h => kt h locs ls hS hl) (fun h => kf h locs ls hS hl)
theorem f_acmp_eq (K : Zok E Z cc nL own ret tb nm L mc ms) {rx ry : Option Nat} {off : Int} {tgt : Nat} (hd : decode cc pc = .ok (.if_acmp .eq off, 3)) (ht : (pc : Int) + off = (tgt : Int)) (kt : rx = ry → Go E Z nL H cs ss tgt lv st) (kf : ¬ rx = ry → Go E Z nL H cs ss (pc + 3) lv st) : Go E Z nL H cs ss pc lv (va_rf ry :: va_rf rx :: st) := by
  obtain ⟨p, e, R, s, m, args, below, meth, c, Q⟩ := Z
  obtain ⟨hx, hb, hml, hown, hts, hlocks, hr, hG, htb, hnm, hLf, hLl, hmc, hms⟩ := K
  exact fun locs ls hS hl => lv_acmp_eq hx hb hd ht (fun h => kt h locs ls hS hl) (fun h => kf h locs ls hS hl)
theorem f_acmp_ne (K : Zok E Z cc nL own ret tb nm L mc ms) {rx ry : Option Nat} {off : Int} {tgt : Nat} (hd : decode cc pc = .ok (.if_acmp .ne off, 3)) (ht : (pc : Int) + off = (tgt : Int)) (kt : ¬ rx = ry → Go E Z nL H cs ss tgt lv st) (kf : rx = ry → Go E Z nL H cs ss (pc + 3) lv st) : Go E Z nL H cs ss pc lv (va_rf ry :: va_rf rx :: st) := by
  obtain ⟨p, e, R, s, m, args, below, meth, c, Q⟩ := Z
  obtain ⟨hx, hb, hml, hown, hts, hlocks, hr, hG, htb, hnm, hLf, hLl, hmc, hms⟩ := K
  exact fun locs ls hS hl => lv_acmp_ne hx hb hd ht (fun h => kt h locs ls hS hl) (fun h => kf h locs ls hS hl)
theorem f_ifnonnull (K : Zok E Z cc nL own ret tb nm L mc ms) {a : Nat} {off : Int} {tgt : Nat} (hd : decode cc pc = .ok (.ifnonnull off, 3)) (ht : (pc : Int) + off = (tgt : Int)) (k : Go E Z nL H cs ss tgt lv st) : Go E Z nL H cs ss pc lv (.ref a :: st) := by
  obtain ⟨p, e, R, s, m, args, below, meth, c, Q⟩ := Z
  obtain ⟨hx, hb, hml, hown, hts, hlocks, hr, hG, htb, hnm, hLf, hLl, hmc, hms⟩ := K
  exact fun locs ls hS hl => lv_ifnonnull hx hb hd ht (k locs ls hS hl)
theorem f_ifnull (K : Zok E Z cc nL own ret tb nm L mc ms) {a : Nat} {off : Int} (hd : decode cc pc = .ok (.ifnull off, 3)) (k : Go E Z nL H cs ss (pc + 3) lv st) : Go E Z nL H cs ss pc lv (.ref a :: st) := by
  obtain ⟨p, e, R, s, m, args, below, meth, c, Q⟩ := Z
  obtain ⟨hx, hb, hml, hown, hts, hlocks, hr, hG, htb, hnm, hLf, hLl, hmc, hms⟩ := K
  exact fun locs ls hS hl => lv_ifnull hx hb hd (k locs ls hS hl)
theorem f_ifnullN (K : Zok E Z cc nL own ret tb nm L mc ms) {off : Int} {tgt : Nat} (hd : decode cc pc = .ok (.ifnull off, 3)) (ht : (pc : Int) + off = (tgt : Int)) (k : Go E Z nL H cs ss tgt lv st) : Go E Z nL H cs ss pc lv (.null :: st) := by
  obtain ⟨p, e, R, s, m, args, below, meth, c, Q⟩ := Z
  obtain ⟨hx, hb, hml, hown, hts, hlocks, hr, hG, htb, hnm, hLf, hLl, hmc, hms⟩ := K
  exact fun locs ls hS hl => lv_ifnullN hx hb hd ht (k locs ls hS hl)
theorem f_ifnonnullN (K : Zok E Z cc nL own ret tb nm L mc ms) {off : Int} (hd : decode cc pc = .ok (.ifnonnull off, 3)) (k : Go E Z nL H cs ss (pc + 3) lv st) : Go E Z nL H cs ss pc lv (.null :: st) := by
  obtain ⟨p, e, R, s, m, args, below, meth, c, Q⟩ := Z
  obtain ⟨hx, hb, hml, hown, hts, hlocks, hr, hG, htb, hnm, hLf, hLl, hmc, hms⟩ := K
  exact fun locs ls hS hl => lv_ifnonnullN hx hb hd (k locs ls hS hl)
theorem f_ldc (K : Zok E Z cc nL own ret tb nm L mc ms) {index : Nat} {v : Int32} (hc : Cond.constant own index v ∈ lw_all) (hd : decode cc pc = .ok (.ldc index, 2)) (k : Go E Z nL H cs ss (pc + 2) lv (.int v :: st)) : Go E Z nL H cs ss pc lv st := by
  obtain ⟨p, e, R, s, m, args, below, meth, c, Q⟩ := Z
  obtain ⟨hx, hb, hml, hown, hts, hlocks, hr, hG, htb, hnm, hLf, hLl, hmc, hms⟩ := K
  exact fun locs ls hS hl => lv_ldc hx hb hown (hts _ hc) hd (k locs ls hS hl)
theorem f_ldc2 (K : Zok E Z cc nL own ret tb nm L mc ms) {index : Nat} {v : Int64} (hc : Cond.constantLong own index v ∈ lw_all) (hd : decode cc pc = .ok (.ldc2_w index, 3)) (k : Go E Z nL H cs ss (pc + 3) lv (.long v :: st)) : Go E Z nL H cs ss pc lv st := by
  obtain ⟨p, e, R, s, m, args, below, meth, c, Q⟩ := Z
  obtain ⟨hx, hb, hml, hown, hts, hlocks, hr, hG, htb, hnm, hLf, hLl, hmc, hms⟩ := K
  exact fun locs ls hS hl => lv_ldc2 hx hb hown (hts _ hc) hd (k locs ls hS hl)
theorem f_tableIn (K : Zok E Z cc nL own ret tb nm L mc ms) {dflt lo hi : Int} {offs : Array Int} {len : Nat} {x : Int32} {off : Int} {tgt : Nat} (hd : decode cc pc = .ok (.tableswitch dflt lo hi offs, len)) (h1 : ¬ x.toInt < lo) (h2 : ¬ hi < x.toInt) (ho : offs[(x.toInt - lo).toNat]? = some off) (ht : (pc : Int) + off = (tgt : Int)) (k : Go E Z nL H cs ss tgt lv st) : Go E Z nL H cs ss pc lv (.int x :: st) := by
  obtain ⟨p, e, R, s, m, args, below, meth, c, Q⟩ := Z
  obtain ⟨hx, hb, hml, hown, hts, hlocks, hr, hG, htb, hnm, hLf, hLl, hmc, hms⟩ := K
  exact fun locs ls hS hl => lv_tableIn hx hb hd h1 h2 ho ht (k locs ls hS hl)
theorem f_tableOut (K : Zok E Z cc nL own ret tb nm L mc ms) {dflt lo hi : Int} {offs : Array Int} {len : Nat} {x : Int32} {tgt : Nat} (hd : decode cc pc = .ok (.tableswitch dflt lo hi offs, len)) (h : x.toInt < lo ∨ hi < x.toInt) (ht : (pc : Int) + dflt = (tgt : Int)) (k : Go E Z nL H cs ss tgt lv st) : Go E Z nL H cs ss pc lv (.int x :: st) := by
  obtain ⟨p, e, R, s, m, args, below, meth, c, Q⟩ := Z
  obtain ⟨hx, hb, hml, hown, hts, hlocks, hr, hG, htb, hnm, hLf, hLl, hmc, hms⟩ := K
  exact fun locs ls hS hl => lv_tableOut hx hb hd h ht (k locs ls hS hl)
theorem f_lookup (K : Zok E Z cc nL own ret tb nm L mc ms) {dflt : Int} {ps : Array (Int × Int)} {len : Nat} {x : Int32} {off : Int} {tgt : Nat} (hd : decode cc pc = .ok (.lookupswitch dflt ps, len)) (hp : (ps.toList.zip (ps.toList.drop 1)).all (fun (a, next) => a.1 < next.1) = true) (ho : Op.lookupswitch.offset ps.toList dflt x.toInt = off) (ht : (pc : Int) + off = (tgt : Int)) (k : Go E Z nL H cs ss tgt lv st) : Go E Z nL H cs ss pc lv (.int x :: st) := by
  obtain ⟨p, e, R, s, m, args, below, meth, c, Q⟩ := Z
  obtain ⟨hx, hb, hml, hown, hts, hlocks, hr, hG, htb, hnm, hLf, hLl, hmc, hms⟩ := K
  exact fun locs ls hS hl => lv_lookup hx hb hd hp ho ht (k locs ls hS hl)
theorem f_lcmp (K : Zok E Z cc nL own ret tb nm L mc ms) {x y : Int64} (hd : decode cc pc = .ok (.lcmp, 1)) (k : Go E Z nL H cs ss (pc + 1) lv (.int (lg_cmp x y) :: st)) : Go E Z nL H cs ss pc lv (.long y :: .long x :: st) := by
  obtain ⟨p, e, R, s, m, args, below, meth, c, Q⟩ := Z
  obtain ⟨hx, hb, hml, hown, hts, hlocks, hr, hG, htb, hnm, hLf, hLl, hmc, hms⟩ := K
  exact fun locs ls hS hl => W.lcmp hx hb hd (k locs ls hS hl)
theorem f_objInit (K : Zok E Z cc nL own ret tb nm L mc ms) {idx a : Nat} (hlink : Cond.methodLink own idx objectInit ∈ lw_all) (hd : decode cc pc = .ok (.invokespecial idx, 3)) (hst : (st.map fun v => v.category).sum ≤ 8) (hL : 1 ≤ L) (k : Go E Z nL H cs ss (pc + 3) lv st) : Go E Z nL H cs ss pc lv (.ref a :: st) := by
  obtain ⟨p, e, R, s, m, args, below, meth, c, Q⟩ := Z
  obtain ⟨hx, hb, hml, hown, hts, hlocks, hr, hG, htb, hnm, hLf, hLl, hmc, hms⟩ := K
  exact fun locs ls hS hl => W.objInit hx hb hown (hts _ hlink) (hts _ q191) (hts _ q192) (g := F0 m pc ls (.ref a :: st)) rfl (by rw [hml]; exact hl.1) rfl hd (by omega) (by show 2 * 0 + _ + 12 ≤ R.locals; omega) (k locs ls hS hl)
end FROWS
