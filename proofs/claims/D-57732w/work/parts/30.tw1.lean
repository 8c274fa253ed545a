/-! TWIN 1: the reference's object and its arrays -/
set_option maxRecDepth 100000
def twF (ad : Nat → Nat) (sc : Row) : List Value := [.ref (ad 0), .ref (ad 1), .ref (ad 2), .ref (ad 3), .ref (ad 4), .int (sc 5), .int (sc 6), .int (sc 7), .int (sc 8), .ref (ad 9), .int (sc 10), .int (sc 11), .int (sc 12), .int (sc 13), .int (sc 14), .int (sc 15), .int (sc 16), .int (sc 17), .ref (ad 18), .int (sc 19), .ref (ad 20), .int (sc 21)]
def twL : List Nat := [0, 1, 2, 3, 4, 9, 18, 20]
def twD (E : fE) (m : Nat) (ad : Nat → Nat) : Prop := (∀ i ∈ twL, ∀ j ∈ twL, ad i = ad j → i = j) ∧ (∀ j ∈ twL, ad j ≠ m) ∧ E.lo ≤ m ∧ ∀ j ∈ twL, E.lo ≤ ad j
/-- the reference's object m: its scalars sc (by the field's place), its rows s, saved, held, aside (f0 .. f3), past (f4), buffer (fb), told (ft), output (fo) -/
def twAt (E : fE) (H : Heap) (m : Nat) (ad : Nat → Nat) (sc f0 f1 f2 f3 f4 fb ft fo : Row) : Prop :=
  oat E m 8 (twF ad sc) H ∧ aat E (ad 0) 0 167 f0 H ∧ aat E (ad 1) 0 167 f1 H ∧ aat E (ad 2) 0 167 f2 H ∧ aat E (ad 3) 0 167 f3 H ∧ aat E (ad 4) 0 1336 f4 H ∧ aat E (ad 9) 0 700 fb H ∧ aat E (ad 18) 0 90 ft H ∧ aat E (ad 20) 0 160 fo H ∧ twD E m ad
/-- nothing but the reference's own cells has changed, nothing is made -/
def twK (m : Nat) (ad : Nat → Nat) (H H' : Heap) : Prop := H'.size = H.size ∧ ∀ q : Nat, q ≠ m → (∀ j ∈ twL, q ≠ ad j) → H'[q]? = H[q]?
theorem twK.rf {m : Nat} {ad : Nat → Nat} {H : Heap} : twK m ad H H := ⟨rfl, fun _ _ _ => rfl⟩
theorem twK.tr {m : Nat} {ad : Nat → Nat} {H H1 H2 : Heap} (h : twK m ad H H1) (h2 : twK m ad H1 H2) : twK m ad H H2 := ⟨h2.1.trans h.1, fun q a b => (h2.2 q a b).trans (h.2 q a b)⟩
theorem twK.put {m : Nat} {ad : Nat → Nat} {H H1 H2 : Heap} (h : twK m ad H H1) (h2 : Up H1 H2 m) : twK m ad H H2 := ⟨h2.1.trans h.1, fun q a b => (h2.2 q a).trans (h.2 q a b)⟩
theorem twK.st {m j : Nat} {ad : Nat → Nat} {H H1 H2 : Heap} (h : twK m ad H H1) (hj : j ∈ twL) (h2 : Up H1 H2 (ad j)) : twK m ad H H2 := ⟨h2.1.trans h.1, fun q a b => (h2.2 q (b j hj)).trans (h.2 q a b)⟩
section TW
variable {E : fE} {H H1 : Heap} {m : Nat} {ad : Nat → Nat} {sc sc' f0 f1 f2 f3 f4 fb ft fo g : Row}

theorem tw_o (h : twAt E H m ad sc f0 f1 f2 f3 f4 fb ft fo) : oat E m 8 (twF ad sc) H := h.1
theorem tw_lo (h : twAt E H m ad sc f0 f1 f2 f3 f4 fb ft fo) : E.lo ≤ m := h.2.2.2.2.2.2.2.2.2.2.2.1
theorem tw_D (h : twAt E H m ad sc f0 f1 f2 f3 f4 fb ft fo) : twD E m ad := h.2.2.2.2.2.2.2.2.2
theorem tw_a0 (h : twAt E H m ad sc f0 f1 f2 f3 f4 fb ft fo) : aat E (ad 0) 0 167 f0 H := h.2.1
theorem tw_lo0 (h : twAt E H m ad sc f0 f1 f2 f3 f4 fb ft fo) : E.lo ≤ ad 0 := (tw_D h).2.2.2 0 (by decide)
theorem tw_a1 (h : twAt E H m ad sc f0 f1 f2 f3 f4 fb ft fo) : aat E (ad 1) 0 167 f1 H := h.2.2.1
theorem tw_lo1 (h : twAt E H m ad sc f0 f1 f2 f3 f4 fb ft fo) : E.lo ≤ ad 1 := (tw_D h).2.2.2 1 (by decide)
theorem tw_a2 (h : twAt E H m ad sc f0 f1 f2 f3 f4 fb ft fo) : aat E (ad 2) 0 167 f2 H := h.2.2.2.1
theorem tw_lo2 (h : twAt E H m ad sc f0 f1 f2 f3 f4 fb ft fo) : E.lo ≤ ad 2 := (tw_D h).2.2.2 2 (by decide)
theorem tw_a3 (h : twAt E H m ad sc f0 f1 f2 f3 f4 fb ft fo) : aat E (ad 3) 0 167 f3 H := h.2.2.2.2.1
theorem tw_lo3 (h : twAt E H m ad sc f0 f1 f2 f3 f4 fb ft fo) : E.lo ≤ ad 3 := (tw_D h).2.2.2 3 (by decide)
theorem tw_a4 (h : twAt E H m ad sc f0 f1 f2 f3 f4 fb ft fo) : aat E (ad 4) 0 1336 f4 H := h.2.2.2.2.2.1
theorem tw_lo4 (h : twAt E H m ad sc f0 f1 f2 f3 f4 fb ft fo) : E.lo ≤ ad 4 := (tw_D h).2.2.2 4 (by decide)
theorem tw_a9 (h : twAt E H m ad sc f0 f1 f2 f3 f4 fb ft fo) : aat E (ad 9) 0 700 fb H := h.2.2.2.2.2.2.1
theorem tw_lo9 (h : twAt E H m ad sc f0 f1 f2 f3 f4 fb ft fo) : E.lo ≤ ad 9 := (tw_D h).2.2.2 9 (by decide)
theorem tw_a18 (h : twAt E H m ad sc f0 f1 f2 f3 f4 fb ft fo) : aat E (ad 18) 0 90 ft H := h.2.2.2.2.2.2.2.1
theorem tw_lo18 (h : twAt E H m ad sc f0 f1 f2 f3 f4 fb ft fo) : E.lo ≤ ad 18 := (tw_D h).2.2.2 18 (by decide)
theorem tw_a20 (h : twAt E H m ad sc f0 f1 f2 f3 f4 fb ft fo) : aat E (ad 20) 0 160 fo H := h.2.2.2.2.2.2.2.2.1
theorem tw_lo20 (h : twAt E H m ad sc f0 f1 f2 f3 f4 fb ft fo) : E.lo ≤ ad 20 := (tw_D h).2.2.2 20 (by decide)
theorem tw_put {k : Nat} {v : Value} (h : twAt E H m ad sc f0 f1 f2 f3 f4 fb ft fo) (hU : Up H H1 m) (ho : oat E m 8 ((twF ad sc).set k v) H1) (he : (twF ad sc).set k v = twF ad sc') : twAt E H1 m ad sc' f0 f1 f2 f3 f4 fb ft fo := by
  have hD := (tw_D h).2.1
  exact ⟨by rw [← he]; exact ho, hU.k (hD 0 (by decide)) (tw_a0 h), hU.k (hD 1 (by decide)) (tw_a1 h), hU.k (hD 2 (by decide)) (tw_a2 h), hU.k (hD 3 (by decide)) (tw_a3 h), hU.k (hD 4 (by decide)) (tw_a4 h), hU.k (hD 9 (by decide)) (tw_a9 h), hU.k (hD 18 (by decide)) (tw_a18 h), hU.k (hD 20 (by decide)) (tw_a20 h), tw_D h⟩
theorem tw_st0 (h : twAt E H m ad sc f0 f1 f2 f3 f4 fb ft fo) (hU : Up H H1 (ad 0)) (ho : aat E (ad 0) 0 167 g H1) : twAt E H1 m ad sc g f1 f2 f3 f4 fb ft fo := by
  have hD := tw_D h
  exact ⟨hU.k (fun e => hD.2.1 0 (by decide) e.symm) (tw_o h), ho, hU.k (fun e => absurd (hD.1 1 (by decide) 0 (by decide) e) (by decide)) (tw_a1 h), hU.k (fun e => absurd (hD.1 2 (by decide) 0 (by decide) e) (by decide)) (tw_a2 h), hU.k (fun e => absurd (hD.1 3 (by decide) 0 (by decide) e) (by decide)) (tw_a3 h), hU.k (fun e => absurd (hD.1 4 (by decide) 0 (by decide) e) (by decide)) (tw_a4 h), hU.k (fun e => absurd (hD.1 9 (by decide) 0 (by decide) e) (by decide)) (tw_a9 h), hU.k (fun e => absurd (hD.1 18 (by decide) 0 (by decide) e) (by decide)) (tw_a18 h), hU.k (fun e => absurd (hD.1 20 (by decide) 0 (by decide) e) (by decide)) (tw_a20 h), hD⟩
theorem tw_st1 (h : twAt E H m ad sc f0 f1 f2 f3 f4 fb ft fo) (hU : Up H H1 (ad 1)) (ho : aat E (ad 1) 0 167 g H1) : twAt E H1 m ad sc f0 g f2 f3 f4 fb ft fo := by
  have hD := tw_D h
  exact ⟨hU.k (fun e => hD.2.1 1 (by decide) e.symm) (tw_o h), hU.k (fun e => absurd (hD.1 0 (by decide) 1 (by decide) e) (by decide)) (tw_a0 h), ho, hU.k (fun e => absurd (hD.1 2 (by decide) 1 (by decide) e) (by decide)) (tw_a2 h), hU.k (fun e => absurd (hD.1 3 (by decide) 1 (by decide) e) (by decide)) (tw_a3 h), hU.k (fun e => absurd (hD.1 4 (by decide) 1 (by decide) e) (by decide)) (tw_a4 h), hU.k (fun e => absurd (hD.1 9 (by decide) 1 (by decide) e) (by decide)) (tw_a9 h), hU.k (fun e => absurd (hD.1 18 (by decide) 1 (by decide) e) (by decide)) (tw_a18 h), hU.k (fun e => absurd (hD.1 20 (by decide) 1 (by decide) e) (by decide)) (tw_a20 h), hD⟩
theorem tw_st2 (h : twAt E H m ad sc f0 f1 f2 f3 f4 fb ft fo) (hU : Up H H1 (ad 2)) (ho : aat E (ad 2) 0 167 g H1) : twAt E H1 m ad sc f0 f1 g f3 f4 fb ft fo := by
  have hD := tw_D h
  exact ⟨hU.k (fun e => hD.2.1 2 (by decide) e.symm) (tw_o h), hU.k (fun e => absurd (hD.1 0 (by decide) 2 (by decide) e) (by decide)) (tw_a0 h), hU.k (fun e => absurd (hD.1 1 (by decide) 2 (by decide) e) (by decide)) (tw_a1 h), ho, hU.k (fun e => absurd (hD.1 3 (by decide) 2 (by decide) e) (by decide)) (tw_a3 h), hU.k (fun e => absurd (hD.1 4 (by decide) 2 (by decide) e) (by decide)) (tw_a4 h), hU.k (fun e => absurd (hD.1 9 (by decide) 2 (by decide) e) (by decide)) (tw_a9 h), hU.k (fun e => absurd (hD.1 18 (by decide) 2 (by decide) e) (by decide)) (tw_a18 h), hU.k (fun e => absurd (hD.1 20 (by decide) 2 (by decide) e) (by decide)) (tw_a20 h), hD⟩
theorem tw_st3 (h : twAt E H m ad sc f0 f1 f2 f3 f4 fb ft fo) (hU : Up H H1 (ad 3)) (ho : aat E (ad 3) 0 167 g H1) : twAt E H1 m ad sc f0 f1 f2 g f4 fb ft fo := by
  have hD := tw_D h
  exact ⟨hU.k (fun e => hD.2.1 3 (by decide) e.symm) (tw_o h), hU.k (fun e => absurd (hD.1 0 (by decide) 3 (by decide) e) (by decide)) (tw_a0 h), hU.k (fun e => absurd (hD.1 1 (by decide) 3 (by decide) e) (by decide)) (tw_a1 h), hU.k (fun e => absurd (hD.1 2 (by decide) 3 (by decide) e) (by decide)) (tw_a2 h), ho, hU.k (fun e => absurd (hD.1 4 (by decide) 3 (by decide) e) (by decide)) (tw_a4 h), hU.k (fun e => absurd (hD.1 9 (by decide) 3 (by decide) e) (by decide)) (tw_a9 h), hU.k (fun e => absurd (hD.1 18 (by decide) 3 (by decide) e) (by decide)) (tw_a18 h), hU.k (fun e => absurd (hD.1 20 (by decide) 3 (by decide) e) (by decide)) (tw_a20 h), hD⟩
theorem tw_st4 (h : twAt E H m ad sc f0 f1 f2 f3 f4 fb ft fo) (hU : Up H H1 (ad 4)) (ho : aat E (ad 4) 0 1336 g H1) : twAt E H1 m ad sc f0 f1 f2 f3 g fb ft fo := by
  have hD := tw_D h
  exact ⟨hU.k (fun e => hD.2.1 4 (by decide) e.symm) (tw_o h), hU.k (fun e => absurd (hD.1 0 (by decide) 4 (by decide) e) (by decide)) (tw_a0 h), hU.k (fun e => absurd (hD.1 1 (by decide) 4 (by decide) e) (by decide)) (tw_a1 h), hU.k (fun e => absurd (hD.1 2 (by decide) 4 (by decide) e) (by decide)) (tw_a2 h), hU.k (fun e => absurd (hD.1 3 (by decide) 4 (by decide) e) (by decide)) (tw_a3 h), ho, hU.k (fun e => absurd (hD.1 9 (by decide) 4 (by decide) e) (by decide)) (tw_a9 h), hU.k (fun e => absurd (hD.1 18 (by decide) 4 (by decide) e) (by decide)) (tw_a18 h), hU.k (fun e => absurd (hD.1 20 (by decide) 4 (by decide) e) (by decide)) (tw_a20 h), hD⟩
theorem tw_st9 (h : twAt E H m ad sc f0 f1 f2 f3 f4 fb ft fo) (hU : Up H H1 (ad 9)) (ho : aat E (ad 9) 0 700 g H1) : twAt E H1 m ad sc f0 f1 f2 f3 f4 g ft fo := by
  have hD := tw_D h
  exact ⟨hU.k (fun e => hD.2.1 9 (by decide) e.symm) (tw_o h), hU.k (fun e => absurd (hD.1 0 (by decide) 9 (by decide) e) (by decide)) (tw_a0 h), hU.k (fun e => absurd (hD.1 1 (by decide) 9 (by decide) e) (by decide)) (tw_a1 h), hU.k (fun e => absurd (hD.1 2 (by decide) 9 (by decide) e) (by decide)) (tw_a2 h), hU.k (fun e => absurd (hD.1 3 (by decide) 9 (by decide) e) (by decide)) (tw_a3 h), hU.k (fun e => absurd (hD.1 4 (by decide) 9 (by decide) e) (by decide)) (tw_a4 h), ho, hU.k (fun e => absurd (hD.1 18 (by decide) 9 (by decide) e) (by decide)) (tw_a18 h), hU.k (fun e => absurd (hD.1 20 (by decide) 9 (by decide) e) (by decide)) (tw_a20 h), hD⟩
theorem tw_st18 (h : twAt E H m ad sc f0 f1 f2 f3 f4 fb ft fo) (hU : Up H H1 (ad 18)) (ho : aat E (ad 18) 0 90 g H1) : twAt E H1 m ad sc f0 f1 f2 f3 f4 fb g fo := by
  have hD := tw_D h
  exact ⟨hU.k (fun e => hD.2.1 18 (by decide) e.symm) (tw_o h), hU.k (fun e => absurd (hD.1 0 (by decide) 18 (by decide) e) (by decide)) (tw_a0 h), hU.k (fun e => absurd (hD.1 1 (by decide) 18 (by decide) e) (by decide)) (tw_a1 h), hU.k (fun e => absurd (hD.1 2 (by decide) 18 (by decide) e) (by decide)) (tw_a2 h), hU.k (fun e => absurd (hD.1 3 (by decide) 18 (by decide) e) (by decide)) (tw_a3 h), hU.k (fun e => absurd (hD.1 4 (by decide) 18 (by decide) e) (by decide)) (tw_a4 h), hU.k (fun e => absurd (hD.1 9 (by decide) 18 (by decide) e) (by decide)) (tw_a9 h), ho, hU.k (fun e => absurd (hD.1 20 (by decide) 18 (by decide) e) (by decide)) (tw_a20 h), hD⟩
theorem tw_st20 (h : twAt E H m ad sc f0 f1 f2 f3 f4 fb ft fo) (hU : Up H H1 (ad 20)) (ho : aat E (ad 20) 0 160 g H1) : twAt E H1 m ad sc f0 f1 f2 f3 f4 fb ft g := by
  have hD := tw_D h
  exact ⟨hU.k (fun e => hD.2.1 20 (by decide) e.symm) (tw_o h), hU.k (fun e => absurd (hD.1 0 (by decide) 20 (by decide) e) (by decide)) (tw_a0 h), hU.k (fun e => absurd (hD.1 1 (by decide) 20 (by decide) e) (by decide)) (tw_a1 h), hU.k (fun e => absurd (hD.1 2 (by decide) 20 (by decide) e) (by decide)) (tw_a2 h), hU.k (fun e => absurd (hD.1 3 (by decide) 20 (by decide) e) (by decide)) (tw_a3 h), hU.k (fun e => absurd (hD.1 4 (by decide) 20 (by decide) e) (by decide)) (tw_a4 h), hU.k (fun e => absurd (hD.1 9 (by decide) 20 (by decide) e) (by decide)) (tw_a9 h), hU.k (fun e => absurd (hD.1 18 (by decide) 20 (by decide) e) (by decide)) (tw_a18 h), ho, hD⟩
end TW
/-- a truth as the machine has it -/
def bI (P : Prop) [Decidable P] : Int32 := if P then 1 else 0
theorem bI_t {P : Prop} [Decidable P] (h : P) : bI P = 1 := if_pos h
theorem bI_f {P : Prop} [Decidable P] (h : ¬ P) : bI P = 0 := if_neg h
theorem bI_0 {P : Prop} [Decidable P] : bI P = 0 ↔ ¬ P := by
  by_cases h : P
  · rw [bI_t h]; exact ⟨fun e => absurd e (by decide), fun n => absurd h n⟩
  · rw [bI_f h]; exact ⟨fun _ => h, fun _ => rfl⟩
theorem bI_1 {P : Prop} [Decidable P] : bI P = 1 ↔ P := by
  by_cases h : P
  · rw [bI_t h]; exact ⟨fun _ => h, fun _ => rfl⟩
  · rw [bI_f h]; exact ⟨fun e => absurd e (by decide), fun n => absurd n h⟩
theorem bI_01 {P : Prop} [Decidable P] : bI P = 0 ∨ bI P = 1 := by
  by_cases h : P
  · exact Or.inr (bI_t h)
  · exact Or.inl (bI_f h)
theorem bI_c {P Q : Prop} [Decidable P] [Decidable Q] (h : P ↔ Q) : bI P = bI Q := by
  by_cases hp : P
  · rw [bI_t hp, bI_t (h.mp hp)]
  · rw [bI_f hp, bI_f (fun q => hp (h.mpr q))]
theorem f_if_eqB {E : fE} {Z : fZ} {cc : ByteArray} {nL : Nat} {own : String} {ret : Option FieldType} {tb : List ExceptionTableEntry} {nm : String} {L mc ms : Nat} {H : Heap} {cs ss pc : Nat} {lv : List (Nat × Value)} {st : List Value} {P : Prop} [Decidable P] (K : Zok E Z cc nL own ret tb nm L mc ms) {off : Int} {tgt : Nat} (hd : decode cc pc = .ok (.ifCond .eq off, 3)) (ht : (pc : Int) + off = (tgt : Int)) (kt : ¬ P → Go E Z nL H cs ss tgt lv st) (kf : P → Go E Z nL H cs ss (pc + 3) lv st) : Go E Z nL H cs ss pc lv (.int (bI P) :: st) :=
  f_if_eq K hd ht (fun h => kt (bI_0.mp h)) (fun h => kf (Classical.not_not.mp fun n => h (bI_0.mpr n)))
theorem f_if_neB {E : fE} {Z : fZ} {cc : ByteArray} {nL : Nat} {own : String} {ret : Option FieldType} {tb : List ExceptionTableEntry} {nm : String} {L mc ms : Nat} {H : Heap} {cs ss pc : Nat} {lv : List (Nat × Value)} {st : List Value} {P : Prop} [Decidable P] (K : Zok E Z cc nL own ret tb nm L mc ms) {off : Int} {tgt : Nat} (hd : decode cc pc = .ok (.ifCond .ne off, 3)) (ht : (pc : Int) + off = (tgt : Int)) (kt : P → Go E Z nL H cs ss tgt lv st) (kf : ¬ P → Go E Z nL H cs ss (pc + 3) lv st) : Go E Z nL H cs ss pc lv (.int (bI P) :: st) :=
  f_if_ne K hd ht (fun h => kt (Classical.not_not.mp fun n => h (bI_0.mpr n))) (fun h => kf (bI_0.mp h))
theorem nia {x y : Int32} {a b : Nat} (hx : x = nI a) (hy : y = nI b) : x + y = nI (a + b) := by rw [hx, hy, nI_add]
theorem nim {x y : Int32} {a b : Nat} (hx : x = nI a) (hy : y = nI b) : x * y = nI (a * b) := by rw [hx, hy, pk_mul]
theorem nis {x y : Int32} {a b : Nat} (hx : x = nI a) (hy : y = nI b) (h : b ≤ a) : x - y = nI (a - b) := by rw [hx, hy, pk_sub h]
theorem nie {x : Int32} {a b : Nat} (hx : x = nI a) (h : a = b) : x = nI b := by rw [hx, h]
theorem nic {x : Int32} {a : Nat} (hx : x = nI a) (h : a < 2147483648) : x = nI x.toNatClampNeg := by rw [hx, nI_clamp h]
