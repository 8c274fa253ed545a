/-! SPEC 3: operations on a row -/
set_option maxRecDepth 100000
/-- the place of a ticket in a queue, from the place i on -/
def sp_pl (f : Row) (s : Nat) (x : Int32) : Nat → Nat → Int32
  | 0, _ => -1
  | d + 1, i => if f (127 + 2 * (10 * s + i)) = x then nI i else sp_pl f s x d (i + 1)
def sp_place (f : Row) (s : Nat) (x : Int32) : Int32 := sp_pl f s x (f (125 + s)).toNatClampNeg 0
def sp_side (f : Row) (x : Int32) : Int32 := if sp_place f 0 x = -1 then (if sp_place f 1 x = -1 then -1 else 1) else 0
abbrev sp_waits (f : Row) (x : Int32) : Prop := ¬ sp_side f x = -1
theorem sp_pl_in (f : Row) (s : Nat) (x : Int32) : ∀ d i, sp_pl f s x d i = -1 ∨ ∃ j, i ≤ j ∧ j < i + d ∧ sp_pl f s x d i = nI j ∧ f (127 + 2 * (10 * s + j)) = x
  | 0, _ => Or.inl rfl
  | d + 1, i => by
    simp only [sp_pl]
    split
    · rename_i c
      exact Or.inr ⟨i, Nat.le_refl _, by omega, rfl, c⟩
    · rcases sp_pl_in f s x d (i + 1) with h | ⟨j, h1, h2, h3, h4⟩
      · exact Or.inl h
      · exact Or.inr ⟨j, by omega, by omega, h3, h4⟩
theorem nI_m1 {j : Nat} (h : j < 2147483648) : ¬ nI j = -1 := fun e => nI_pos h (by rw [e]; decide)
theorem sp_place_in {n t s : Nat} {f : Row} (h : okr n t f) (hs : s < 2) (x : Int32) (hne : ¬ sp_place f s x = -1) : ∃ w j : Nat, f (125 + s) = nI w ∧ w ≤ 10 ∧ j < w ∧ sp_place f s x = nI j ∧ f (127 + 2 * (10 * s + j)) = x := by
  obtain ⟨w, hw, e⟩ := h.w hs
  unfold sp_place at hne ⊢
  rw [e, nI_clamp (by omega)] at hne ⊢
  rcases sp_pl_in f s x w 0 with h | ⟨j, h1, h2, h3, h4⟩
  · exact absurd h hne
  · exact ⟨w, j, rfl, hw, by omega, h3, h4⟩
/-- salt is spread where plough p stands -/
def sp_salt (f : Row) (p : Nat) : Row := upd (upd (upd f (17 + 4 * p + 2) (f (17 + 4 * p + 2) - 1)) (25 + 3 * (f (17 + 4 * p)).toNatClampNeg + 2) 6) 14 (f 14 + 1)
def sp_recall (f : Row) (p : Nat) : Row := sp_sb (if f (17 + 4 * p + 3) = 1 then sp_ent (upd f (17 + 4 * p + 3) 0) 3 else f) p
def sp_sacks (f : Row) (p : Nat) (x : Int32) : Row := upd f (17 + 4 * p + 2) (imin 99 (f (17 + 4 * p + 2) + x))
def sp_cart1 (f : Row) (s c : Nat) (x : Int32) : Row := upd (upd (upd (upd f c (f 8)) (c + 1) x) (125 + s) (f (125 + s) + 1)) 8 (f 8 + 1)
def sp_cart (f : Row) (s : Nat) (x : Int32) : Row := sp_cart1 f s (127 + 2 * (10 * s + (f (125 + s)).toNatClampNeg)) x
def sp_cancel1 (f : Row) (s i : Nat) : Row := upd (sp_goes f s i) 13 (sp_goes f s i 13 + 1)
def sp_cancel (f : Row) (x : Int32) : Row := sp_cancel1 f (sp_side f x).toNatClampNeg (sp_place f (sp_side f x).toNatClampNeg x).toNatClampNeg
abbrev sp_crossed (f : Row) : Int32 := f 15 + f 16
theorem okc_k {n t p d : Nat} (hp : p < 2) (hd : d ≤ 99) : okc n t (17 + 4 * p + 2) (nI d) := by
  rcases (by omega : p = 0 ∨ p = 1) with rfl | rfl
  · exact ⟨d, hd, rfl⟩
  · exact ⟨d, hd, rfl⟩
theorem okr.k {n t p : Nat} {f : Row} (h : okr n t f) (hp : p < 2) : ∃ d : Nat, d ≤ 99 ∧ f (17 + 4 * p + 2) = nI d := by
  rcases (by omega : p = 0 ∨ p = 1) with rfl | rfl
  · exact h.k0
  · exact h.k1
theorem okr_salt {n t p : Nat} {f : Row} (h : okr n t f) (hp : p < 2) (h0 : ¬ f (17 + 4 * p + 2) = 0) : okr n t (sp_salt f p) := by
  obtain ⟨k, hk, e⟩ := okr_pos h hp
  obtain ⟨d, hd, e2⟩ := h.k hp
  have hb := h.1
  have hd0 : 1 ≤ d := by
    rcases Nat.eq_zero_or_pos d with z | z
    · exact absurd (by rw [e2, z]; rfl) h0
    · exact z
  unfold sp_salt
  rw [e, nI_clamp (by omega), e2, show (1 : Int32) = nI 1 from rfl, pk_sub hd0]
  exact ((h.up (okc_k hp (by omega))).up (okc_s (d := 6) hk (by decide))).up (okc_x h.1.2.1 (by omega))
theorem okr_recall {n t p : Nat} {f : Row} (h : okr n t f) (hp : p < 2) : okr n t (sp_recall f p) := by
  unfold sp_recall
  refine okr_sb ?_ hp
  split
  · exact okr_ent (okr_sg h hp (Or.inl rfl)) 3
  · exact h
theorem okr_sacks {n t p x : Nat} {f : Row} (h : okr n t f) (hp : p < 2) (hx : x ≤ 1000) : okr n t (sp_sacks f p (nI x)) := by
  obtain ⟨d, hd, e2⟩ := h.k hp
  unfold sp_sacks
  rw [e2, nI_add, show (99 : Int32) = nI 99 from rfl, imin_n (by decide) (by omega)]
  exact h.up (okc_k hp (Nat.min_le_left _ _))
theorem okr_cart {n t s : Nat} {f : Row} {x : Int32} (h : okr n t f) (hs : s < 2) (h0 : ¬ f (125 + s) = 10) : okr n t (sp_cart f s x) := by
  obtain ⟨w, hw, e⟩ := h.w hs
  have hb := h.1
  have hw9 : w ≤ 9 := by
    by_cases z : w = 10
    · exact absurd (by rw [e, z]; rfl) h0
    · omega
  unfold sp_cart sp_cart1
  rw [e, nI_clamp (by omega), nI_1]
  exact (((h.up (okc_x h.1.2.1 (by omega))).up (okc_x h.1.2.1 (by omega))).up (okc_w h.1.2.1 hs (by omega))).up (okc_x h.1.2.1 (by omega))
theorem sp_side_in {f : Row} (x : Int32) : sp_side f x = -1 ∨ (sp_side f x = nI 0 ∧ ¬ sp_place f 0 x = -1) ∨ (sp_side f x = nI 1 ∧ sp_place f 0 x = -1 ∧ ¬ sp_place f 1 x = -1) := by
  unfold sp_side
  by_cases h : sp_place f 0 x = -1
  · rw [if_pos h]
    by_cases h1 : sp_place f 1 x = -1
    · rw [if_pos h1]; exact Or.inl rfl
    · rw [if_neg h1]; exact Or.inr (Or.inr ⟨rfl, h, h1⟩)
  · rw [if_neg h]; exact Or.inr (Or.inl ⟨rfl, h⟩)
/-- who waits: on a side, at a place -/
theorem sp_waits_in {n t : Nat} {f : Row} (h : okr n t f) {x : Int32} (hw : sp_waits f x) : ∃ s w j : Nat, s < 2 ∧ sp_side f x = nI s ∧ f (125 + s) = nI w ∧ w ≤ 10 ∧ j < w ∧ sp_place f s x = nI j ∧ f (127 + 2 * (10 * s + j)) = x := by
  rcases sp_side_in (f := f) x with h1 | ⟨h1, h2⟩ | ⟨h1, h2, h3⟩
  · exact absurd h1 hw
  · obtain ⟨w, j, g⟩ := sp_place_in h (by decide) x h2
    exact ⟨0, w, j, by decide, h1, g⟩
  · obtain ⟨w, j, g⟩ := sp_place_in h (by decide) x h3
    exact ⟨1, w, j, by decide, h1, g⟩
theorem okr_cancel {n t : Nat} {f : Row} {x : Int32} (h : okr n t f) (hw : sp_waits f x) : okr n t (sp_cancel f x) := by
  obtain ⟨s, w, j, hs, e1, e2, hw2, hj, e3, -⟩ := sp_waits_in h hw
  unfold sp_cancel sp_cancel1
  rw [e1, nI_clamp (by omega), e3, nI_clamp (by omega)]
  exact (okr_goes h hs (fun z => by rw [e2] at z; exact absurd ((nI_eq (b := 0) (by omega) (by decide)).mp z) (by omega))).up (okc_x h.1.2.1 (by omega))
def rowAt (f4 : Row) (b : Nat) : Row := fun j => f4 (167 * b + j)
def sp_clears (f : Row) : Nat → Int32
  | 0 => 0
  | k + 1 => sp_clears f k + (if sp_clear f k then 1 else 0)
