/-! SPEC 1: the system's state as a row of numbers (the twin's own row), and what an hour does to it. Plain Lean, no program in sight. -/
set_option maxRecDepth 100000
abbrev Row : Type := Nat → Int32
/-- the pass is open -/
abbrev sp_open (f : Row) : Prop := f 20 = 1 ∧ f 24 = 1
abbrev sp_night (f : Row) : Prop := 18 ≤ f 7 - f 7 / 24 * 24 ∨ f 7 - f 7 / 24 * 24 ≤ 5
abbrev sp_clear (f : Row) (k : Nat) : Prop := f (25 + 3 * k) ≤ f 2
def sp_deep (f : Row) : Nat → Nat
  | 0 => 0
  | k + 1 => if f (25 + 3 * sp_deep f k) < f (25 + 3 * (k + 1)) then k + 1 else sp_deep f k
def sp_sum (f : Row) : Nat → Int32
  | 0 => 0
  | k + 1 => sp_sum f k + f (25 + 3 * k)

/-- the places from a to b take what stands d places on -/
def shf (f : Row) (a b d : Nat) : Row := fun j => if a ≤ j ∧ j < b then f (j + d) else f j
theorem shf_0 {f : Row} {a d : Nat} : shf f a a d = f := by
  funext j
  simp only [shf]
  rw [if_neg (by omega)]
theorem shf_s {f : Row} {a k d : Nat} (h : a ≤ k) : upd (shf f a k d) k (shf f a k d (k + d)) = shf f a (k + 1) d := by
  funext j
  simp only [shf, upd]
  by_cases e : j = k
  · subst e
    rw [if_pos rfl, if_neg (by omega), if_pos (by omega)]
  · rw [if_neg e]
    by_cases h2 : a ≤ j ∧ j < k
    · rw [if_pos h2, if_pos (by omega)]
    · rw [if_neg h2, if_neg (by omega)]
theorem cpy_0 {f g : Row} {a b : Nat} : va_cpy f g a b 0 = g := by
  funext j
  simp only [va_cpy]
  rw [if_neg (by omega)]
theorem cpy_s {f g : Row} {a b k : Nat} : upd (va_cpy f g a b k) (b + k) (f (a + k)) = va_cpy f g a b (k + 1) := by
  funext j
  simp only [va_cpy, upd]
  by_cases e : j = b + k
  · subst e
    rw [if_pos rfl, if_pos (by omega)]
    congr 1
    omega
  · rw [if_neg e]
    by_cases h2 : b ≤ j ∧ j < b + k
    · rw [if_pos h2, if_pos (by omega)]
    · rw [if_neg h2, if_neg (by omega)]
theorem aat_c {E : fE} {a t n : Nat} {f g : Row} {H : Heap} (h : aat E a t n f H) (e : ∀ j, j < n → f j = g j) : aat E a t n g H := by
  have h1 : H[a]? = some (vp_cell (E.C t) (n, .inl f)) := h
  show H[a]? = some (vp_cell (E.C t) (n, .inl g))
  rw [h1, vp_cell_i, vp_cell_i]
  congr 1
  unfold arrV
  congr 1
  apply Array.ext
  · simp
  · intro i h1 h2
    simp only [Array.getElem_ofFn]
    rw [e i (by simpa using h1)]
/-- the book's entries move down by one -/
def sp_shift (f : Row) : Row := shf f 85 123 2
def sp_room (f : Row) : Row := if f 9 = 20 then upd (sp_shift f) 9 (f 9 - 1) else f
def sp_ent (f : Row) (kind : Int32) : Row :=
  upd (upd (upd (sp_room f) (85 + 2 * (sp_room f 9).toNatClampNeg) kind) (85 + 2 * (sp_room f 9).toNatClampNeg + 1) (f 7)) 9 (sp_room f 9 + 1)
def sp_up (f : Row) (t : Nat) : Nat → Nat → Nat
  | 0, k => k
  | d + 1, k => if k ≠ t ∧ sp_clear f k then sp_up f t d (k + 1) else k
def sp_down (f : Row) (t : Nat) : Nat → Nat → Nat
  | 0, k => k
  | d + 1, k => if k ≠ t ∧ sp_clear f k then sp_down f t d (k - 1) else k
/-- where a plough stands that is sent back -/
def sp_back (f : Row) (p : Nat) : Nat := if p = 0 then sp_up f (f 1).toNatClampNeg 20 0 else sp_down f (f 1).toNatClampNeg 20 ((f 0).toNatClampNeg - 1)
def sp_sb (f : Row) (p : Nat) : Row := upd f (17 + 4 * p) (nI (sp_back f p))
def sp_sign (f : Row) (p : Nat) : Row :=
  if sp_open (sp_ent (upd f (17 + 4 * p + 3) 1) (nI p)) then sp_ent (sp_ent (upd f (17 + 4 * p + 3) 1) (nI p)) 2 else sp_ent (upd f (17 + 4 * p + 3) 1) (nI p)
def sp_clr (f : Row) (p k : Nat) : Row :=
  if sp_clear f k then f else upd (upd f (25 + 3 * k) (f (25 + 3 * k) - imin (f (17 + 4 * p + 1)) (f (25 + 3 * k)))) 11 (f 11 + imin (f (17 + 4 * p + 1)) (f (25 + 3 * k)))
def sp_step (p : Nat) : Int32 := if p = 0 then 1 else -1
def sp_work1 (f g : Row) (p k : Nat) : Row := if sp_clear g k then (if f (17 + 4 * p) = g 1 then sp_sign g p else upd g (17 + 4 * p) (f (17 + 4 * p) + sp_step p)) else g
def sp_work (f : Row) (p : Nat) : Row := if f (17 + 4 * p + 3) = 1 then f else sp_work1 f (sp_clr f p (f (17 + 4 * p)).toNatClampNeg) p (f (17 + 4 * p)).toNatClampNeg
def sp_by (f : Row) (k : Nat) : Int32 := imin (f 5 + (if sp_night f then f 6 * f (25 + 3 * k + 1) else 0)) (999 - f (25 + 3 * k))
def sp_snow (f : Row) (k : Nat) : Row := upd (upd f (25 + 3 * k) (f (25 + 3 * k) + sp_by f k)) 10 (f 10 + sp_by f k)
def sp_melt (f : Row) (k : Nat) : Row := upd (upd (upd f (25 + 3 * k) (f (25 + 3 * k) - imin 2 (f (25 + 3 * k)))) (25 + 3 * k + 2) (f (25 + 3 * k + 2) - 1)) 12 (f 12 + imin 2 (f (25 + 3 * k)))
def sp_snow1 (f : Row) (k : Nat) : Row := if 0 < f (25 + 3 * k + 2) then sp_melt f k else sp_snow f k
def sp_snowA (f : Row) : Nat → Row
  | 0 => f
  | k + 1 => sp_snow1 (sp_snowA f k) k
def sp_close (f : Row) : Row := sp_sb (sp_sb (sp_ent (upd (upd f 20 0) 24 0) 3) 0) 1
def sp_cl1 (f : Row) (n : Nat) : Row := if sp_open f ∧ f 3 < f (25 + 3 * sp_deep f (n - 1)) then sp_close f else f
def sp_wh (f : Row) : Row := sp_work (sp_work (sp_cl1 (sp_snowA f (f 0).toNatClampNeg) (f 0).toNatClampNeg) 0) 1
abbrev sp_may (f : Row) (c : Nat) : Prop := if f (c + 1) = 1 then f (25 + 3 * sp_deep f ((f 0).toNatClampNeg - 1)) ≤ f 4 else sp_open f
/-- the cart at place i of side s leaves its queue -/
def sp_goes (f : Row) (s i : Nat) : Row := shf (upd f (125 + s) (f (125 + s) - 1)) (127 + 2 * (10 * s + i)) (127 + 2 * (10 * s + (f (125 + s) - 1).toNatClampNeg)) 2
def sp_cross (f : Row) (s : Nat) : Row := if f (125 + s) = 0 ∨ ¬ sp_may f (127 + 2 * (10 * s + 0)) then f else upd (sp_goes f s 0) (15 + s) (sp_goes f s 0 (15 + s) + 1)
def sp_hour (f : Row) : Row := upd (sp_cross (sp_cross (sp_wh f) 0) 1) 7 (sp_cross (sp_cross (sp_wh f) 0) 1 7 + 1)
def sp_go (f : Row) : Nat → Row
  | 0 => f
  | k + 1 => sp_hour (sp_go f k)
/-- what holds of every row -/
def sp_ok (f : Row) : Prop := ∃ n t p q b w0 w1 : Nat, f 0 = nI n ∧ 3 ≤ n ∧ n ≤ 20 ∧ f 1 = nI t ∧ 1 ≤ t ∧ t + 2 ≤ n ∧ f 17 = nI p ∧ p ≤ t ∧ f 21 = nI q ∧ t ≤ q ∧ q < n ∧ f 9 = nI b ∧ b ≤ 20 ∧ f 125 = nI w0 ∧ w0 ≤ 10 ∧ f 126 = nI w1 ∧ w1 ≤ 10 ∧
  (∀ k, k < n → ∃ d : Nat, d ≤ 999 ∧ f (25 + 3 * k) = nI d) ∧ (∀ k, k < n → ∃ d : Nat, d ≤ 9 ∧ f (25 + 3 * k + 1) = nI d) ∧ (∀ k, k < n → ∃ d : Nat, d ≤ 6 ∧ f (25 + 3 * k + 2) = nI d) ∧ (∃ d : Nat, d ≤ 99 ∧ f 5 = nI d) ∧ (∃ d : Nat, d ≤ 9 ∧ f 6 = nI d) ∧ (∃ d : Nat, d ≤ 200 ∧ f 18 = nI d) ∧ (∃ d : Nat, d ≤ 200 ∧ f 22 = nI d) ∧ (f 20 = 0 ∨ f 20 = 1) ∧ (f 24 = 0 ∨ f 24 = 1)
