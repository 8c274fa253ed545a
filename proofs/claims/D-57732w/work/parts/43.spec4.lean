/-! SPEC 4: the reading of a text, as the twin does it -/
set_option maxRecDepth 100000
/-- at, begin, wordLong, error, errorAt -/
abbrev PT : Type := Nat × Nat × Nat × Int32 × Int32
abbrev PT.a (T : PT) : Nat := T.1
abbrev PT.b (T : PT) : Nat := T.2.1
abbrev PT.w (T : PT) : Nat := T.2.2.1
abbrev PT.e (T : PT) : Int32 := T.2.2.2.1
abbrev PT.x (T : PT) : Int32 := T.2.2.2.2
def psc (sc : Row) (T : PT) : Row := fun j => if j = 11 then nI T.a else if j = 12 then nI T.b else if j = 13 then nI T.w else if j = 14 then T.e else if j = 15 then T.x else sc j
theorem psc_11 {sc : Row} {T : PT} {v : Int32} {a : Nat} (h : v = nI a) : upd (psc sc T) 11 v = psc sc (a, T.2) := by
  funext j
  by_cases e : j = 11
  · subst e; exact h
  · rw [upd_ne e]; unfold psc; rw [if_neg e, if_neg e]
theorem psc_12 {sc : Row} {T : PT} {v : Int32} {a : Nat} (h : v = nI a) : upd (psc sc T) 12 v = psc sc (T.a, a, T.2.2) := by
  funext j
  by_cases e : j = 12
  · subst e; exact h
  · rw [upd_ne e]; unfold psc; rw [if_neg e, if_neg e]
theorem psc_13 {sc : Row} {T : PT} {v : Int32} {a : Nat} (h : v = nI a) : upd (psc sc T) 13 v = psc sc (T.a, T.b, a, T.2.2.2) := by
  funext j
  by_cases e : j = 13
  · subst e; exact h
  · rw [upd_ne e]; unfold psc; rw [if_neg e, if_neg e]
theorem psc_14 {sc : Row} {T : PT} {v : Int32} : upd (psc sc T) 14 v = psc sc (T.a, T.b, T.w, v, T.x) := by
  funext j
  by_cases e : j = 14
  · subst e; rfl
  · rw [upd_ne e]; unfold psc; rw [if_neg e, if_neg e]
theorem psc_15 {sc : Row} {T : PT} {v : Int32} : upd (psc sc T) 15 v = psc sc (T.a, T.b, T.w, T.e, v) := by
  funext j
  by_cases e : j = 15
  · subst e; rfl
  · rw [upd_ne e]; unfold psc; rw [if_neg e, if_neg e]
theorem psc_of {sc : Row} {a b w : Nat} (h1 : sc 11 = nI a) (h2 : sc 12 = nI b) (h3 : sc 13 = nI w) : psc sc (a, b, w, sc 14, sc 15) = sc := by
  funext j
  unfold psc
  repeat' split
  all_goals first | (subst_vars; first | exact h1.symm | exact h2.symm | exact h3.symm | rfl) | rfl
/-- the sign at k -/
def bt (fb : Row) (l k : Nat) : Int32 := if k < l then fb k else -1
abbrev isL (c : Int32) : Prop := 97 ≤ c ∧ c ≤ 122
abbrev isD (c : Int32) : Prop := 48 ≤ c ∧ c ≤ 57
def psk (fb : Row) (l : Nat) : Nat → Nat → Nat
  | 0, k => k
  | d + 1, k => if bt fb l k = 32 then psk fb l d (k + 1) else k
def pwl (fb : Row) (l : Nat) : Nat → Nat → Nat
  | 0, _ => 0
  | d + 1, k => if isL (bt fb l k) then pwl fb l d (k + 1) + 1 else 0
def pnx (fb : Row) (l : Nat) (T : PT) : PT := (psk fb l (l - T.a) T.a, psk fb l (l - T.a) T.a, pwl fb l (l - psk fb l (l - T.a) T.a) (psk fb l (l - T.a) T.a), T.e, T.x)
def pmu (P : Prop) [Decidable P] (c : Int32) (T : PT) : PT := if P then T else if T.e = 0 then (T.a, T.b, T.w, c, nI T.b) else T
abbrev psees (fb : Row) (l : Nat) (W : Row) (n : Nat) (T : PT) : Prop := (T.e = 0 ∧ (pnx fb l T).w = n) ∧ ∀ k, k < n → bt fb l ((pnx fb l T).b + k) = W k
def pgo (T : PT) : PT := (T.b + T.w, T.2)
def pkw (fb : Row) (l : Nat) (W : Row) (n : Nat) (T : PT) : PT := pgo (pmu (psees fb l W n T) 1 (pnx fb l T))
def psemi (fb : Row) (l : Nat) (T : PT) : PT := if T.e = 0 then ((pnx fb l T).a + 1, (pmu (bt fb l (pnx fb l T).a = 59) 1 (pnx fb l T)).2) else T
/-- the number from k on: its end, its value -/
def pval (fb : Row) (l b : Nat) : Nat → Nat → Int32 → Nat × Int32
  | 0, k, v => (k, v)
  | d + 1, k, v => if isD (bt fb l k) then pval fb l b d (k + 1) (if k - b < 3 then 10 * v + bt fb l k - 48 else v) else (k, v)
def pnv (fb : Row) (l : Nat) (T : PT) : Nat × Int32 := pval fb l (pnx fb l T).a (l - (pnx fb l T).a) (pnx fb l T).a 0
def pnT (fb : Row) (l : Nat) (lo hi : Int32) (T : PT) : PT := if T.e = 0 then pmu (lo ≤ (pnv fb l T).2 ∧ (pnv fb l T).2 ≤ hi) 2 (pmu ((pnv fb l T).1 - (pnx fb l T).a ≤ 3) 1 ((pnv fb l T).1, (pmu (isD (bt fb l (pnx fb l T).a)) 1 (pnx fb l T)).2)) else T
def pnum (fb : Row) (l : Nat) (lo hi : Int32) (T : PT) : Int32 := if T.e = 0 ∧ (pnT fb l lo hi T).e = 0 then (pnv fb l T).2 else lo
theorem bt_lt {fb : Row} {l k : Nat} {c : Int32} (h : bt fb l k = c) (hc : c ≠ -1) : k < l := by
  unfold bt at h
  split at h
  · assumption
  · exact absurd h.symm hc
theorem isL_lt {fb : Row} {l k : Nat} (h : isL (bt fb l k)) : k < l := by
  unfold bt at h
  split at h
  · assumption
  · exact absurd h (by decide)
theorem isD_lt {fb : Row} {l k : Nat} (h : isD (bt fb l k)) : k < l := by
  unfold bt at h
  split at h
  · assumption
  · exact absurd h (by decide)
theorem psk_le (fb : Row) (l : Nat) : ∀ d k, k ≤ psk fb l d k ∧ psk fb l d k ≤ k + d
  | 0, k => ⟨Nat.le_refl _, Nat.le_refl _⟩
  | d + 1, k => by
    have h := psk_le fb l d (k + 1)
    simp only [psk]
    split <;> omega
theorem pwl_le (fb : Row) (l : Nat) : ∀ d k, pwl fb l d k ≤ d
  | 0, k => Nat.le_refl _
  | d + 1, k => by
    have h := pwl_le fb l d (k + 1)
    simp only [pwl]
    split <;> omega
theorem pval_le (fb : Row) (l b : Nat) : ∀ d k v, k ≤ (pval fb l b d k v).1 ∧ (pval fb l b d k v).1 ≤ k + d
  | 0, k, v => ⟨Nat.le_refl _, Nat.le_refl _⟩
  | d + 1, k, v => by
    have h := pval_le fb l b d (k + 1) (if k - b < 3 then 10 * v + bt fb l k - 48 else v)
    simp only [pval]
    split <;> (first | omega | (simp only; omega))
/-- the bound of every place -/
def pok (l : Nat) (T : PT) : Prop := T.a ≤ l + 2 ∧ T.b ≤ l + 2 ∧ T.w ≤ l + 2 ∧ l ≤ 700
theorem pnx_a {fb : Row} {l : Nat} {T : PT} : (pnx fb l T).a ≤ max T.a l := by
  have h := psk_le fb l (l - T.a) T.a
  show psk fb l (l - T.a) T.a ≤ _
  omega
theorem pnx_w {fb : Row} {l : Nat} {T : PT} : (pnx fb l T).w ≤ l - (pnx fb l T).a := pwl_le fb l _ _
