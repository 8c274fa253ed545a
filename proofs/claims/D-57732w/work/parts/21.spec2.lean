/-! SPEC 2: what holds of every row, cell by cell, and that an hour keeps it -/
set_option maxRecDepth 100000
theorem upd_ne {f : Row} {a b : Nat} {x : Int32} (h : b ≠ a) : upd f a x b = f b := if_neg h
theorem room_7 {f : Row} {j : Nat} (h : j < 85) (h9 : j ≠ 9) : sp_room f j = f j := by
  unfold sp_room
  split
  · rw [upd_ne h9]
    simp only [sp_shift, shf]
    rw [if_neg (by omega)]
  · rfl
theorem ent_eq {f g : Row} {b : Nat} {kind : Int32} (hg : sp_room f = g) (hb : g 9 = nI b) (h : b ≤ 19) : upd (upd (upd g (85 + 2 * b) kind) (85 + 2 * b + 1) (upd g (85 + 2 * b) kind 7)) 9 (upd (upd g (85 + 2 * b) kind) (85 + 2 * b + 1) (upd g (85 + 2 * b) kind 7) 9 + 1) = sp_ent f kind := by
  unfold sp_ent
  rw [hg, hb, nI_clamp (by omega), upd_ne (f := g) (by omega), ← hg, room_7 (by omega) (by omega), hg, upd_ne (by omega), upd_ne (by omega), hb]
/-- how many entries there are behind one more -/
def sp_b1 (b : Nat) : Nat := if b = 20 then 20 else b + 1
theorem sp_b1_le {b : Nat} (h : b ≤ 20) : sp_b1 b ≤ 20 := by unfold sp_b1; split <;> omega
theorem room_9 {f : Row} {b : Nat} (hb : f 9 = nI b) (h : b ≤ 20) : sp_room f 9 = nI (sp_b1 b - 1) := by
  unfold sp_room sp_b1
  by_cases e : b = 20
  · subst e
    have h20 : f 9 = 20 := hb
    rw [if_pos h20, if_pos rfl]
    show f 9 - 1 = _
    rw [hb]; rfl
  · rw [if_neg (by rw [hb]; exact fun z => e ((nI_eq (b := 20) (by omega) (by decide)).mp z)), if_neg e, hb]
    rfl
theorem ent_9 {f : Row} {b : Nat} {kind : Int32} (hb : f 9 = nI b) (h : b ≤ 20) : sp_ent f kind 9 = nI (sp_b1 b) := by
  show sp_room f 9 + 1 = _
  rw [room_9 hb h, nI_1]
  have : 1 ≤ sp_b1 b := by unfold sp_b1; split <;> omega
  rw [Nat.sub_add_cancel this]
theorem ent_lo {f : Row} {b j : Nat} {kind : Int32} (hb : f 9 = nI b) (h : b ≤ 20) (hj : j < 85 ∨ 125 ≤ j) (h9 : j ≠ 9) : sp_ent f kind j = f j := by
  have h1 : sp_b1 b - 1 ≤ 19 := by have := sp_b1_le h; omega
  unfold sp_ent
  rw [room_9 hb h, nI_clamp (by omega), upd_ne h9, upd_ne (by omega), upd_ne (by omega)]
  unfold sp_room
  split
  · rw [upd_ne h9]
    simp only [sp_shift, shf]
    rw [if_neg (by omega)]
  · rfl
def lN1 (m : Nat) (v : Int32) : Prop := ∃ d : Nat, d ≤ m ∧ v = nI d
/-- what holds of the cell j of a row of n segments with summit t -/
def okc (n t j : Nat) (v : Int32) : Prop :=
  if j = 0 then v = nI n else if j = 1 then v = nI t else if j = 5 then lN1 99 v else if j = 6 then lN1 9 v else if j = 9 then lN1 20 v
  else if j = 17 then lN1 t v else if j = 21 then ∃ d : Nat, t ≤ d ∧ d < n ∧ v = nI d else if j = 18 ∨ j = 22 then lN1 200 v else if j = 19 ∨ j = 23 then lN1 99 v
  else if j = 20 ∨ j = 24 then v = 0 ∨ v = 1
  else if 25 ≤ j ∧ j < 25 + 3 * n then (if (j - 25) % 3 = 0 then lN1 999 v else if (j - 25) % 3 = 1 then lN1 9 v else lN1 6 v)
  else if j = 125 ∨ j = 126 then lN1 10 v else True
def okr (n t : Nat) (f : Row) : Prop := (3 ≤ n ∧ n ≤ 20 ∧ 1 ≤ t ∧ t + 2 ≤ n) ∧ ∀ j, okc n t j (f j)
theorem okr.up {n t j : Nat} {f : Row} {v : Int32} (h : okr n t f) (hv : okc n t j v) : okr n t (upd f j v) := by
  refine ⟨h.1, fun i => ?_⟩
  by_cases e : i = j
  · subst e
    rw [show upd f i v i = v from if_pos rfl]
    exact hv
  · rw [show upd f j v i = f i from if_neg e]
    exact h.2 i
theorem okc_d {n t k d : Nat} (hk : k < n) (hd : d ≤ 999) : okc n t (25 + 3 * k) (nI d) := by
  unfold okc
  repeat rw [if_neg (by omega)]
  rw [if_pos (by omega), if_pos (by omega)]
  exact ⟨d, hd, rfl⟩
theorem okc_s {n t k d : Nat} (hk : k < n) (hd : d ≤ 6) : okc n t (25 + 3 * k + 2) (nI d) := by
  unfold okc
  repeat rw [if_neg (by omega)]
  rw [if_pos (by omega)]
  repeat rw [if_neg (by omega)]
  exact ⟨d, hd, rfl⟩
theorem okr.d {n t k : Nat} {f : Row} (h : okr n t f) (hk : k < n) : ∃ d : Nat, d ≤ 999 ∧ f (25 + 3 * k) = nI d := by
  have h1 := h.2 (25 + 3 * k)
  unfold okc at h1
  repeat rw [if_neg (by omega)] at h1
  rw [if_pos (by omega), if_pos (by omega)] at h1
  exact h1
theorem okr.e {n t k : Nat} {f : Row} (h : okr n t f) (hk : k < n) : ∃ d : Nat, d ≤ 9 ∧ f (25 + 3 * k + 1) = nI d := by
  have h1 := h.2 (25 + 3 * k + 1)
  unfold okc at h1
  repeat rw [if_neg (by omega)] at h1
  rw [if_pos (by omega), if_neg (by omega), if_pos (by omega)] at h1
  exact h1
theorem okr.s {n t k : Nat} {f : Row} (h : okr n t f) (hk : k < n) : ∃ d : Nat, d ≤ 6 ∧ f (25 + 3 * k + 2) = nI d := by
  have h1 := h.2 (25 + 3 * k + 2)
  unfold okc at h1
  repeat rw [if_neg (by omega)] at h1
  rw [if_pos (by omega)] at h1
  repeat rw [if_neg (by omega)] at h1
  exact h1
theorem okr.n {n t : Nat} {f : Row} (h : okr n t f) : f 0 = nI n := h.2 0
theorem okr.t {n t : Nat} {f : Row} (h : okr n t f) : f 1 = nI t := h.2 1
theorem okr.fall {n t : Nat} {f : Row} (h : okr n t f) : ∃ d : Nat, d ≤ 99 ∧ f 5 = nI d := h.2 5
theorem okr.wind {n t : Nat} {f : Row} (h : okr n t f) : ∃ d : Nat, d ≤ 9 ∧ f 6 = nI d := h.2 6
theorem okr.b {n t : Nat} {f : Row} (h : okr n t f) : ∃ d : Nat, d ≤ 20 ∧ f 9 = nI d := h.2 9
theorem okr.p0 {n t : Nat} {f : Row} (h : okr n t f) : ∃ d : Nat, d ≤ t ∧ f 17 = nI d := h.2 17
theorem okr.p1 {n t : Nat} {f : Row} (h : okr n t f) : ∃ d : Nat, t ≤ d ∧ d < n ∧ f 21 = nI d := h.2 21
theorem okr.c0 {n t : Nat} {f : Row} (h : okr n t f) : ∃ d : Nat, d ≤ 200 ∧ f 18 = nI d := h.2 18
theorem okr.c1 {n t : Nat} {f : Row} (h : okr n t f) : ∃ d : Nat, d ≤ 200 ∧ f 22 = nI d := h.2 22
theorem okr.k0 {n t : Nat} {f : Row} (h : okr n t f) : ∃ d : Nat, d ≤ 99 ∧ f 19 = nI d := h.2 19
theorem okr.k1 {n t : Nat} {f : Row} (h : okr n t f) : ∃ d : Nat, d ≤ 99 ∧ f 23 = nI d := h.2 23
theorem okr.g0 {n t : Nat} {f : Row} (h : okr n t f) : f 20 = 0 ∨ f 20 = 1 := h.2 20
theorem okr.g1 {n t : Nat} {f : Row} (h : okr n t f) : f 24 = 0 ∨ f 24 = 1 := h.2 24
theorem okr.w {n t s : Nat} {f : Row} (h : okr n t f) (hs : s < 2) : ∃ d : Nat, d ≤ 10 ∧ f (125 + s) = nI d := by
  have h1 := h.2 (125 + s)
  have := h.1
  unfold okc at h1
  repeat rw [if_neg (by omega)] at h1
  rw [if_pos (by omega)] at h1
  exact h1
/-- a cell of which nothing is said -/
theorem okc_x {n t j : Nat} {v : Int32} (hn : n ≤ 20) (h : j = 2 ∨ j = 3 ∨ j = 4 ∨ j = 7 ∨ j = 8 ∨ (10 ≤ j ∧ j ≤ 16) ∨ (85 ≤ j ∧ j < 125) ∨ 127 ≤ j) : okc n t j v := by
  unfold okc
  repeat rw [if_neg (by omega)]
  trivial
theorem okc_w {n t s d : Nat} (hn : n ≤ 20) (hs : s < 2) (hd : d ≤ 10) : okc n t (125 + s) (nI d) := by
  unfold okc
  repeat rw [if_neg (by omega)]
  rw [if_pos (by omega)]
  exact ⟨d, hd, rfl⟩
theorem imin_n {a b : Nat} (ha : a < 2147483648) (hb : b < 2147483648) : imin (nI a) (nI b) = nI (min a b) := by
  unfold imin
  by_cases h : nI b < nI a
  · rw [if_pos h]
    have := (nI_ltI hb ha).mp h
    congr 1; omega
  · rw [if_neg h]
    have : ¬ b < a := fun z => h ((nI_ltI hb ha).mpr z)
    congr 1; omega
theorem okr_shf {n t a b d : Nat} {f : Row} (h : okr n t f) (ha : (85 ≤ a ∧ b ≤ 125) ∨ 127 ≤ a) : okr n t (shf f a b d) := by
  refine ⟨h.1, fun j => ?_⟩
  unfold shf
  split
  · exact okc_x h.1.2.1 (by omega)
  · exact h.2 j
theorem okr_room {n t : Nat} {f : Row} (h : okr n t f) : okr n t (sp_room f) := by
  unfold sp_room
  split
  · rename_i e
    exact (okr_shf h (Or.inl ⟨by decide, by decide⟩)).up (j := 9) ⟨19, by decide, by rw [e]; rfl⟩
  · exact h
theorem okr_ent {n t : Nat} {f : Row} (h : okr n t f) (kind : Int32) : okr n t (sp_ent f kind) := by
  have h1 := okr_room h
  obtain ⟨b, hb, e⟩ := h.b
  have e2 := room_9 e hb
  have h3 := sp_b1_le hb
  have h4 : 1 ≤ sp_b1 b := by unfold sp_b1; split <;> omega
  unfold sp_ent
  rw [e2, nI_clamp (by omega)]
  refine ((h1.up (okc_x h.1.2.1 (by omega))).up (okc_x h.1.2.1 (by omega))).up (j := 9) ⟨sp_b1 b, h3, ?_⟩
  rw [nI_1]
  congr 1
  omega
theorem sp_up_in (f : Row) (t : Nat) : ∀ d k, k ≤ t → sp_up f t d k ≤ t
  | 0, k, h => h
  | d + 1, k, h => by
    simp only [sp_up]
    split
    · rename_i c
      exact sp_up_in f t d (k + 1) (by omega)
    · exact h
theorem sp_down_in (f : Row) (t : Nat) : ∀ d k, t ≤ k → t ≤ sp_down f t d k ∧ sp_down f t d k ≤ k
  | 0, k, h => ⟨h, Nat.le_refl _⟩
  | d + 1, k, h => by
    simp only [sp_down]
    split
    · rename_i c
      have := sp_down_in f t d (k - 1) (by omega)
      omega
    · exact ⟨h, Nat.le_refl _⟩
theorem sp_back0 {n t : Nat} {f : Row} (h : okr n t f) : sp_back f 0 = sp_up f t 20 0 := by
  unfold sp_back
  rw [if_pos rfl, h.t, nI_clamp (by have := h.1; omega)]
theorem sp_back1 {n t : Nat} {f : Row} (h : okr n t f) : sp_back f 1 = sp_down f t 20 (n - 1) := by
  unfold sp_back
  rw [if_neg (by decide), h.t, h.n, nI_clamp (by have := h.1; omega), nI_clamp (by have := h.1; omega)]
theorem okr_sb {n t p : Nat} {f : Row} (h : okr n t f) (hp : p < 2) : okr n t (sp_sb f p) := by
  have hb := h.1
  rcases (by omega : p = 0 ∨ p = 1) with rfl | rfl
  · exact h.up (j := 17) ⟨_, by rw [sp_back0 h]; exact sp_up_in f t 20 0 (Nat.zero_le _), rfl⟩
  · have := sp_down_in f t 20 (n - 1) (by omega)
    exact h.up (j := 21) ⟨_, by rw [sp_back1 h]; exact this.1, by rw [sp_back1 h]; omega, rfl⟩
theorem okr_sg {n t p : Nat} {f : Row} {v : Int32} (h : okr n t f) (hp : p < 2) (hv : v = 0 ∨ v = 1) : okr n t (upd f (17 + 4 * p + 3) v) := by
  rcases (by omega : p = 0 ∨ p = 1) with rfl | rfl
  · exact h.up (j := 20) hv
  · exact h.up (j := 24) hv
theorem okr_sign {n t p : Nat} {f : Row} (h : okr n t f) (hp : p < 2) : okr n t (sp_sign f p) := by
  have h1 := okr_ent (okr_sg h hp (Or.inr rfl)) (nI p)
  unfold sp_sign
  split
  · exact okr_ent h1 2
  · exact h1
theorem okr_clr {n t p k : Nat} {f : Row} (h : okr n t f) (hp : p < 2) (hk : k < n) : okr n t (sp_clr f p k) := by
  unfold sp_clr
  split
  · exact h
  · obtain ⟨d, hd, e⟩ := h.d hk
    obtain ⟨c, hc, e2⟩ : ∃ c : Nat, c ≤ 200 ∧ f (17 + 4 * p + 1) = nI c := by
      rcases (by omega : p = 0 ∨ p = 1) with rfl | rfl
      · exact h.c0
      · exact h.c1
    rw [e, e2, imin_n (by omega) (by omega), pk_sub (by omega)]
    exact (h.up (okc_d hk (by omega))).up (okc_x h.1.2.1 (by omega))
theorem clr_lo {p k j : Nat} {f : Row} (h : j < 25) (h11 : j ≠ 11) : sp_clr f p k j = f j := by
  unfold sp_clr
  split
  · rfl
  · rw [upd_ne h11, upd_ne (by omega)]
theorem okr_pos {n t p : Nat} {f : Row} (h : okr n t f) (hp : p < 2) : ∃ k : Nat, k < n ∧ f (17 + 4 * p) = nI k := by
  have hb := h.1
  rcases (by omega : p = 0 ∨ p = 1) with rfl | rfl
  · obtain ⟨d, h1, h2⟩ := h.p0
    exact ⟨d, by omega, h2⟩
  · obtain ⟨d, h1, h2, h3⟩ := h.p1
    exact ⟨d, h2, h3⟩
theorem okr_work {n t p : Nat} {f : Row} (h : okr n t f) (hp : p < 2) : okr n t (sp_work f p) := by
  have hb := h.1
  unfold sp_work
  split
  · exact h
  · obtain ⟨k, hk, e⟩ := okr_pos h hp
    rw [e, nI_clamp (by omega)]
    have h1 := okr_clr (p := p) h hp hk
    unfold sp_work1
    split
    · split
      · exact okr_sign h1 hp
      · rename_i hne
        rw [e, h1.t] at hne
        have hne2 : k ≠ t := fun z => hne (by rw [z])
        rcases (by omega : p = 0 ∨ p = 1) with rfl | rfl
        · obtain ⟨d, g1, g2⟩ := h.p0
          have hd : d = k := (nI_eq (by omega) (by omega)).mp (g2.symm.trans e)
          exact h1.up (j := 17) ⟨k + 1, by omega, by show f 17 + 1 = _; rw [g2, hd, nI_1]⟩
        · obtain ⟨d, g1, g2, g3⟩ := h.p1
          have hd : d = k := (nI_eq (by omega) (by omega)).mp (g3.symm.trans e)
          exact h1.up (j := 21) ⟨k - 1, by omega, by omega, by
            show f 21 + (-1) = _
            rw [g3, hd]
            obtain ⟨z, rfl⟩ : ∃ z, k = z + 1 := ⟨k - 1, by omega⟩
            exact pk_m1 z⟩
    · exact h1
theorem okr_snow {n t k : Nat} {f : Row} (h : okr n t f) (hk : k < n) : okr n t (sp_snow f k) := by
  obtain ⟨d, hd, e⟩ := h.d hk
  obtain ⟨x, hx, e2⟩ := h.e hk
  obtain ⟨a, ha, e3⟩ := h.fall
  obtain ⟨w, hw, e4⟩ := h.wind
  have hwx : w * x ≤ 9 * 9 := Nat.mul_le_mul hw hx
  obtain ⟨z, hz, e5⟩ : ∃ z : Nat, z ≤ 999 - d ∧ sp_by f k = nI z := by
    unfold sp_by
    rw [e, e2, e3, e4, pk_mul, show (999 : Int32) = nI 999 from rfl, pk_sub hd]
    split
    · rw [nI_add, imin_n (by omega) (by omega)]
      exact ⟨_, Nat.min_le_right _ _, rfl⟩
    · rw [show (0 : Int32) = nI 0 from rfl, nI_add, imin_n (by omega) (by omega)]
      exact ⟨_, Nat.min_le_right _ _, rfl⟩
  unfold sp_snow
  rw [e5, e, nI_add]
  exact (h.up (okc_d hk (by omega))).up (okc_x h.1.2.1 (by omega))
theorem okr_melt {n t k : Nat} {f : Row} (h : okr n t f) (hk : k < n) (h0 : 0 < f (25 + 3 * k + 2)) : okr n t (sp_melt f k) := by
  obtain ⟨d, hd, e⟩ := h.d hk
  obtain ⟨x, hx, e2⟩ := h.s hk
  have hx0 : 1 ≤ x := by
    rw [e2] at h0
    have := (nI_ltI (a := 0) (b := x) (by decide) (by omega)).mp h0
    omega
  unfold sp_melt
  rw [e, e2, show (2 : Int32) = nI 2 from rfl, imin_n (by decide) (by omega), pk_sub (by omega), show (1 : Int32) = nI 1 from rfl, pk_sub hx0]
  exact ((h.up (okc_d hk (by omega))).up (okc_s hk (by omega))).up (okc_x h.1.2.1 (by omega))
theorem okr_snow1 {n t k : Nat} {f : Row} (h : okr n t f) (hk : k < n) : okr n t (sp_snow1 f k) := by
  unfold sp_snow1
  split
  · rename_i c
    exact okr_melt h hk c
  · exact okr_snow h hk
theorem okr_snowA {n t : Nat} {f : Row} (h : okr n t f) : ∀ k, k ≤ n → okr n t (sp_snowA f k)
  | 0, _ => h
  | k + 1, hk => okr_snow1 (okr_snowA h k (by omega)) (by omega)
theorem okr_close {n t : Nat} {f : Row} (h : okr n t f) : okr n t (sp_close f) :=
  okr_sb (okr_sb (okr_ent ((h.up (j := 20) (Or.inl rfl)).up (j := 24) (Or.inl rfl)) 3) (by decide)) (by decide)
theorem okr_cl1 {n t : Nat} {f : Row} (h : okr n t f) : okr n t (sp_cl1 f n) := by
  unfold sp_cl1
  split
  · exact okr_close h
  · exact h
theorem okr_wh {n t : Nat} {f : Row} (h : okr n t f) : okr n t (sp_wh f) := by
  unfold sp_wh
  rw [h.n, nI_clamp (by have := h.1; omega)]
  exact okr_work (okr_work (okr_cl1 (okr_snowA h n (Nat.le_refl _))) (by decide)) (by decide)
theorem okr_goes {n t s i : Nat} {f : Row} (h : okr n t f) (hs : s < 2) (h0 : ¬ f (125 + s) = 0) : okr n t (sp_goes f s i) := by
  obtain ⟨d, hd, e⟩ := h.w hs
  have hd0 : 1 ≤ d := by
    rcases Nat.eq_zero_or_pos d with z | z
    · exact absurd (by rw [e, z]; rfl) h0
    · exact z
  unfold sp_goes
  refine okr_shf ?_ (Or.inr (by omega))
  rw [e, show (1 : Int32) = nI 1 from rfl, pk_sub hd0]
  exact h.up (okc_w h.1.2.1 hs (by omega))
theorem okr_cross {n t s : Nat} {f : Row} (h : okr n t f) (hs : s < 2) : okr n t (sp_cross f s) := by
  unfold sp_cross
  split
  · exact h
  · rename_i c
    exact (okr_goes h hs (fun z => c (Or.inl z))).up (okc_x h.1.2.1 (by omega))
theorem okr_hour {n t : Nat} {f : Row} (h : okr n t f) : okr n t (sp_hour f) :=
  (okr_cross (okr_cross (okr_wh h) (by decide)) (by decide)).up (okc_x h.1.2.1 (by omega))
theorem okr_go {n t : Nat} {f : Row} (h : okr n t f) : ∀ k, okr n t (sp_go f k)
  | 0 => h
  | k + 1 => okr_hour (okr_go h k)
