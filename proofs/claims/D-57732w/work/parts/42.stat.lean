/-! STATICS, as the law finds them -/
set_option maxRecDepth 100000
theorem zi {E : fE} (hE : fOK E) {C n d : String} {z : Int32} (hl : Cond.laysStatic C n d ∈ lw_tbl) (hi : Cond.initialized C ∈ lw_all) (i : Nat) (hw : nrw[i]? = some (.eq (.static C n d) (.int z))) : va_Z C n d (.int z) (fA E) E.s E.s.heap :=
  va_Zof (args := #[Value.ref E.b]) (hE.2.1 _ hl) (hE.2.1 _ (List.mem_filter.mp hi).1) (va_eqi (hE.n i hw)) hE.r
theorem zx {E : fE} (hE : fOK E) {C n d X : String} (hl : Cond.laysStatic C n d ∈ lw_tbl) (hi : Cond.initialized C ∈ lw_all) (i : Nat) (hw : nrw[i]? = some (.exactly (.static C n d) X)) : ∃ t : Nat, va_Z C n d (.ref t) (fA E) E.s E.s.heap ∧ (Term.static C n d).eval #[Value.ref E.b] E.s none [] E.s = some (.ref t) ∧ t < E.lo := by
  obtain ⟨a, c, cA, kA, q1, q2, q3, q4, q5, q6, -⟩ := Cond.exactly_spec (args := #[Value.ref E.b]) (first := E.s) (o := none) (s := E.s) (idx := []) (t := .static C n d) (cls := X) (hE.n i hw)
  exact ⟨a, va_Zof (args := #[Value.ref E.b]) (hE.2.1 _ hl) (hE.2.1 _ (List.mem_filter.mp hi).1) q1 hE.r, q1, (Array.getElem?_eq_some_iff.mp q3).1⟩
theorem zr {E : fE} (hE : fOK E) {C n d : String} (hl : Cond.laysStatic C n d ∈ lw_tbl) (hi : Cond.initialized C ∈ lw_all) (i : Nat) (hw : nrw[i]? = some (.isRef (.static C n d))) : ∃ v : Value, v.isRef = true ∧ va_Z C n d v (fA E) E.s E.s.heap := by
  obtain ⟨v, h1, h2⟩ := Cond.isRef_spec (args := #[Value.ref E.b]) (first := E.s) (o := none) (s := E.s) (idx := []) (hE.n i hw)
  exact ⟨v, h2, va_Zof (args := #[Value.ref E.b]) (hE.2.1 _ hl) (hE.2.1 _ (List.mem_filter.mp hi).1) h1 hE.r⟩
/-- an empty array that stands in a static -/
theorem ze {E : fE} (hE : fOK E) {C n d X D : String} (hl : Cond.laysStatic C n d ∈ lw_tbl) (hi : Cond.initialized C ∈ lw_all) (i j k : Nat) (hw : nrw[i]? = some (.exactly (.static C n d) X)) (hw2 : nrw[j]? = some (.arrayOf (.static C n d) (.object D))) (hw3 : nrw[k]? = some (.eq (.length (.static C n d)) (.int 0))) : ∃ t : Nat, va_Z C n d (.ref t) (fA E) E.s E.s.heap ∧ wtat E (.object D) t 0 (fun _ => .null) E.s.heap ∧ t < E.lo := by
  obtain ⟨t, h1, h2, h3⟩ := zx hE hl hi i hw
  obtain ⟨t', e1, ⟨cell, g1, g2, g3, g4, g5, g6, g7⟩⟩ := va_Tof (N := 0) (f := fun _ => .null) (A := fA E) (args := #[Value.ref E.b]) (by decide) (hE.n j hw2) (va_eqt (hE.n k hw3)) (fun j hj => absurd hj (Nat.not_lt_zero _)) hE.r
  cases h2.symm.trans e1
  exact ⟨t, h1, ⟨cell, g1, g2, g3, g4, g5, fun j hj => absurd hj (Nat.not_lt_zero _)⟩, h3⟩
theorem zx_ArrayList_EMPTY_ELEMENTDATA {E : fE} (hE : fOK E) : ∃ t : Nat, va_Z "java/util/ArrayList" "EMPTY_ELEMENTDATA" "[Ljava/lang/Object;" (.ref t) (fA E) E.s E.s.heap ∧ wtat E (.object "java/lang/Object") t 0 (fun _ => .null) E.s.heap ∧ t < E.lo := ze hE q369 q130 6 5 7 rfl rfl rfl
theorem zr_UNASSIGNED_STACK {E : fE} (hE : fOK E) : ∃ v : Value, v.isRef = true ∧ va_Z "java/lang/Throwable" "UNASSIGNED_STACK" "[Ljava/lang/StackTraceElement;" v (fA E) E.s E.s.heap := zr hE q397 q131 8 rfl
theorem zr_SUPPRESSED_SENTINEL {E : fE} (hE : fOK E) : ∃ v : Value, v.isRef = true ∧ va_Z "java/lang/Throwable" "SUPPRESSED_SENTINEL" "Ljava/util/List;" v (fA E) E.s E.s.heap := zr hE q399 q131 9 rfl
theorem zi_String_COMPACT_STRINGS {E : fE} (hE : fOK E) : va_Z "java/lang/String" "COMPACT_STRINGS" "Z" (.int 1) (fA E) E.s E.s.heap := zi hE q425 q137 10 rfl
theorem zi_StringUTF16__assertionsDisabled {E : fE} (hE : fOK E) : va_Z "java/lang/StringUTF16" "$assertionsDisabled" "Z" (.int 1) (fA E) E.s E.s.heap := zi hE q521 q138 12 rfl
theorem zi_StringUTF16_HI_BYTE_SHIFT {E : fE} (hE : fOK E) : va_Z "java/lang/StringUTF16" "HI_BYTE_SHIFT" "I" (.int 0) (fA E) E.s E.s.heap := zi hE q523 q138 13 rfl
theorem zi_StringUTF16_LO_BYTE_SHIFT {E : fE} (hE : fOK E) : va_Z "java/lang/StringUTF16" "LO_BYTE_SHIFT" "I" (.int 8) (fA E) E.s E.s.heap := zi hE q525 q138 14 rfl
theorem zx_ArrayList_DEFAULTCAPACITY_EMPTY_ELEMENTDATA {E : fE} (hE : fOK E) : ∃ t : Nat, va_Z "java/util/ArrayList" "DEFAULTCAPACITY_EMPTY_ELEMENTDATA" "[Ljava/lang/Object;" (.ref t) (fA E) E.s E.s.heap ∧ wtat E (.object "java/lang/Object") t 0 (fun _ => .null) E.s.heap ∧ t < E.lo := ze hE q767 q130 223 222 224 rfl rfl rfl
theorem zx_ArraysSupport_JLA {E : fE} (hE : fOK E) : ∃ t : Nat, va_Z "jdk/internal/util/ArraysSupport" "JLA" "Ljdk/internal/access/JavaLangAccess;" (.ref t) (fA E) E.s E.s.heap ∧ (Term.static "jdk/internal/util/ArraysSupport" "JLA" "Ljdk/internal/access/JavaLangAccess;").eval #[Value.ref E.b] E.s none [] E.s = some (.ref t) ∧ t < E.lo := zx hE q985 q139 226 rfl
theorem zi_Unsafe_ARRAY_BYTE_BASE_OFFSET {E : fE} (hE : fOK E) : va_Z "jdk/internal/misc/Unsafe" "ARRAY_BYTE_BASE_OFFSET" "I" (.int 16) (fA E) E.s E.s.heap := zi hE q1185 q155 227 rfl
theorem zi_ArraysSupport_LOG2_ARRAY_BYTE_INDEX_SCALE {E : fE} (hE : fOK E) : va_Z "jdk/internal/util/ArraysSupport" "LOG2_ARRAY_BYTE_INDEX_SCALE" "I" (.int 0) (fA E) E.s E.s.heap := zi hE q1187 q139 228 rfl
theorem zi_ArraysSupport_LOG2_ARRAY_LONG_INDEX_SCALE {E : fE} (hE : fOK E) : va_Z "jdk/internal/util/ArraysSupport" "LOG2_ARRAY_LONG_INDEX_SCALE" "I" (.int 3) (fA E) E.s E.s.heap := zi hE q1192 q139 229 rfl
theorem zx_ArraysSupport_U {E : fE} (hE : fOK E) : ∃ t : Nat, va_Z "jdk/internal/util/ArraysSupport" "U" "Ljdk/internal/misc/Unsafe;" (.ref t) (fA E) E.s E.s.heap ∧ (Term.static "jdk/internal/util/ArraysSupport" "U" "Ljdk/internal/misc/Unsafe;").eval #[Value.ref E.b] E.s none [] E.s = some (.ref t) ∧ t < E.lo := zx hE q1194 q139 230 rfl
theorem zi_UnsafeConstants_BIG_ENDIAN {E : fE} (hE : fOK E) : va_Z "jdk/internal/misc/UnsafeConstants" "BIG_ENDIAN" "Z" (.int 0) (fA E) E.s E.s.heap := zi hE q1221 q156 231 rfl
theorem zi_ArraysSupport_BIG_ENDIAN {E : fE} (hE : fOK E) : va_Z "jdk/internal/util/ArraysSupport" "BIG_ENDIAN" "Z" (.int 0) (fA E) E.s E.s.heap := zi hE q1248 q139 232 rfl
theorem zi_ArraysSupport_LOG2_BYTE_BIT_SIZE {E : fE} (hE : fOK E) : va_Z "jdk/internal/util/ArraysSupport" "LOG2_BYTE_BIT_SIZE" "I" (.int 3) (fA E) E.s E.s.heap := zi hE q1257 q139 233 rfl
theorem zi_ArraysSupport_LOG2_ARRAY_INT_INDEX_SCALE {E : fE} (hE : fOK E) : va_Z "jdk/internal/util/ArraysSupport" "LOG2_ARRAY_INT_INDEX_SCALE" "I" (.int 2) (fA E) E.s E.s.heap := zi hE q1265 q139 234 rfl
theorem zi_HashMap_TreeNode__assertionsDisabled {E : fE} (hE : fOK E) : va_Z "java/util/HashMap$TreeNode" "$assertionsDisabled" "Z" (.int 1) (fA E) E.s E.s.heap := zi hE q1355 q158 235 rfl
theorem zi_Integer_IntegerCache_high {E : fE} (hE : fOK E) : va_Z "java/lang/Integer$IntegerCache" "high" "I" (.int 127) (fA E) E.s E.s.heap := zi hE q1694 q173 236 rfl
theorem zi_StrictMath__assertionsDisabled {E : fE} (hE : fOK E) : va_Z "java/lang/StrictMath" "$assertionsDisabled" "Z" (.int 1) (fA E) E.s E.s.heap := zi hE q2248 q174 241 rfl
theorem zx_SnowPass_TokenKind_END {E : fE} (hE : fOK E) : ∃ t : Nat, va_Z "SnowPass$TokenKind" "END" "LSnowPass$TokenKind;" (.ref t) (fA E) E.s E.s.heap ∧ (Term.static "SnowPass$TokenKind" "END" "LSnowPass$TokenKind;").eval #[Value.ref E.b] E.s none [] E.s = some (.ref t) ∧ t < E.lo := zx hE q2500 q165 242 rfl
theorem zx_SnowPass_TokenKind_WORD {E : fE} (hE : fOK E) : ∃ t : Nat, va_Z "SnowPass$TokenKind" "WORD" "LSnowPass$TokenKind;" (.ref t) (fA E) E.s E.s.heap ∧ (Term.static "SnowPass$TokenKind" "WORD" "LSnowPass$TokenKind;").eval #[Value.ref E.b] E.s none [] E.s = some (.ref t) ∧ t < E.lo := zx hE q2505 q165 244 rfl
theorem zx_SnowPass_TokenKind_NUMBER {E : fE} (hE : fOK E) : ∃ t : Nat, va_Z "SnowPass$TokenKind" "NUMBER" "LSnowPass$TokenKind;" (.ref t) (fA E) E.s E.s.heap ∧ (Term.static "SnowPass$TokenKind" "NUMBER" "LSnowPass$TokenKind;").eval #[Value.ref E.b] E.s none [] E.s = some (.ref t) ∧ t < E.lo := zx hE q2513 q165 247 rfl
theorem zx_SnowPass_TokenKind_OTHER {E : fE} (hE : fOK E) : ∃ t : Nat, va_Z "SnowPass$TokenKind" "OTHER" "LSnowPass$TokenKind;" (.ref t) (fA E) E.s E.s.heap ∧ (Term.static "SnowPass$TokenKind" "OTHER" "LSnowPass$TokenKind;").eval #[Value.ref E.b] E.s none [] E.s = some (.ref t) ∧ t < E.lo := zx hE q2515 q165 251 rfl
/-- the four kinds of token -/
def knd (E : fE) (k : Nat → Nat) : Prop := va_Z "SnowPass$TokenKind" "END" "LSnowPass$TokenKind;" (.ref (k 0)) (fA E) E.s E.s.heap ∧ va_Z "SnowPass$TokenKind" "WORD" "LSnowPass$TokenKind;" (.ref (k 1)) (fA E) E.s E.s.heap ∧ va_Z "SnowPass$TokenKind" "NUMBER" "LSnowPass$TokenKind;" (.ref (k 2)) (fA E) E.s E.s.heap ∧ va_Z "SnowPass$TokenKind" "OTHER" "LSnowPass$TokenKind;" (.ref (k 3)) (fA E) E.s E.s.heap ∧ ∀ i j : Nat, i < 4 → j < 4 → k i = k j → i = j
theorem knd_of {E : fE} (hE : fOK E) : ∃ k : Nat → Nat, knd E k := by
  obtain ⟨t0, z0, e0, -⟩ := zx_SnowPass_TokenKind_END hE
  obtain ⟨t1, z1, e1, -⟩ := zx_SnowPass_TokenKind_WORD hE
  obtain ⟨t2, z2, e2, -⟩ := zx_SnowPass_TokenKind_NUMBER hE
  obtain ⟨t3, z3, e3, -⟩ := zx_SnowPass_TokenKind_OTHER hE
  have n01 : t0 ≠ t1 := va_neR (hE.n (w := .not (.eq (.static "SnowPass$TokenKind" "END" "LSnowPass$TokenKind;") (.static "SnowPass$TokenKind" "WORD" "LSnowPass$TokenKind;"))) 246 rfl) e0 e1
  have n02 : t0 ≠ t2 := va_neR (hE.n (w := .not (.eq (.static "SnowPass$TokenKind" "END" "LSnowPass$TokenKind;") (.static "SnowPass$TokenKind" "NUMBER" "LSnowPass$TokenKind;"))) 249 rfl) e0 e2
  have n12 : t1 ≠ t2 := va_neR (hE.n (w := .not (.eq (.static "SnowPass$TokenKind" "WORD" "LSnowPass$TokenKind;") (.static "SnowPass$TokenKind" "NUMBER" "LSnowPass$TokenKind;"))) 250 rfl) e1 e2
  have n03 : t0 ≠ t3 := va_neR (hE.n (w := .not (.eq (.static "SnowPass$TokenKind" "END" "LSnowPass$TokenKind;") (.static "SnowPass$TokenKind" "OTHER" "LSnowPass$TokenKind;"))) 253 rfl) e0 e3
  have n13 : t1 ≠ t3 := va_neR (hE.n (w := .not (.eq (.static "SnowPass$TokenKind" "WORD" "LSnowPass$TokenKind;") (.static "SnowPass$TokenKind" "OTHER" "LSnowPass$TokenKind;"))) 254 rfl) e1 e3
  have n23 : t2 ≠ t3 := va_neR (hE.n (w := .not (.eq (.static "SnowPass$TokenKind" "NUMBER" "LSnowPass$TokenKind;") (.static "SnowPass$TokenKind" "OTHER" "LSnowPass$TokenKind;"))) 255 rfl) e2 e3
  refine ⟨fun i => if i = 0 then t0 else if i = 1 then t1 else if i = 2 then t2 else t3, z0, z1, z2, z3, fun i j hi hj h => ?_⟩
  match i, j, hi, hj, h with
  | 0, 0, _, _, _ => exact rfl
  | 0, 1, _, _, h => exact absurd h n01
  | 0, 2, _, _, h => exact absurd h n02
  | 0, 3, _, _, h => exact absurd h n03
  | 1, 0, _, _, h => exact absurd h.symm n01
  | 1, 1, _, _, _ => exact rfl
  | 1, 2, _, _, h => exact absurd h n12
  | 1, 3, _, _, h => exact absurd h n13
  | 2, 0, _, _, h => exact absurd h.symm n02
  | 2, 1, _, _, h => exact absurd h.symm n12
  | 2, 2, _, _, _ => exact rfl
  | 2, 3, _, _, h => exact absurd h n23
  | 3, 0, _, _, h => exact absurd h.symm n03
  | 3, 1, _, _, h => exact absurd h.symm n13
  | 3, 2, _, _, h => exact absurd h.symm n23
  | 3, 3, _, _, _ => exact rfl
  | i + 4, _, h, _, _ => exact absurd h (by omega)
  | _, j + 4, _, h, _ => exact absurd h (by omega)
/-- the boxes of -128 to 127 -/
def ica (E : fE) (t : Nat) (ad : Nat → Nat) : Prop := va_Z "java/lang/Integer$IntegerCache" "cache" "[Ljava/lang/Integer;" (.ref t) (fA E) E.s E.s.heap ∧ wtat E (.object "java/lang/Integer") t 256 (fun j => .ref (ad j)) E.s.heap ∧ ∀ j : Nat, j < 256 → woat E (ad j) 20 [.int (vb_c j)] E.s.heap
theorem ica_of {E : fE} (hE : fOK E) : ∃ (t : Nat) (ad : Nat → Nat), ica E t ad := by
  have hl := va_eqt (hE.n (w := .eq (.length (.static "java/lang/Integer$IntegerCache" "cache" "[Ljava/lang/Integer;")) (.int 256)) 239 rfl)
  obtain ⟨ad, ⟨hO, hF⟩, hev⟩ := vb_Cof (args := #[Value.ref E.b]) (s := E.s) (A := fA E) (st := (.static "java/lang/Integer$IntegerCache" "cache" "[Ljava/lang/Integer;")) rfl hl (hE.n 240 rfl) hE.r
  obtain ⟨t, e1, ⟨cell, g1, g2, g3, g4, g5, g6, g7⟩⟩ := va_Tof (N := 256) (f := fun j => .ref (ad j)) (A := fA E) (args := #[Value.ref E.b]) (by decide) (hE.n (w := .arrayOf (.static "java/lang/Integer$IntegerCache" "cache" "[Ljava/lang/Integer;") (.object "java/lang/Integer")) 238 rfl) hl hev hE.r
  refine ⟨t, ad, va_Zof (args := #[Value.ref E.b]) (hE.2.1 _ q1696) (hE.2.1 _ (List.mem_filter.mp q173).1) e1 hE.r, ⟨cell, g1, g2, g3, g4, g5, g6⟩, fun j hj => ?_⟩
  obtain ⟨c2, k1, k2, k3, k4⟩ := hO j hj
  have hc : fcl[20]? = some (RJ17, TJ17, 1) := rfl
  have s0 := slot_of hE (hF j hj) hc (k := 0) (by decide) ⟨rfl, rfl, rfl⟩ k1
  refine ⟨_, hc, c2, k1, Option.some.inj (k3.symm.trans (hE.1.1 20 _ hc).2.1), k2, s0.2, fun k hk => ?_⟩
  match k, hk with
  | 0, _ => exact s0.1
  | k + 1, h9 => exact absurd h9 (by show ¬ k + 1 < 1; omega)
