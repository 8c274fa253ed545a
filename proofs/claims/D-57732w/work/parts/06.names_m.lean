set_option maxRecDepth 100000
/-! SnowPassModel -/
def RX9 : String := "SnowPassModel"
def TX9 : u_T := fun k => match k with
  | 0 => ("SnowPassModel", "s", "[I", true)
  | 1 => ("SnowPassModel", "saved", "[I", true)
  | 2 => ("SnowPassModel", "held", "[I", true)
  | 3 => ("SnowPassModel", "aside", "[I", true)
  | 4 => ("SnowPassModel", "past", "[I", true)
  | 5 => ("SnowPassModel", "pastMany", "I", false)
  | 6 => ("SnowPassModel", "thrown", "I", false)
  | 7 => ("SnowPassModel", "isSaved", "Z", false)
  | 8 => ("SnowPassModel", "answer", "I", false)
  | 9 => ("SnowPassModel", "buffer", "[I", true)
  | 10 => ("SnowPassModel", "length", "I", false)
  | 11 => ("SnowPassModel", "at", "I", false)
  | 12 => ("SnowPassModel", "begin", "I", false)
  | 13 => ("SnowPassModel", "wordLong", "I", false)
  | 14 => ("SnowPassModel", "error", "I", false)
  | 15 => ("SnowPassModel", "errorAt", "I", false)
  | 16 => ("SnowPassModel", "toldError", "I", false)
  | 17 => ("SnowPassModel", "toldAt", "I", false)
  | 18 => ("SnowPassModel", "told", "[I", true)
  | 19 => ("SnowPassModel", "toldMany", "I", false)
  | 20 => ("SnowPassModel", "output", "[I", true)
  | _ => ("SnowPassModel", "outputLong", "I", false)
def tyX9 : Nat → FieldType := fun k => match k with
  | 0 => .array .int
  | 1 => .array .int
  | 2 => .array .int
  | 3 => .array .int
  | 4 => .array .int
  | 5 => .int
  | 6 => .int
  | 7 => .boolean
  | 8 => .int
  | 9 => .array .int
  | 10 => .int
  | 11 => .int
  | 12 => .int
  | 13 => .int
  | 14 => .int
  | 15 => .int
  | 16 => .int
  | 17 => .int
  | 18 => .array .int
  | 19 => .int
  | 20 => .array .int
  | _ => .int
abbrev wsX90 : List Cond := u_ws RX9 TX9 22
set_option maxRecDepth 100000 in
theorem nmX9 : ∀ a, a < 22 → ∀ b, b < 22 → a ≠ b → (TX9 a).2.1 ≠ (TX9 b).2.1 := by decide +kernel
set_option maxRecDepth 100000 in
theorem tyX9_ok : ∀ k, k < 22 → parseFieldDescriptor (TX9 k).2.2.1 = some (tyX9 k) := by decide +kernel
abbrev cX9_init : ByteArray := prog_17_method_1_code
def yX9_init : MethodName := ⟨RX9, "<init>", "()V"⟩
def dkwX9_init_5 : List UInt8 := [182, 0, 40, 181, 0, 50, 42, 182, 0, 52, 61, 177]
abbrev dktX9_init_5 : List UInt8 := dkwX9_init_5 ++ []
def dkwX9_init_4 : List UInt8 := [162, 0, 20, 42, 180, 0, 25, 28, 43, 28, 182, 0, 46, 79, 132, 2, 1, 167, 255, 234, 42, 43]
abbrev dktX9_init_4 : List UInt8 := dkwX9_init_4 ++ dktX9_init_5
def dkwX9_init_3 : List UInt8 := [181, 0, 32, 42, 17, 0, 160, 188, 10, 181, 0, 35, 18, 38, 76, 3, 61, 28, 43, 182, 0, 40]
abbrev dktX9_init_3 : List UInt8 := dkwX9_init_3 ++ dktX9_init_4
def dkwX9_init_2 : List UInt8 := [181, 0, 22, 42, 17, 2, 188, 188, 10, 181, 0, 25, 42, 2, 181, 0, 28, 42, 16, 90, 188, 10]
abbrev dktX9_init_2 : List UInt8 := dkwX9_init_2 ++ dktX9_init_3
def dkwX9_init_1 : List UInt8 := [17, 0, 167, 188, 10, 181, 0, 16, 42, 17, 0, 167, 188, 10, 181, 0, 19, 42, 17, 5, 56, 188, 10]
abbrev dktX9_init_1 : List UInt8 := dkwX9_init_1 ++ dktX9_init_2
def dkwX9_init_0 : List UInt8 := [42, 183, 0, 1, 42, 17, 0, 167, 188, 10, 181, 0, 7, 42, 17, 0, 167, 188, 10, 181, 0, 13, 42]
abbrev dktX9_init_0 : List UInt8 := dkwX9_init_0 ++ dktX9_init_1
theorem dksX9_init_0 : cX9_init.data.toList.drop 0 = dktX9_init_0 := by decide +kernel
theorem dksX9_init_1 : cX9_init.data.toList.drop 23 = dktX9_init_1 := dk_seg dksX9_init_0 23 rfl rfl
theorem dksX9_init_2 : cX9_init.data.toList.drop 46 = dktX9_init_2 := dk_seg dksX9_init_1 23 rfl rfl
theorem dksX9_init_3 : cX9_init.data.toList.drop 68 = dktX9_init_3 := dk_seg dksX9_init_2 22 rfl rfl
theorem dksX9_init_4 : cX9_init.data.toList.drop 90 = dktX9_init_4 := dk_seg dksX9_init_3 22 rfl rfl
theorem dksX9_init_5 : cX9_init.data.toList.drop 112 = dktX9_init_5 := dk_seg dksX9_init_4 22 rfl rfl
theorem dX9_init_0 : decode cX9_init 0 = .ok (.aload_n 0, 1) := dk_42 (dk_at dksX9_init_0 0 rfl rfl)
theorem dX9_init_1 : decode cX9_init 1 = .ok (.invokespecial 1, 3) := dk_183 0 1 (dk_at dksX9_init_0 1 rfl rfl)
theorem dX9_init_4 : decode cX9_init 4 = .ok (.aload_n 0, 1) := dk_42 (dk_at dksX9_init_0 4 rfl rfl)
theorem dX9_init_5 : decode cX9_init 5 = .ok (.sipush 167, 3) := dk_17 0 167 (dk_at dksX9_init_0 5 rfl rfl)
theorem dX9_init_8 : decode cX9_init 8 = .ok (.newarray .int, 2) := dk_188_10 (dk_at dksX9_init_0 8 rfl rfl)
theorem dX9_init_10 : decode cX9_init 10 = .ok (.putfield 7, 3) := dk_181 0 7 (dk_at dksX9_init_0 10 rfl rfl)
theorem dX9_init_13 : decode cX9_init 13 = .ok (.aload_n 0, 1) := dk_42 (dk_at dksX9_init_0 13 rfl rfl)
theorem dX9_init_14 : decode cX9_init 14 = .ok (.sipush 167, 3) := dk_17 0 167 (dk_at dksX9_init_0 14 rfl rfl)
theorem dX9_init_17 : decode cX9_init 17 = .ok (.newarray .int, 2) := dk_188_10 (dk_at dksX9_init_0 17 rfl rfl)
theorem dX9_init_19 : decode cX9_init 19 = .ok (.putfield 13, 3) := dk_181 0 13 (dk_at dksX9_init_0 19 rfl rfl)
theorem dX9_init_22 : decode cX9_init 22 = .ok (.aload_n 0, 1) := dk_42 (dk_at dksX9_init_0 22 rfl rfl)
theorem dX9_init_23 : decode cX9_init 23 = .ok (.sipush 167, 3) := dk_17 0 167 (dk_at dksX9_init_1 0 rfl rfl)
theorem dX9_init_26 : decode cX9_init 26 = .ok (.newarray .int, 2) := dk_188_10 (dk_at dksX9_init_1 3 rfl rfl)
theorem dX9_init_28 : decode cX9_init 28 = .ok (.putfield 16, 3) := dk_181 0 16 (dk_at dksX9_init_1 5 rfl rfl)
theorem dX9_init_31 : decode cX9_init 31 = .ok (.aload_n 0, 1) := dk_42 (dk_at dksX9_init_1 8 rfl rfl)
theorem dX9_init_32 : decode cX9_init 32 = .ok (.sipush 167, 3) := dk_17 0 167 (dk_at dksX9_init_1 9 rfl rfl)
theorem dX9_init_35 : decode cX9_init 35 = .ok (.newarray .int, 2) := dk_188_10 (dk_at dksX9_init_1 12 rfl rfl)
theorem dX9_init_37 : decode cX9_init 37 = .ok (.putfield 19, 3) := dk_181 0 19 (dk_at dksX9_init_1 14 rfl rfl)
theorem dX9_init_40 : decode cX9_init 40 = .ok (.aload_n 0, 1) := dk_42 (dk_at dksX9_init_1 17 rfl rfl)
theorem dX9_init_41 : decode cX9_init 41 = .ok (.sipush 1336, 3) := dk_17 5 56 (dk_at dksX9_init_1 18 rfl rfl)
theorem dX9_init_44 : decode cX9_init 44 = .ok (.newarray .int, 2) := dk_188_10 (dk_at dksX9_init_1 21 rfl rfl)
theorem dX9_init_46 : decode cX9_init 46 = .ok (.putfield 22, 3) := dk_181 0 22 (dk_at dksX9_init_2 0 rfl rfl)
theorem dX9_init_49 : decode cX9_init 49 = .ok (.aload_n 0, 1) := dk_42 (dk_at dksX9_init_2 3 rfl rfl)
theorem dX9_init_50 : decode cX9_init 50 = .ok (.sipush 700, 3) := dk_17 2 188 (dk_at dksX9_init_2 4 rfl rfl)
theorem dX9_init_53 : decode cX9_init 53 = .ok (.newarray .int, 2) := dk_188_10 (dk_at dksX9_init_2 7 rfl rfl)
theorem dX9_init_55 : decode cX9_init 55 = .ok (.putfield 25, 3) := dk_181 0 25 (dk_at dksX9_init_2 9 rfl rfl)
theorem dX9_init_58 : decode cX9_init 58 = .ok (.aload_n 0, 1) := dk_42 (dk_at dksX9_init_2 12 rfl rfl)
theorem dX9_init_59 : decode cX9_init 59 = .ok (.iconst (-1), 1) := dk_2 (dk_at dksX9_init_2 13 rfl rfl)
theorem dX9_init_60 : decode cX9_init 60 = .ok (.putfield 28, 3) := dk_181 0 28 (dk_at dksX9_init_2 14 rfl rfl)
theorem dX9_init_63 : decode cX9_init 63 = .ok (.aload_n 0, 1) := dk_42 (dk_at dksX9_init_2 17 rfl rfl)
theorem dX9_init_64 : decode cX9_init 64 = .ok (.bipush 90, 2) := dk_16 90 (dk_at dksX9_init_2 18 rfl rfl)
theorem dX9_init_66 : decode cX9_init 66 = .ok (.newarray .int, 2) := dk_188_10 (dk_at dksX9_init_2 20 rfl rfl)
theorem dX9_init_68 : decode cX9_init 68 = .ok (.putfield 32, 3) := dk_181 0 32 (dk_at dksX9_init_3 0 rfl rfl)
theorem dX9_init_71 : decode cX9_init 71 = .ok (.aload_n 0, 1) := dk_42 (dk_at dksX9_init_3 3 rfl rfl)
theorem dX9_init_72 : decode cX9_init 72 = .ok (.sipush 160, 3) := dk_17 0 160 (dk_at dksX9_init_3 4 rfl rfl)
theorem dX9_init_75 : decode cX9_init 75 = .ok (.newarray .int, 2) := dk_188_10 (dk_at dksX9_init_3 7 rfl rfl)
theorem dX9_init_77 : decode cX9_init 77 = .ok (.putfield 35, 3) := dk_181 0 35 (dk_at dksX9_init_3 9 rfl rfl)
theorem dX9_init_80 : decode cX9_init 80 = .ok (.ldc 38, 2) := dk_18 38 (dk_at dksX9_init_3 12 rfl rfl)
theorem dX9_init_82 : decode cX9_init 82 = .ok (.astore_n 1, 1) := dk_76 (dk_at dksX9_init_3 14 rfl rfl)
theorem dX9_init_83 : decode cX9_init 83 = .ok (.iconst 0, 1) := dk_3 (dk_at dksX9_init_3 15 rfl rfl)
theorem dX9_init_84 : decode cX9_init 84 = .ok (.istore_n 2, 1) := dk_61 (dk_at dksX9_init_3 16 rfl rfl)
theorem dX9_init_85 : decode cX9_init 85 = .ok (.iload_n 2, 1) := dk_28 (dk_at dksX9_init_3 17 rfl rfl)
theorem dX9_init_86 : decode cX9_init 86 = .ok (.aload_n 1, 1) := dk_43 (dk_at dksX9_init_3 18 rfl rfl)
theorem dX9_init_87 : decode cX9_init 87 = .ok (.invokevirtual 40, 3) := dk_182 0 40 (dk_at dksX9_init_3 19 rfl rfl)
theorem dX9_init_90 : decode cX9_init 90 = .ok (.if_icmp .ge 20, 3) := dk_162 0 20 (dk_at dksX9_init_4 0 rfl rfl)
theorem dX9_init_93 : decode cX9_init 93 = .ok (.aload_n 0, 1) := dk_42 (dk_at dksX9_init_4 3 rfl rfl)
theorem dX9_init_94 : decode cX9_init 94 = .ok (.getfield 25, 3) := dk_180 0 25 (dk_at dksX9_init_4 4 rfl rfl)
theorem dX9_init_97 : decode cX9_init 97 = .ok (.iload_n 2, 1) := dk_28 (dk_at dksX9_init_4 7 rfl rfl)
theorem dX9_init_98 : decode cX9_init 98 = .ok (.aload_n 1, 1) := dk_43 (dk_at dksX9_init_4 8 rfl rfl)
theorem dX9_init_99 : decode cX9_init 99 = .ok (.iload_n 2, 1) := dk_28 (dk_at dksX9_init_4 9 rfl rfl)
theorem dX9_init_100 : decode cX9_init 100 = .ok (.invokevirtual 46, 3) := dk_182 0 46 (dk_at dksX9_init_4 10 rfl rfl)
theorem dX9_init_103 : decode cX9_init 103 = .ok (.iastore, 1) := dk_79 (dk_at dksX9_init_4 13 rfl rfl)
theorem dX9_init_104 : decode cX9_init 104 = .ok (.iinc 2 1, 3) := dk_132 2 1 (dk_at dksX9_init_4 14 rfl rfl)
theorem dX9_init_107 : decode cX9_init 107 = .ok (.goto (-22), 3) := dk_167 255 234 (dk_at dksX9_init_4 17 rfl rfl)
theorem dX9_init_110 : decode cX9_init 110 = .ok (.aload_n 0, 1) := dk_42 (dk_at dksX9_init_4 20 rfl rfl)
theorem dX9_init_111 : decode cX9_init 111 = .ok (.aload_n 1, 1) := dk_43 (dk_at dksX9_init_4 21 rfl rfl)
theorem dX9_init_112 : decode cX9_init 112 = .ok (.invokevirtual 40, 3) := dk_182 0 40 (dk_at dksX9_init_5 0 rfl rfl)
theorem dX9_init_115 : decode cX9_init 115 = .ok (.putfield 50, 3) := dk_181 0 50 (dk_at dksX9_init_5 3 rfl rfl)
theorem dX9_init_118 : decode cX9_init 118 = .ok (.aload_n 0, 1) := dk_42 (dk_at dksX9_init_5 6 rfl rfl)
theorem dX9_init_119 : decode cX9_init 119 = .ok (.invokevirtual 52, 3) := dk_182 0 52 (dk_at dksX9_init_5 7 rfl rfl)
theorem dX9_init_122 : decode cX9_init 122 = .ok (.istore_n 2, 1) := dk_61 (dk_at dksX9_init_5 10 rfl rfl)
theorem dX9_init_123 : decode cX9_init 123 = .ok (.return_, 1) := dk_177 (dk_at dksX9_init_5 11 rfl rfl)
abbrev cX9_load : ByteArray := prog_17_method_71_code
def yX9_load : MethodName := ⟨RX9, "load", "()I"⟩
def dkwX9_load_5 : List UInt8 := [181, 1, 13, 42, 180, 0, 7, 3, 46, 172]
abbrev dktX9_load_5 : List UInt8 := dkwX9_load_5 ++ []
def dkwX9_load_4 : List UInt8 := [180, 0, 7, 3, 184, 0, 58, 3, 172, 42, 180, 0, 7, 16, 10, 42, 182, 1, 10, 79, 42, 3]
abbrev dktX9_load_4 : List UInt8 := dkwX9_load_4 ++ dktX9_load_5
def dkwX9_load_3 : List UInt8 := [182, 1, 4, 167, 255, 237, 42, 42, 182, 1, 7, 182, 0, 164, 154, 0, 18, 42, 180, 0, 16, 3, 42]
abbrev dktX9_load_3 : List UInt8 := dkwX9_load_3 ++ dktX9_load_4
def dkwX9_load_2 : List UInt8 := [182, 1, 1, 42, 4, 182, 1, 1, 42, 180, 0, 187, 154, 0, 18, 42, 182, 0, 193, 2, 159, 0, 10, 42]
abbrev dktX9_load_2 : List UInt8 := dkwX9_load_2 ++ dktX9_load_3
def dkwX9_load_1 : List UInt8 := [180, 0, 7, 27, 3, 79, 132, 1, 1, 167, 255, 239, 42, 182, 0, 251, 42, 182, 0, 254, 42, 3]
abbrev dktX9_load_1 : List UInt8 := dkwX9_load_1 ++ dktX9_load_2
def dkwX9_load_0 : List UInt8 := [42, 180, 0, 7, 3, 42, 180, 0, 16, 3, 184, 0, 58, 3, 60, 27, 17, 0, 167, 162, 0, 16, 42]
abbrev dktX9_load_0 : List UInt8 := dkwX9_load_0 ++ dktX9_load_1
theorem dksX9_load_0 : cX9_load.data.toList.drop 0 = dktX9_load_0 := by decide +kernel
theorem dksX9_load_1 : cX9_load.data.toList.drop 23 = dktX9_load_1 := dk_seg dksX9_load_0 23 rfl rfl
theorem dksX9_load_2 : cX9_load.data.toList.drop 45 = dktX9_load_2 := dk_seg dksX9_load_1 22 rfl rfl
theorem dksX9_load_3 : cX9_load.data.toList.drop 69 = dktX9_load_3 := dk_seg dksX9_load_2 24 rfl rfl
theorem dksX9_load_4 : cX9_load.data.toList.drop 92 = dktX9_load_4 := dk_seg dksX9_load_3 23 rfl rfl
theorem dksX9_load_5 : cX9_load.data.toList.drop 114 = dktX9_load_5 := dk_seg dksX9_load_4 22 rfl rfl
theorem dX9_load_0 : decode cX9_load 0 = .ok (.aload_n 0, 1) := dk_42 (dk_at dksX9_load_0 0 rfl rfl)
theorem dX9_load_1 : decode cX9_load 1 = .ok (.getfield 7, 3) := dk_180 0 7 (dk_at dksX9_load_0 1 rfl rfl)
theorem dX9_load_4 : decode cX9_load 4 = .ok (.iconst 0, 1) := dk_3 (dk_at dksX9_load_0 4 rfl rfl)
theorem dX9_load_5 : decode cX9_load 5 = .ok (.aload_n 0, 1) := dk_42 (dk_at dksX9_load_0 5 rfl rfl)
theorem dX9_load_6 : decode cX9_load 6 = .ok (.getfield 16, 3) := dk_180 0 16 (dk_at dksX9_load_0 6 rfl rfl)
theorem dX9_load_9 : decode cX9_load 9 = .ok (.iconst 0, 1) := dk_3 (dk_at dksX9_load_0 9 rfl rfl)
theorem dX9_load_10 : decode cX9_load 10 = .ok (.invokestatic 58, 3) := dk_184 0 58 (dk_at dksX9_load_0 10 rfl rfl)
theorem dX9_load_13 : decode cX9_load 13 = .ok (.iconst 0, 1) := dk_3 (dk_at dksX9_load_0 13 rfl rfl)
theorem dX9_load_14 : decode cX9_load 14 = .ok (.istore_n 1, 1) := dk_60 (dk_at dksX9_load_0 14 rfl rfl)
theorem dX9_load_15 : decode cX9_load 15 = .ok (.iload_n 1, 1) := dk_27 (dk_at dksX9_load_0 15 rfl rfl)
theorem dX9_load_16 : decode cX9_load 16 = .ok (.sipush 167, 3) := dk_17 0 167 (dk_at dksX9_load_0 16 rfl rfl)
theorem dX9_load_19 : decode cX9_load 19 = .ok (.if_icmp .ge 16, 3) := dk_162 0 16 (dk_at dksX9_load_0 19 rfl rfl)
theorem dX9_load_22 : decode cX9_load 22 = .ok (.aload_n 0, 1) := dk_42 (dk_at dksX9_load_0 22 rfl rfl)
theorem dX9_load_23 : decode cX9_load 23 = .ok (.getfield 7, 3) := dk_180 0 7 (dk_at dksX9_load_1 0 rfl rfl)
theorem dX9_load_26 : decode cX9_load 26 = .ok (.iload_n 1, 1) := dk_27 (dk_at dksX9_load_1 3 rfl rfl)
theorem dX9_load_27 : decode cX9_load 27 = .ok (.iconst 0, 1) := dk_3 (dk_at dksX9_load_1 4 rfl rfl)
theorem dX9_load_28 : decode cX9_load 28 = .ok (.iastore, 1) := dk_79 (dk_at dksX9_load_1 5 rfl rfl)
theorem dX9_load_29 : decode cX9_load 29 = .ok (.iinc 1 1, 3) := dk_132 1 1 (dk_at dksX9_load_1 6 rfl rfl)
theorem dX9_load_32 : decode cX9_load 32 = .ok (.goto (-17), 3) := dk_167 255 239 (dk_at dksX9_load_1 9 rfl rfl)
theorem dX9_load_35 : decode cX9_load 35 = .ok (.aload_n 0, 1) := dk_42 (dk_at dksX9_load_1 12 rfl rfl)
theorem dX9_load_36 : decode cX9_load 36 = .ok (.invokevirtual 251, 3) := dk_182 0 251 (dk_at dksX9_load_1 13 rfl rfl)
theorem dX9_load_39 : decode cX9_load 39 = .ok (.aload_n 0, 1) := dk_42 (dk_at dksX9_load_1 16 rfl rfl)
theorem dX9_load_40 : decode cX9_load 40 = .ok (.invokevirtual 254, 3) := dk_182 0 254 (dk_at dksX9_load_1 17 rfl rfl)
theorem dX9_load_43 : decode cX9_load 43 = .ok (.aload_n 0, 1) := dk_42 (dk_at dksX9_load_1 20 rfl rfl)
theorem dX9_load_44 : decode cX9_load 44 = .ok (.iconst 0, 1) := dk_3 (dk_at dksX9_load_1 21 rfl rfl)
theorem dX9_load_45 : decode cX9_load 45 = .ok (.invokevirtual 257, 3) := dk_182 1 1 (dk_at dksX9_load_2 0 rfl rfl)
theorem dX9_load_48 : decode cX9_load 48 = .ok (.aload_n 0, 1) := dk_42 (dk_at dksX9_load_2 3 rfl rfl)
theorem dX9_load_49 : decode cX9_load 49 = .ok (.iconst 1, 1) := dk_4 (dk_at dksX9_load_2 4 rfl rfl)
theorem dX9_load_50 : decode cX9_load 50 = .ok (.invokevirtual 257, 3) := dk_182 1 1 (dk_at dksX9_load_2 5 rfl rfl)
theorem dX9_load_53 : decode cX9_load 53 = .ok (.aload_n 0, 1) := dk_42 (dk_at dksX9_load_2 8 rfl rfl)
theorem dX9_load_54 : decode cX9_load 54 = .ok (.getfield 187, 3) := dk_180 0 187 (dk_at dksX9_load_2 9 rfl rfl)
theorem dX9_load_57 : decode cX9_load 57 = .ok (.ifCond .ne 18, 3) := dk_154 0 18 (dk_at dksX9_load_2 12 rfl rfl)
theorem dX9_load_60 : decode cX9_load 60 = .ok (.aload_n 0, 1) := dk_42 (dk_at dksX9_load_2 15 rfl rfl)
theorem dX9_load_61 : decode cX9_load 61 = .ok (.invokevirtual 193, 3) := dk_182 0 193 (dk_at dksX9_load_2 16 rfl rfl)
theorem dX9_load_64 : decode cX9_load 64 = .ok (.iconst (-1), 1) := dk_2 (dk_at dksX9_load_2 19 rfl rfl)
theorem dX9_load_65 : decode cX9_load 65 = .ok (.if_icmp .eq 10, 3) := dk_159 0 10 (dk_at dksX9_load_2 20 rfl rfl)
theorem dX9_load_68 : decode cX9_load 68 = .ok (.aload_n 0, 1) := dk_42 (dk_at dksX9_load_2 23 rfl rfl)
theorem dX9_load_69 : decode cX9_load 69 = .ok (.invokevirtual 260, 3) := dk_182 1 4 (dk_at dksX9_load_3 0 rfl rfl)
theorem dX9_load_72 : decode cX9_load 72 = .ok (.goto (-19), 3) := dk_167 255 237 (dk_at dksX9_load_3 3 rfl rfl)
theorem dX9_load_75 : decode cX9_load 75 = .ok (.aload_n 0, 1) := dk_42 (dk_at dksX9_load_3 6 rfl rfl)
theorem dX9_load_76 : decode cX9_load 76 = .ok (.aload_n 0, 1) := dk_42 (dk_at dksX9_load_3 7 rfl rfl)
theorem dX9_load_77 : decode cX9_load 77 = .ok (.invokevirtual 263, 3) := dk_182 1 7 (dk_at dksX9_load_3 8 rfl rfl)
theorem dX9_load_80 : decode cX9_load 80 = .ok (.invokevirtual 164, 3) := dk_182 0 164 (dk_at dksX9_load_3 11 rfl rfl)
theorem dX9_load_83 : decode cX9_load 83 = .ok (.ifCond .ne 18, 3) := dk_154 0 18 (dk_at dksX9_load_3 14 rfl rfl)
theorem dX9_load_86 : decode cX9_load 86 = .ok (.aload_n 0, 1) := dk_42 (dk_at dksX9_load_3 17 rfl rfl)
theorem dX9_load_87 : decode cX9_load 87 = .ok (.getfield 16, 3) := dk_180 0 16 (dk_at dksX9_load_3 18 rfl rfl)
theorem dX9_load_90 : decode cX9_load 90 = .ok (.iconst 0, 1) := dk_3 (dk_at dksX9_load_3 21 rfl rfl)
theorem dX9_load_91 : decode cX9_load 91 = .ok (.aload_n 0, 1) := dk_42 (dk_at dksX9_load_3 22 rfl rfl)
theorem dX9_load_92 : decode cX9_load 92 = .ok (.getfield 7, 3) := dk_180 0 7 (dk_at dksX9_load_4 0 rfl rfl)
theorem dX9_load_95 : decode cX9_load 95 = .ok (.iconst 0, 1) := dk_3 (dk_at dksX9_load_4 3 rfl rfl)
theorem dX9_load_96 : decode cX9_load 96 = .ok (.invokestatic 58, 3) := dk_184 0 58 (dk_at dksX9_load_4 4 rfl rfl)
theorem dX9_load_99 : decode cX9_load 99 = .ok (.iconst 0, 1) := dk_3 (dk_at dksX9_load_4 7 rfl rfl)
theorem dX9_load_100 : decode cX9_load 100 = .ok (.ireturn, 1) := dk_172 (dk_at dksX9_load_4 8 rfl rfl)
theorem dX9_load_101 : decode cX9_load 101 = .ok (.aload_n 0, 1) := dk_42 (dk_at dksX9_load_4 9 rfl rfl)
theorem dX9_load_102 : decode cX9_load 102 = .ok (.getfield 7, 3) := dk_180 0 7 (dk_at dksX9_load_4 10 rfl rfl)
theorem dX9_load_105 : decode cX9_load 105 = .ok (.bipush 10, 2) := dk_16 10 (dk_at dksX9_load_4 13 rfl rfl)
theorem dX9_load_107 : decode cX9_load 107 = .ok (.aload_n 0, 1) := dk_42 (dk_at dksX9_load_4 15 rfl rfl)
theorem dX9_load_108 : decode cX9_load 108 = .ok (.invokevirtual 266, 3) := dk_182 1 10 (dk_at dksX9_load_4 16 rfl rfl)
theorem dX9_load_111 : decode cX9_load 111 = .ok (.iastore, 1) := dk_79 (dk_at dksX9_load_4 19 rfl rfl)
theorem dX9_load_112 : decode cX9_load 112 = .ok (.aload_n 0, 1) := dk_42 (dk_at dksX9_load_4 20 rfl rfl)
theorem dX9_load_113 : decode cX9_load 113 = .ok (.iconst 0, 1) := dk_3 (dk_at dksX9_load_4 21 rfl rfl)
theorem dX9_load_114 : decode cX9_load 114 = .ok (.putfield 269, 3) := dk_181 1 13 (dk_at dksX9_load_5 0 rfl rfl)
theorem dX9_load_117 : decode cX9_load 117 = .ok (.aload_n 0, 1) := dk_42 (dk_at dksX9_load_5 3 rfl rfl)
theorem dX9_load_118 : decode cX9_load 118 = .ok (.getfield 7, 3) := dk_180 0 7 (dk_at dksX9_load_5 4 rfl rfl)
theorem dX9_load_121 : decode cX9_load 121 = .ok (.iconst 0, 1) := dk_3 (dk_at dksX9_load_5 7 rfl rfl)
theorem dX9_load_122 : decode cX9_load 122 = .ok (.iaload, 1) := dk_46 (dk_at dksX9_load_5 8 rfl rfl)
theorem dX9_load_123 : decode cX9_load 123 = .ok (.ireturn, 1) := dk_172 (dk_at dksX9_load_5 9 rfl rfl)
abbrev cX9_copies : ByteArray := prog_17_method_7_code
def yX9_copies : MethodName := ⟨RX9, "copies", "([II[II)V"⟩
def dkwX9_copies_1 : List UInt8 := [132, 4, 1, 167, 255, 233, 177]
abbrev dktX9_copies_1 : List UInt8 := dkwX9_copies_1 ++ []
def dkwX9_copies_0 : List UInt8 := [3, 54, 4, 21, 4, 17, 0, 167, 162, 0, 21, 44, 29, 21, 4, 96, 42, 27, 21, 4, 96, 46, 79]
abbrev dktX9_copies_0 : List UInt8 := dkwX9_copies_0 ++ dktX9_copies_1
theorem dksX9_copies_0 : cX9_copies.data.toList.drop 0 = dktX9_copies_0 := by decide +kernel
theorem dksX9_copies_1 : cX9_copies.data.toList.drop 23 = dktX9_copies_1 := dk_seg dksX9_copies_0 23 rfl rfl
theorem dX9_copies_0 : decode cX9_copies 0 = .ok (.iconst 0, 1) := dk_3 (dk_at dksX9_copies_0 0 rfl rfl)
theorem dX9_copies_1 : decode cX9_copies 1 = .ok (.istore 4, 2) := dk_54 4 (dk_at dksX9_copies_0 1 rfl rfl)
theorem dX9_copies_3 : decode cX9_copies 3 = .ok (.iload 4, 2) := dk_21 4 (dk_at dksX9_copies_0 3 rfl rfl)
theorem dX9_copies_5 : decode cX9_copies 5 = .ok (.sipush 167, 3) := dk_17 0 167 (dk_at dksX9_copies_0 5 rfl rfl)
theorem dX9_copies_8 : decode cX9_copies 8 = .ok (.if_icmp .ge 21, 3) := dk_162 0 21 (dk_at dksX9_copies_0 8 rfl rfl)
theorem dX9_copies_11 : decode cX9_copies 11 = .ok (.aload_n 2, 1) := dk_44 (dk_at dksX9_copies_0 11 rfl rfl)
theorem dX9_copies_12 : decode cX9_copies 12 = .ok (.iload_n 3, 1) := dk_29 (dk_at dksX9_copies_0 12 rfl rfl)
theorem dX9_copies_13 : decode cX9_copies 13 = .ok (.iload 4, 2) := dk_21 4 (dk_at dksX9_copies_0 13 rfl rfl)
theorem dX9_copies_15 : decode cX9_copies 15 = .ok (.iadd, 1) := dk_96 (dk_at dksX9_copies_0 15 rfl rfl)
theorem dX9_copies_16 : decode cX9_copies 16 = .ok (.aload_n 0, 1) := dk_42 (dk_at dksX9_copies_0 16 rfl rfl)
theorem dX9_copies_17 : decode cX9_copies 17 = .ok (.iload_n 1, 1) := dk_27 (dk_at dksX9_copies_0 17 rfl rfl)
theorem dX9_copies_18 : decode cX9_copies 18 = .ok (.iload 4, 2) := dk_21 4 (dk_at dksX9_copies_0 18 rfl rfl)
theorem dX9_copies_20 : decode cX9_copies 20 = .ok (.iadd, 1) := dk_96 (dk_at dksX9_copies_0 20 rfl rfl)
theorem dX9_copies_21 : decode cX9_copies 21 = .ok (.iaload, 1) := dk_46 (dk_at dksX9_copies_0 21 rfl rfl)
theorem dX9_copies_22 : decode cX9_copies 22 = .ok (.iastore, 1) := dk_79 (dk_at dksX9_copies_0 22 rfl rfl)
theorem dX9_copies_23 : decode cX9_copies 23 = .ok (.iinc 4 1, 3) := dk_132 4 1 (dk_at dksX9_copies_1 0 rfl rfl)
theorem dX9_copies_26 : decode cX9_copies 26 = .ok (.goto (-23), 3) := dk_167 255 233 (dk_at dksX9_copies_1 3 rfl rfl)
theorem dX9_copies_29 : decode cX9_copies 29 = .ok (.return_, 1) := dk_177 (dk_at dksX9_copies_1 6 rfl rfl)
abbrev cX9_startsText : ByteArray := prog_17_method_62_code
def yX9_startsText : MethodName := ⟨RX9, "startsText", "()V"⟩
def dkwX9_startsText_0 : List UInt8 := [42, 3, 181, 0, 171, 42, 3, 181, 0, 177, 42, 3, 181, 0, 187, 42, 2, 181, 0, 190, 177]
abbrev dktX9_startsText_0 : List UInt8 := dkwX9_startsText_0 ++ []
theorem dksX9_startsText_0 : cX9_startsText.data.toList.drop 0 = dktX9_startsText_0 := by decide +kernel
theorem dX9_startsText_0 : decode cX9_startsText 0 = .ok (.aload_n 0, 1) := dk_42 (dk_at dksX9_startsText_0 0 rfl rfl)
theorem dX9_startsText_1 : decode cX9_startsText 1 = .ok (.iconst 0, 1) := dk_3 (dk_at dksX9_startsText_0 1 rfl rfl)
theorem dX9_startsText_2 : decode cX9_startsText 2 = .ok (.putfield 171, 3) := dk_181 0 171 (dk_at dksX9_startsText_0 2 rfl rfl)
theorem dX9_startsText_5 : decode cX9_startsText 5 = .ok (.aload_n 0, 1) := dk_42 (dk_at dksX9_startsText_0 5 rfl rfl)
theorem dX9_startsText_6 : decode cX9_startsText 6 = .ok (.iconst 0, 1) := dk_3 (dk_at dksX9_startsText_0 6 rfl rfl)
theorem dX9_startsText_7 : decode cX9_startsText 7 = .ok (.putfield 177, 3) := dk_181 0 177 (dk_at dksX9_startsText_0 7 rfl rfl)
theorem dX9_startsText_10 : decode cX9_startsText 10 = .ok (.aload_n 0, 1) := dk_42 (dk_at dksX9_startsText_0 10 rfl rfl)
theorem dX9_startsText_11 : decode cX9_startsText 11 = .ok (.iconst 0, 1) := dk_3 (dk_at dksX9_startsText_0 11 rfl rfl)
theorem dX9_startsText_12 : decode cX9_startsText 12 = .ok (.putfield 187, 3) := dk_181 0 187 (dk_at dksX9_startsText_0 12 rfl rfl)
theorem dX9_startsText_15 : decode cX9_startsText 15 = .ok (.aload_n 0, 1) := dk_42 (dk_at dksX9_startsText_0 15 rfl rfl)
theorem dX9_startsText_16 : decode cX9_startsText 16 = .ok (.iconst (-1), 1) := dk_2 (dk_at dksX9_startsText_0 16 rfl rfl)
theorem dX9_startsText_17 : decode cX9_startsText 17 = .ok (.putfield 190, 3) := dk_181 0 190 (dk_at dksX9_startsText_0 17 rfl rfl)
theorem dX9_startsText_20 : decode cX9_startsText 20 = .ok (.return_, 1) := dk_177 (dk_at dksX9_startsText_0 20 rfl rfl)
abbrev cX9_roadLine : ByteArray := prog_17_method_66_code
def yX9_roadLine : MethodName := ⟨RX9, "roadLine", "()V"⟩
def dkwX9_roadLine_4 : List UInt8 := [182, 0, 229, 79, 42, 180, 0, 7, 16, 6, 42, 3, 16, 9, 182, 0, 229, 79, 42, 182, 0, 232, 177]
abbrev dktX9_roadLine_4 : List UInt8 := dkwX9_roadLine_4 ++ []
def dkwX9_roadLine_3 : List UInt8 := [79, 42, 180, 0, 7, 7, 42, 3, 17, 3, 231, 182, 0, 229, 79, 42, 180, 0, 7, 8, 42, 3, 16, 99]
abbrev dktX9_roadLine_3 : List UInt8 := dkwX9_roadLine_3 ++ dktX9_roadLine_4
def dkwX9_roadLine_2 : List UInt8 := [182, 0, 229, 79, 42, 180, 0, 7, 6, 42, 42, 180, 0, 7, 5, 46, 4, 96, 17, 3, 231, 182, 0, 229]
abbrev dktX9_roadLine_2 : List UInt8 := dkwX9_roadLine_2 ++ dktX9_roadLine_3
def dkwX9_roadLine_1 : List UInt8 := [42, 4, 42, 180, 0, 7, 3, 46, 5, 100, 182, 0, 229, 79, 42, 180, 0, 7, 5, 42, 3, 16, 50]
abbrev dktX9_roadLine_1 : List UInt8 := dkwX9_roadLine_1 ++ dktX9_roadLine_2
def dkwX9_roadLine_0 : List UInt8 := [42, 18, 223, 182, 0, 225, 42, 180, 0, 7, 3, 42, 6, 16, 20, 182, 0, 229, 79, 42, 180, 0, 7, 4]
abbrev dktX9_roadLine_0 : List UInt8 := dkwX9_roadLine_0 ++ dktX9_roadLine_1
theorem dksX9_roadLine_0 : cX9_roadLine.data.toList.drop 0 = dktX9_roadLine_0 := by decide +kernel
theorem dksX9_roadLine_1 : cX9_roadLine.data.toList.drop 24 = dktX9_roadLine_1 := dk_seg dksX9_roadLine_0 24 rfl rfl
theorem dksX9_roadLine_2 : cX9_roadLine.data.toList.drop 47 = dktX9_roadLine_2 := dk_seg dksX9_roadLine_1 23 rfl rfl
theorem dksX9_roadLine_3 : cX9_roadLine.data.toList.drop 71 = dktX9_roadLine_3 := dk_seg dksX9_roadLine_2 24 rfl rfl
theorem dksX9_roadLine_4 : cX9_roadLine.data.toList.drop 95 = dktX9_roadLine_4 := dk_seg dksX9_roadLine_3 24 rfl rfl
theorem dX9_roadLine_0 : decode cX9_roadLine 0 = .ok (.aload_n 0, 1) := dk_42 (dk_at dksX9_roadLine_0 0 rfl rfl)
theorem dX9_roadLine_1 : decode cX9_roadLine 1 = .ok (.ldc 223, 2) := dk_18 223 (dk_at dksX9_roadLine_0 1 rfl rfl)
theorem dX9_roadLine_3 : decode cX9_roadLine 3 = .ok (.invokevirtual 225, 3) := dk_182 0 225 (dk_at dksX9_roadLine_0 3 rfl rfl)
theorem dX9_roadLine_6 : decode cX9_roadLine 6 = .ok (.aload_n 0, 1) := dk_42 (dk_at dksX9_roadLine_0 6 rfl rfl)
theorem dX9_roadLine_7 : decode cX9_roadLine 7 = .ok (.getfield 7, 3) := dk_180 0 7 (dk_at dksX9_roadLine_0 7 rfl rfl)
theorem dX9_roadLine_10 : decode cX9_roadLine 10 = .ok (.iconst 0, 1) := dk_3 (dk_at dksX9_roadLine_0 10 rfl rfl)
theorem dX9_roadLine_11 : decode cX9_roadLine 11 = .ok (.aload_n 0, 1) := dk_42 (dk_at dksX9_roadLine_0 11 rfl rfl)
theorem dX9_roadLine_12 : decode cX9_roadLine 12 = .ok (.iconst 3, 1) := dk_6 (dk_at dksX9_roadLine_0 12 rfl rfl)
theorem dX9_roadLine_13 : decode cX9_roadLine 13 = .ok (.bipush 20, 2) := dk_16 20 (dk_at dksX9_roadLine_0 13 rfl rfl)
theorem dX9_roadLine_15 : decode cX9_roadLine 15 = .ok (.invokevirtual 229, 3) := dk_182 0 229 (dk_at dksX9_roadLine_0 15 rfl rfl)
theorem dX9_roadLine_18 : decode cX9_roadLine 18 = .ok (.iastore, 1) := dk_79 (dk_at dksX9_roadLine_0 18 rfl rfl)
theorem dX9_roadLine_19 : decode cX9_roadLine 19 = .ok (.aload_n 0, 1) := dk_42 (dk_at dksX9_roadLine_0 19 rfl rfl)
theorem dX9_roadLine_20 : decode cX9_roadLine 20 = .ok (.getfield 7, 3) := dk_180 0 7 (dk_at dksX9_roadLine_0 20 rfl rfl)
theorem dX9_roadLine_23 : decode cX9_roadLine 23 = .ok (.iconst 1, 1) := dk_4 (dk_at dksX9_roadLine_0 23 rfl rfl)
theorem dX9_roadLine_24 : decode cX9_roadLine 24 = .ok (.aload_n 0, 1) := dk_42 (dk_at dksX9_roadLine_1 0 rfl rfl)
theorem dX9_roadLine_25 : decode cX9_roadLine 25 = .ok (.iconst 1, 1) := dk_4 (dk_at dksX9_roadLine_1 1 rfl rfl)
theorem dX9_roadLine_26 : decode cX9_roadLine 26 = .ok (.aload_n 0, 1) := dk_42 (dk_at dksX9_roadLine_1 2 rfl rfl)
theorem dX9_roadLine_27 : decode cX9_roadLine 27 = .ok (.getfield 7, 3) := dk_180 0 7 (dk_at dksX9_roadLine_1 3 rfl rfl)
theorem dX9_roadLine_30 : decode cX9_roadLine 30 = .ok (.iconst 0, 1) := dk_3 (dk_at dksX9_roadLine_1 6 rfl rfl)
theorem dX9_roadLine_31 : decode cX9_roadLine 31 = .ok (.iaload, 1) := dk_46 (dk_at dksX9_roadLine_1 7 rfl rfl)
theorem dX9_roadLine_32 : decode cX9_roadLine 32 = .ok (.iconst 2, 1) := dk_5 (dk_at dksX9_roadLine_1 8 rfl rfl)
theorem dX9_roadLine_33 : decode cX9_roadLine 33 = .ok (.isub, 1) := dk_100 (dk_at dksX9_roadLine_1 9 rfl rfl)
theorem dX9_roadLine_34 : decode cX9_roadLine 34 = .ok (.invokevirtual 229, 3) := dk_182 0 229 (dk_at dksX9_roadLine_1 10 rfl rfl)
theorem dX9_roadLine_37 : decode cX9_roadLine 37 = .ok (.iastore, 1) := dk_79 (dk_at dksX9_roadLine_1 13 rfl rfl)
theorem dX9_roadLine_38 : decode cX9_roadLine 38 = .ok (.aload_n 0, 1) := dk_42 (dk_at dksX9_roadLine_1 14 rfl rfl)
theorem dX9_roadLine_39 : decode cX9_roadLine 39 = .ok (.getfield 7, 3) := dk_180 0 7 (dk_at dksX9_roadLine_1 15 rfl rfl)
theorem dX9_roadLine_42 : decode cX9_roadLine 42 = .ok (.iconst 2, 1) := dk_5 (dk_at dksX9_roadLine_1 18 rfl rfl)
theorem dX9_roadLine_43 : decode cX9_roadLine 43 = .ok (.aload_n 0, 1) := dk_42 (dk_at dksX9_roadLine_1 19 rfl rfl)
theorem dX9_roadLine_44 : decode cX9_roadLine 44 = .ok (.iconst 0, 1) := dk_3 (dk_at dksX9_roadLine_1 20 rfl rfl)
theorem dX9_roadLine_45 : decode cX9_roadLine 45 = .ok (.bipush 50, 2) := dk_16 50 (dk_at dksX9_roadLine_1 21 rfl rfl)
theorem dX9_roadLine_47 : decode cX9_roadLine 47 = .ok (.invokevirtual 229, 3) := dk_182 0 229 (dk_at dksX9_roadLine_2 0 rfl rfl)
theorem dX9_roadLine_50 : decode cX9_roadLine 50 = .ok (.iastore, 1) := dk_79 (dk_at dksX9_roadLine_2 3 rfl rfl)
theorem dX9_roadLine_51 : decode cX9_roadLine 51 = .ok (.aload_n 0, 1) := dk_42 (dk_at dksX9_roadLine_2 4 rfl rfl)
theorem dX9_roadLine_52 : decode cX9_roadLine 52 = .ok (.getfield 7, 3) := dk_180 0 7 (dk_at dksX9_roadLine_2 5 rfl rfl)
theorem dX9_roadLine_55 : decode cX9_roadLine 55 = .ok (.iconst 3, 1) := dk_6 (dk_at dksX9_roadLine_2 8 rfl rfl)
theorem dX9_roadLine_56 : decode cX9_roadLine 56 = .ok (.aload_n 0, 1) := dk_42 (dk_at dksX9_roadLine_2 9 rfl rfl)
theorem dX9_roadLine_57 : decode cX9_roadLine 57 = .ok (.aload_n 0, 1) := dk_42 (dk_at dksX9_roadLine_2 10 rfl rfl)
theorem dX9_roadLine_58 : decode cX9_roadLine 58 = .ok (.getfield 7, 3) := dk_180 0 7 (dk_at dksX9_roadLine_2 11 rfl rfl)
theorem dX9_roadLine_61 : decode cX9_roadLine 61 = .ok (.iconst 2, 1) := dk_5 (dk_at dksX9_roadLine_2 14 rfl rfl)
theorem dX9_roadLine_62 : decode cX9_roadLine 62 = .ok (.iaload, 1) := dk_46 (dk_at dksX9_roadLine_2 15 rfl rfl)
theorem dX9_roadLine_63 : decode cX9_roadLine 63 = .ok (.iconst 1, 1) := dk_4 (dk_at dksX9_roadLine_2 16 rfl rfl)
theorem dX9_roadLine_64 : decode cX9_roadLine 64 = .ok (.iadd, 1) := dk_96 (dk_at dksX9_roadLine_2 17 rfl rfl)
theorem dX9_roadLine_65 : decode cX9_roadLine 65 = .ok (.sipush 999, 3) := dk_17 3 231 (dk_at dksX9_roadLine_2 18 rfl rfl)
theorem dX9_roadLine_68 : decode cX9_roadLine 68 = .ok (.invokevirtual 229, 3) := dk_182 0 229 (dk_at dksX9_roadLine_2 21 rfl rfl)
theorem dX9_roadLine_71 : decode cX9_roadLine 71 = .ok (.iastore, 1) := dk_79 (dk_at dksX9_roadLine_3 0 rfl rfl)
theorem dX9_roadLine_72 : decode cX9_roadLine 72 = .ok (.aload_n 0, 1) := dk_42 (dk_at dksX9_roadLine_3 1 rfl rfl)
theorem dX9_roadLine_73 : decode cX9_roadLine 73 = .ok (.getfield 7, 3) := dk_180 0 7 (dk_at dksX9_roadLine_3 2 rfl rfl)
theorem dX9_roadLine_76 : decode cX9_roadLine 76 = .ok (.iconst 4, 1) := dk_7 (dk_at dksX9_roadLine_3 5 rfl rfl)
theorem dX9_roadLine_77 : decode cX9_roadLine 77 = .ok (.aload_n 0, 1) := dk_42 (dk_at dksX9_roadLine_3 6 rfl rfl)
theorem dX9_roadLine_78 : decode cX9_roadLine 78 = .ok (.iconst 0, 1) := dk_3 (dk_at dksX9_roadLine_3 7 rfl rfl)
theorem dX9_roadLine_79 : decode cX9_roadLine 79 = .ok (.sipush 999, 3) := dk_17 3 231 (dk_at dksX9_roadLine_3 8 rfl rfl)
theorem dX9_roadLine_82 : decode cX9_roadLine 82 = .ok (.invokevirtual 229, 3) := dk_182 0 229 (dk_at dksX9_roadLine_3 11 rfl rfl)
theorem dX9_roadLine_85 : decode cX9_roadLine 85 = .ok (.iastore, 1) := dk_79 (dk_at dksX9_roadLine_3 14 rfl rfl)
theorem dX9_roadLine_86 : decode cX9_roadLine 86 = .ok (.aload_n 0, 1) := dk_42 (dk_at dksX9_roadLine_3 15 rfl rfl)
theorem dX9_roadLine_87 : decode cX9_roadLine 87 = .ok (.getfield 7, 3) := dk_180 0 7 (dk_at dksX9_roadLine_3 16 rfl rfl)
theorem dX9_roadLine_90 : decode cX9_roadLine 90 = .ok (.iconst 5, 1) := dk_8 (dk_at dksX9_roadLine_3 19 rfl rfl)
theorem dX9_roadLine_91 : decode cX9_roadLine 91 = .ok (.aload_n 0, 1) := dk_42 (dk_at dksX9_roadLine_3 20 rfl rfl)
theorem dX9_roadLine_92 : decode cX9_roadLine 92 = .ok (.iconst 0, 1) := dk_3 (dk_at dksX9_roadLine_3 21 rfl rfl)
theorem dX9_roadLine_93 : decode cX9_roadLine 93 = .ok (.bipush 99, 2) := dk_16 99 (dk_at dksX9_roadLine_3 22 rfl rfl)
theorem dX9_roadLine_95 : decode cX9_roadLine 95 = .ok (.invokevirtual 229, 3) := dk_182 0 229 (dk_at dksX9_roadLine_4 0 rfl rfl)
theorem dX9_roadLine_98 : decode cX9_roadLine 98 = .ok (.iastore, 1) := dk_79 (dk_at dksX9_roadLine_4 3 rfl rfl)
theorem dX9_roadLine_99 : decode cX9_roadLine 99 = .ok (.aload_n 0, 1) := dk_42 (dk_at dksX9_roadLine_4 4 rfl rfl)
theorem dX9_roadLine_100 : decode cX9_roadLine 100 = .ok (.getfield 7, 3) := dk_180 0 7 (dk_at dksX9_roadLine_4 5 rfl rfl)
theorem dX9_roadLine_103 : decode cX9_roadLine 103 = .ok (.bipush 6, 2) := dk_16 6 (dk_at dksX9_roadLine_4 8 rfl rfl)
theorem dX9_roadLine_105 : decode cX9_roadLine 105 = .ok (.aload_n 0, 1) := dk_42 (dk_at dksX9_roadLine_4 10 rfl rfl)
theorem dX9_roadLine_106 : decode cX9_roadLine 106 = .ok (.iconst 0, 1) := dk_3 (dk_at dksX9_roadLine_4 11 rfl rfl)
theorem dX9_roadLine_107 : decode cX9_roadLine 107 = .ok (.bipush 9, 2) := dk_16 9 (dk_at dksX9_roadLine_4 12 rfl rfl)
theorem dX9_roadLine_109 : decode cX9_roadLine 109 = .ok (.invokevirtual 229, 3) := dk_182 0 229 (dk_at dksX9_roadLine_4 14 rfl rfl)
theorem dX9_roadLine_112 : decode cX9_roadLine 112 = .ok (.iastore, 1) := dk_79 (dk_at dksX9_roadLine_4 17 rfl rfl)
theorem dX9_roadLine_113 : decode cX9_roadLine 113 = .ok (.aload_n 0, 1) := dk_42 (dk_at dksX9_roadLine_4 18 rfl rfl)
theorem dX9_roadLine_114 : decode cX9_roadLine 114 = .ok (.invokevirtual 232, 3) := dk_182 0 232 (dk_at dksX9_roadLine_4 19 rfl rfl)
theorem dX9_roadLine_117 : decode cX9_roadLine 117 = .ok (.return_, 1) := dk_177 (dk_at dksX9_roadLine_4 22 rfl rfl)
abbrev cX9_keyword : ByteArray := prog_17_method_56_code
def yX9_keyword : MethodName := ⟨RX9, "keyword", "(Ljava/lang/String;)V"⟩
def dkwX9_keyword_0 : List UInt8 := [42, 42, 43, 182, 0, 196, 4, 182, 0, 200, 42, 182, 0, 204, 177]
abbrev dktX9_keyword_0 : List UInt8 := dkwX9_keyword_0 ++ []
theorem dksX9_keyword_0 : cX9_keyword.data.toList.drop 0 = dktX9_keyword_0 := by decide +kernel
theorem dX9_keyword_0 : decode cX9_keyword 0 = .ok (.aload_n 0, 1) := dk_42 (dk_at dksX9_keyword_0 0 rfl rfl)
theorem dX9_keyword_1 : decode cX9_keyword 1 = .ok (.aload_n 0, 1) := dk_42 (dk_at dksX9_keyword_0 1 rfl rfl)
theorem dX9_keyword_2 : decode cX9_keyword 2 = .ok (.aload_n 1, 1) := dk_43 (dk_at dksX9_keyword_0 2 rfl rfl)
theorem dX9_keyword_3 : decode cX9_keyword 3 = .ok (.invokevirtual 196, 3) := dk_182 0 196 (dk_at dksX9_keyword_0 3 rfl rfl)
theorem dX9_keyword_6 : decode cX9_keyword 6 = .ok (.iconst 1, 1) := dk_4 (dk_at dksX9_keyword_0 6 rfl rfl)
theorem dX9_keyword_7 : decode cX9_keyword 7 = .ok (.invokevirtual 200, 3) := dk_182 0 200 (dk_at dksX9_keyword_0 7 rfl rfl)
theorem dX9_keyword_10 : decode cX9_keyword 10 = .ok (.aload_n 0, 1) := dk_42 (dk_at dksX9_keyword_0 10 rfl rfl)
theorem dX9_keyword_11 : decode cX9_keyword 11 = .ok (.invokevirtual 204, 3) := dk_182 0 204 (dk_at dksX9_keyword_0 11 rfl rfl)
theorem dX9_keyword_14 : decode cX9_keyword 14 = .ok (.return_, 1) := dk_177 (dk_at dksX9_keyword_0 14 rfl rfl)
abbrev cX9_sees : ByteArray := prog_17_method_54_code
def yX9_sees : MethodName := ⟨RX9, "sees", "(Ljava/lang/String;)Z"⟩
def dkwX9_sees_2 : List UInt8 := [182, 0, 46, 159, 0, 5, 3, 172, 132, 3, 1, 167, 255, 225, 4, 172]
abbrev dktX9_sees_2 : List UInt8 := dkwX9_sees_2 ++ []
def dkwX9_sees_1 : List UInt8 := [172, 3, 62, 29, 42, 180, 0, 180, 162, 0, 29, 42, 42, 180, 0, 177, 29, 96, 182, 0, 174, 43, 29]
abbrev dktX9_sees_1 : List UInt8 := dkwX9_sees_1 ++ dktX9_sees_2
def dkwX9_sees_0 : List UInt8 := [42, 182, 0, 193, 61, 42, 180, 0, 187, 154, 0, 14, 42, 180, 0, 180, 43, 182, 0, 40, 159, 0, 5, 3]
abbrev dktX9_sees_0 : List UInt8 := dkwX9_sees_0 ++ dktX9_sees_1
theorem dksX9_sees_0 : cX9_sees.data.toList.drop 0 = dktX9_sees_0 := by decide +kernel
theorem dksX9_sees_1 : cX9_sees.data.toList.drop 24 = dktX9_sees_1 := dk_seg dksX9_sees_0 24 rfl rfl
theorem dksX9_sees_2 : cX9_sees.data.toList.drop 47 = dktX9_sees_2 := dk_seg dksX9_sees_1 23 rfl rfl
theorem dX9_sees_0 : decode cX9_sees 0 = .ok (.aload_n 0, 1) := dk_42 (dk_at dksX9_sees_0 0 rfl rfl)
theorem dX9_sees_1 : decode cX9_sees 1 = .ok (.invokevirtual 193, 3) := dk_182 0 193 (dk_at dksX9_sees_0 1 rfl rfl)
theorem dX9_sees_4 : decode cX9_sees 4 = .ok (.istore_n 2, 1) := dk_61 (dk_at dksX9_sees_0 4 rfl rfl)
theorem dX9_sees_5 : decode cX9_sees 5 = .ok (.aload_n 0, 1) := dk_42 (dk_at dksX9_sees_0 5 rfl rfl)
theorem dX9_sees_6 : decode cX9_sees 6 = .ok (.getfield 187, 3) := dk_180 0 187 (dk_at dksX9_sees_0 6 rfl rfl)
theorem dX9_sees_9 : decode cX9_sees 9 = .ok (.ifCond .ne 14, 3) := dk_154 0 14 (dk_at dksX9_sees_0 9 rfl rfl)
theorem dX9_sees_12 : decode cX9_sees 12 = .ok (.aload_n 0, 1) := dk_42 (dk_at dksX9_sees_0 12 rfl rfl)
theorem dX9_sees_13 : decode cX9_sees 13 = .ok (.getfield 180, 3) := dk_180 0 180 (dk_at dksX9_sees_0 13 rfl rfl)
theorem dX9_sees_16 : decode cX9_sees 16 = .ok (.aload_n 1, 1) := dk_43 (dk_at dksX9_sees_0 16 rfl rfl)
theorem dX9_sees_17 : decode cX9_sees 17 = .ok (.invokevirtual 40, 3) := dk_182 0 40 (dk_at dksX9_sees_0 17 rfl rfl)
theorem dX9_sees_20 : decode cX9_sees 20 = .ok (.if_icmp .eq 5, 3) := dk_159 0 5 (dk_at dksX9_sees_0 20 rfl rfl)
theorem dX9_sees_23 : decode cX9_sees 23 = .ok (.iconst 0, 1) := dk_3 (dk_at dksX9_sees_0 23 rfl rfl)
theorem dX9_sees_24 : decode cX9_sees 24 = .ok (.ireturn, 1) := dk_172 (dk_at dksX9_sees_1 0 rfl rfl)
theorem dX9_sees_25 : decode cX9_sees 25 = .ok (.iconst 0, 1) := dk_3 (dk_at dksX9_sees_1 1 rfl rfl)
theorem dX9_sees_26 : decode cX9_sees 26 = .ok (.istore_n 3, 1) := dk_62 (dk_at dksX9_sees_1 2 rfl rfl)
theorem dX9_sees_27 : decode cX9_sees 27 = .ok (.iload_n 3, 1) := dk_29 (dk_at dksX9_sees_1 3 rfl rfl)
theorem dX9_sees_28 : decode cX9_sees 28 = .ok (.aload_n 0, 1) := dk_42 (dk_at dksX9_sees_1 4 rfl rfl)
theorem dX9_sees_29 : decode cX9_sees 29 = .ok (.getfield 180, 3) := dk_180 0 180 (dk_at dksX9_sees_1 5 rfl rfl)
theorem dX9_sees_32 : decode cX9_sees 32 = .ok (.if_icmp .ge 29, 3) := dk_162 0 29 (dk_at dksX9_sees_1 8 rfl rfl)
theorem dX9_sees_35 : decode cX9_sees 35 = .ok (.aload_n 0, 1) := dk_42 (dk_at dksX9_sees_1 11 rfl rfl)
theorem dX9_sees_36 : decode cX9_sees 36 = .ok (.aload_n 0, 1) := dk_42 (dk_at dksX9_sees_1 12 rfl rfl)
theorem dX9_sees_37 : decode cX9_sees 37 = .ok (.getfield 177, 3) := dk_180 0 177 (dk_at dksX9_sees_1 13 rfl rfl)
theorem dX9_sees_40 : decode cX9_sees 40 = .ok (.iload_n 3, 1) := dk_29 (dk_at dksX9_sees_1 16 rfl rfl)
theorem dX9_sees_41 : decode cX9_sees 41 = .ok (.iadd, 1) := dk_96 (dk_at dksX9_sees_1 17 rfl rfl)
theorem dX9_sees_42 : decode cX9_sees 42 = .ok (.invokevirtual 174, 3) := dk_182 0 174 (dk_at dksX9_sees_1 18 rfl rfl)
theorem dX9_sees_45 : decode cX9_sees 45 = .ok (.aload_n 1, 1) := dk_43 (dk_at dksX9_sees_1 21 rfl rfl)
theorem dX9_sees_46 : decode cX9_sees 46 = .ok (.iload_n 3, 1) := dk_29 (dk_at dksX9_sees_1 22 rfl rfl)
theorem dX9_sees_47 : decode cX9_sees 47 = .ok (.invokevirtual 46, 3) := dk_182 0 46 (dk_at dksX9_sees_2 0 rfl rfl)
theorem dX9_sees_50 : decode cX9_sees 50 = .ok (.if_icmp .eq 5, 3) := dk_159 0 5 (dk_at dksX9_sees_2 3 rfl rfl)
theorem dX9_sees_53 : decode cX9_sees 53 = .ok (.iconst 0, 1) := dk_3 (dk_at dksX9_sees_2 6 rfl rfl)
theorem dX9_sees_54 : decode cX9_sees 54 = .ok (.ireturn, 1) := dk_172 (dk_at dksX9_sees_2 7 rfl rfl)
theorem dX9_sees_55 : decode cX9_sees 55 = .ok (.iinc 3 1, 3) := dk_132 3 1 (dk_at dksX9_sees_2 8 rfl rfl)
theorem dX9_sees_58 : decode cX9_sees 58 = .ok (.goto (-31), 3) := dk_167 255 225 (dk_at dksX9_sees_2 11 rfl rfl)
theorem dX9_sees_61 : decode cX9_sees 61 = .ok (.iconst 1, 1) := dk_4 (dk_at dksX9_sees_2 14 rfl rfl)
theorem dX9_sees_62 : decode cX9_sees 62 = .ok (.ireturn, 1) := dk_172 (dk_at dksX9_sees_2 15 rfl rfl)
abbrev cX9_next : ByteArray := prog_17_method_52_code
def yX9_next : MethodName := ⟨RX9, "next", "()I"⟩
def dkwX9_next_3 : List UInt8 := [180, 0, 180, 4, 96, 181, 0, 180, 167, 255, 220, 42, 42, 180, 0, 171, 182, 0, 174, 172]
abbrev dktX9_next_3 : List UInt8 := dkwX9_next_3 ++ []
def dkwX9_next_2 : List UInt8 := [180, 0, 180, 96, 182, 0, 174, 133, 20, 0, 183, 20, 0, 185, 184, 0, 62, 153, 0, 16, 42, 89]
abbrev dktX9_next_2 : List UInt8 := dkwX9_next_2 ++ dktX9_next_3
def dkwX9_next_1 : List UInt8 := [167, 255, 233, 42, 42, 180, 0, 171, 181, 0, 177, 42, 3, 181, 0, 180, 42, 42, 180, 0, 177, 42]
abbrev dktX9_next_1 : List UInt8 := dkwX9_next_1 ++ dktX9_next_2
def dkwX9_next_0 : List UInt8 := [42, 42, 180, 0, 171, 182, 0, 174, 16, 32, 160, 0, 16, 42, 89, 180, 0, 171, 4, 96, 181, 0, 171]
abbrev dktX9_next_0 : List UInt8 := dkwX9_next_0 ++ dktX9_next_1
theorem dksX9_next_0 : cX9_next.data.toList.drop 0 = dktX9_next_0 := by decide +kernel
theorem dksX9_next_1 : cX9_next.data.toList.drop 23 = dktX9_next_1 := dk_seg dksX9_next_0 23 rfl rfl
theorem dksX9_next_2 : cX9_next.data.toList.drop 45 = dktX9_next_2 := dk_seg dksX9_next_1 22 rfl rfl
theorem dksX9_next_3 : cX9_next.data.toList.drop 67 = dktX9_next_3 := dk_seg dksX9_next_2 22 rfl rfl
theorem dX9_next_0 : decode cX9_next 0 = .ok (.aload_n 0, 1) := dk_42 (dk_at dksX9_next_0 0 rfl rfl)
theorem dX9_next_1 : decode cX9_next 1 = .ok (.aload_n 0, 1) := dk_42 (dk_at dksX9_next_0 1 rfl rfl)
theorem dX9_next_2 : decode cX9_next 2 = .ok (.getfield 171, 3) := dk_180 0 171 (dk_at dksX9_next_0 2 rfl rfl)
theorem dX9_next_5 : decode cX9_next 5 = .ok (.invokevirtual 174, 3) := dk_182 0 174 (dk_at dksX9_next_0 5 rfl rfl)
theorem dX9_next_8 : decode cX9_next 8 = .ok (.bipush 32, 2) := dk_16 32 (dk_at dksX9_next_0 8 rfl rfl)
theorem dX9_next_10 : decode cX9_next 10 = .ok (.if_icmp .ne 16, 3) := dk_160 0 16 (dk_at dksX9_next_0 10 rfl rfl)
theorem dX9_next_13 : decode cX9_next 13 = .ok (.aload_n 0, 1) := dk_42 (dk_at dksX9_next_0 13 rfl rfl)
theorem dX9_next_14 : decode cX9_next 14 = .ok (.dup, 1) := dk_89 (dk_at dksX9_next_0 14 rfl rfl)
theorem dX9_next_15 : decode cX9_next 15 = .ok (.getfield 171, 3) := dk_180 0 171 (dk_at dksX9_next_0 15 rfl rfl)
theorem dX9_next_18 : decode cX9_next 18 = .ok (.iconst 1, 1) := dk_4 (dk_at dksX9_next_0 18 rfl rfl)
theorem dX9_next_19 : decode cX9_next 19 = .ok (.iadd, 1) := dk_96 (dk_at dksX9_next_0 19 rfl rfl)
theorem dX9_next_20 : decode cX9_next 20 = .ok (.putfield 171, 3) := dk_181 0 171 (dk_at dksX9_next_0 20 rfl rfl)
theorem dX9_next_23 : decode cX9_next 23 = .ok (.goto (-23), 3) := dk_167 255 233 (dk_at dksX9_next_1 0 rfl rfl)
theorem dX9_next_26 : decode cX9_next 26 = .ok (.aload_n 0, 1) := dk_42 (dk_at dksX9_next_1 3 rfl rfl)
theorem dX9_next_27 : decode cX9_next 27 = .ok (.aload_n 0, 1) := dk_42 (dk_at dksX9_next_1 4 rfl rfl)
theorem dX9_next_28 : decode cX9_next 28 = .ok (.getfield 171, 3) := dk_180 0 171 (dk_at dksX9_next_1 5 rfl rfl)
theorem dX9_next_31 : decode cX9_next 31 = .ok (.putfield 177, 3) := dk_181 0 177 (dk_at dksX9_next_1 8 rfl rfl)
theorem dX9_next_34 : decode cX9_next 34 = .ok (.aload_n 0, 1) := dk_42 (dk_at dksX9_next_1 11 rfl rfl)
theorem dX9_next_35 : decode cX9_next 35 = .ok (.iconst 0, 1) := dk_3 (dk_at dksX9_next_1 12 rfl rfl)
theorem dX9_next_36 : decode cX9_next 36 = .ok (.putfield 180, 3) := dk_181 0 180 (dk_at dksX9_next_1 13 rfl rfl)
theorem dX9_next_39 : decode cX9_next 39 = .ok (.aload_n 0, 1) := dk_42 (dk_at dksX9_next_1 16 rfl rfl)
theorem dX9_next_40 : decode cX9_next 40 = .ok (.aload_n 0, 1) := dk_42 (dk_at dksX9_next_1 17 rfl rfl)
theorem dX9_next_41 : decode cX9_next 41 = .ok (.getfield 177, 3) := dk_180 0 177 (dk_at dksX9_next_1 18 rfl rfl)
theorem dX9_next_44 : decode cX9_next 44 = .ok (.aload_n 0, 1) := dk_42 (dk_at dksX9_next_1 21 rfl rfl)
theorem dX9_next_45 : decode cX9_next 45 = .ok (.getfield 180, 3) := dk_180 0 180 (dk_at dksX9_next_2 0 rfl rfl)
theorem dX9_next_48 : decode cX9_next 48 = .ok (.iadd, 1) := dk_96 (dk_at dksX9_next_2 3 rfl rfl)
theorem dX9_next_49 : decode cX9_next 49 = .ok (.invokevirtual 174, 3) := dk_182 0 174 (dk_at dksX9_next_2 4 rfl rfl)
theorem dX9_next_52 : decode cX9_next 52 = .ok (.i2l, 1) := dk_133 (dk_at dksX9_next_2 7 rfl rfl)
theorem dX9_next_53 : decode cX9_next 53 = .ok (.ldc2_w 183, 3) := dk_20 0 183 (dk_at dksX9_next_2 8 rfl rfl)
theorem dX9_next_56 : decode cX9_next 56 = .ok (.ldc2_w 185, 3) := dk_20 0 185 (dk_at dksX9_next_2 11 rfl rfl)
theorem dX9_next_59 : decode cX9_next 59 = .ok (.invokestatic 62, 3) := dk_184 0 62 (dk_at dksX9_next_2 14 rfl rfl)
theorem dX9_next_62 : decode cX9_next 62 = .ok (.ifCond .eq 16, 3) := dk_153 0 16 (dk_at dksX9_next_2 17 rfl rfl)
theorem dX9_next_65 : decode cX9_next 65 = .ok (.aload_n 0, 1) := dk_42 (dk_at dksX9_next_2 20 rfl rfl)
theorem dX9_next_66 : decode cX9_next 66 = .ok (.dup, 1) := dk_89 (dk_at dksX9_next_2 21 rfl rfl)
theorem dX9_next_67 : decode cX9_next 67 = .ok (.getfield 180, 3) := dk_180 0 180 (dk_at dksX9_next_3 0 rfl rfl)
theorem dX9_next_70 : decode cX9_next 70 = .ok (.iconst 1, 1) := dk_4 (dk_at dksX9_next_3 3 rfl rfl)
theorem dX9_next_71 : decode cX9_next 71 = .ok (.iadd, 1) := dk_96 (dk_at dksX9_next_3 4 rfl rfl)
theorem dX9_next_72 : decode cX9_next 72 = .ok (.putfield 180, 3) := dk_181 0 180 (dk_at dksX9_next_3 5 rfl rfl)
theorem dX9_next_75 : decode cX9_next 75 = .ok (.goto (-36), 3) := dk_167 255 220 (dk_at dksX9_next_3 8 rfl rfl)
theorem dX9_next_78 : decode cX9_next 78 = .ok (.aload_n 0, 1) := dk_42 (dk_at dksX9_next_3 11 rfl rfl)
theorem dX9_next_79 : decode cX9_next 79 = .ok (.aload_n 0, 1) := dk_42 (dk_at dksX9_next_3 12 rfl rfl)
theorem dX9_next_80 : decode cX9_next 80 = .ok (.getfield 171, 3) := dk_180 0 171 (dk_at dksX9_next_3 13 rfl rfl)
theorem dX9_next_83 : decode cX9_next 83 = .ok (.invokevirtual 174, 3) := dk_182 0 174 (dk_at dksX9_next_3 16 rfl rfl)
theorem dX9_next_86 : decode cX9_next 86 = .ok (.ireturn, 1) := dk_172 (dk_at dksX9_next_3 19 rfl rfl)
abbrev cX9_byteAt : ByteArray := prog_17_method_51_code
def yX9_byteAt : MethodName := ⟨RX9, "byteAt", "(I)I"⟩
def dkwX9_byteAt_0 : List UInt8 := [27, 42, 180, 0, 50, 162, 0, 12, 42, 180, 0, 25, 27, 46, 167, 0, 4, 2, 172]
abbrev dktX9_byteAt_0 : List UInt8 := dkwX9_byteAt_0 ++ []
theorem dksX9_byteAt_0 : cX9_byteAt.data.toList.drop 0 = dktX9_byteAt_0 := by decide +kernel
theorem dX9_byteAt_0 : decode cX9_byteAt 0 = .ok (.iload_n 1, 1) := dk_27 (dk_at dksX9_byteAt_0 0 rfl rfl)
theorem dX9_byteAt_1 : decode cX9_byteAt 1 = .ok (.aload_n 0, 1) := dk_42 (dk_at dksX9_byteAt_0 1 rfl rfl)
theorem dX9_byteAt_2 : decode cX9_byteAt 2 = .ok (.getfield 50, 3) := dk_180 0 50 (dk_at dksX9_byteAt_0 2 rfl rfl)
theorem dX9_byteAt_5 : decode cX9_byteAt 5 = .ok (.if_icmp .ge 12, 3) := dk_162 0 12 (dk_at dksX9_byteAt_0 5 rfl rfl)
theorem dX9_byteAt_8 : decode cX9_byteAt 8 = .ok (.aload_n 0, 1) := dk_42 (dk_at dksX9_byteAt_0 8 rfl rfl)
theorem dX9_byteAt_9 : decode cX9_byteAt 9 = .ok (.getfield 25, 3) := dk_180 0 25 (dk_at dksX9_byteAt_0 9 rfl rfl)
theorem dX9_byteAt_12 : decode cX9_byteAt 12 = .ok (.iload_n 1, 1) := dk_27 (dk_at dksX9_byteAt_0 12 rfl rfl)
theorem dX9_byteAt_13 : decode cX9_byteAt 13 = .ok (.iaload, 1) := dk_46 (dk_at dksX9_byteAt_0 13 rfl rfl)
theorem dX9_byteAt_14 : decode cX9_byteAt 14 = .ok (.goto 4, 3) := dk_167 0 4 (dk_at dksX9_byteAt_0 14 rfl rfl)
theorem dX9_byteAt_17 : decode cX9_byteAt 17 = .ok (.iconst (-1), 1) := dk_2 (dk_at dksX9_byteAt_0 17 rfl rfl)
theorem dX9_byteAt_18 : decode cX9_byteAt 18 = .ok (.ireturn, 1) := dk_172 (dk_at dksX9_byteAt_0 18 rfl rfl)
abbrev cX9_in : ByteArray := prog_17_method_3_code
def yX9_in : MethodName := ⟨RX9, "in", "(JJJ)Z"⟩
def dkwX9_in_0 : List UInt8 := [30, 32, 148, 155, 0, 14, 30, 22, 4, 148, 157, 0, 7, 4, 167, 0, 4, 3, 172]
abbrev dktX9_in_0 : List UInt8 := dkwX9_in_0 ++ []
theorem dksX9_in_0 : cX9_in.data.toList.drop 0 = dktX9_in_0 := by decide +kernel
theorem dX9_in_0 : decode cX9_in 0 = .ok (.lload_n 0, 1) := dk_30 (dk_at dksX9_in_0 0 rfl rfl)
theorem dX9_in_1 : decode cX9_in 1 = .ok (.lload_n 2, 1) := dk_32 (dk_at dksX9_in_0 1 rfl rfl)
theorem dX9_in_2 : decode cX9_in 2 = .ok (.lcmp, 1) := dk_148 (dk_at dksX9_in_0 2 rfl rfl)
theorem dX9_in_3 : decode cX9_in 3 = .ok (.ifCond .lt 14, 3) := dk_155 0 14 (dk_at dksX9_in_0 3 rfl rfl)
theorem dX9_in_6 : decode cX9_in 6 = .ok (.lload_n 0, 1) := dk_30 (dk_at dksX9_in_0 6 rfl rfl)
theorem dX9_in_7 : decode cX9_in 7 = .ok (.lload 4, 2) := dk_22 4 (dk_at dksX9_in_0 7 rfl rfl)
theorem dX9_in_9 : decode cX9_in 9 = .ok (.lcmp, 1) := dk_148 (dk_at dksX9_in_0 9 rfl rfl)
theorem dX9_in_10 : decode cX9_in 10 = .ok (.ifCond .gt 7, 3) := dk_157 0 7 (dk_at dksX9_in_0 10 rfl rfl)
theorem dX9_in_13 : decode cX9_in 13 = .ok (.iconst 1, 1) := dk_4 (dk_at dksX9_in_0 13 rfl rfl)
theorem dX9_in_14 : decode cX9_in 14 = .ok (.goto 4, 3) := dk_167 0 4 (dk_at dksX9_in_0 14 rfl rfl)
theorem dX9_in_17 : decode cX9_in 17 = .ok (.iconst 0, 1) := dk_3 (dk_at dksX9_in_0 17 rfl rfl)
theorem dX9_in_18 : decode cX9_in 18 = .ok (.ireturn, 1) := dk_172 (dk_at dksX9_in_0 18 rfl rfl)
abbrev cX9_must : ByteArray := prog_17_method_53_code
def yX9_must : MethodName := ⟨RX9, "must", "(ZI)V"⟩
def dkwX9_must_1 : List UInt8 := [181, 0, 190, 177]
abbrev dktX9_must_1 : List UInt8 := dkwX9_must_1 ++ []
def dkwX9_must_0 : List UInt8 := [27, 154, 0, 10, 42, 180, 0, 187, 153, 0, 4, 177, 42, 28, 181, 0, 187, 42, 42, 180, 0, 177]
abbrev dktX9_must_0 : List UInt8 := dkwX9_must_0 ++ dktX9_must_1
theorem dksX9_must_0 : cX9_must.data.toList.drop 0 = dktX9_must_0 := by decide +kernel
theorem dksX9_must_1 : cX9_must.data.toList.drop 22 = dktX9_must_1 := dk_seg dksX9_must_0 22 rfl rfl
theorem dX9_must_0 : decode cX9_must 0 = .ok (.iload_n 1, 1) := dk_27 (dk_at dksX9_must_0 0 rfl rfl)
theorem dX9_must_1 : decode cX9_must 1 = .ok (.ifCond .ne 10, 3) := dk_154 0 10 (dk_at dksX9_must_0 1 rfl rfl)
theorem dX9_must_4 : decode cX9_must 4 = .ok (.aload_n 0, 1) := dk_42 (dk_at dksX9_must_0 4 rfl rfl)
theorem dX9_must_5 : decode cX9_must 5 = .ok (.getfield 187, 3) := dk_180 0 187 (dk_at dksX9_must_0 5 rfl rfl)
theorem dX9_must_8 : decode cX9_must 8 = .ok (.ifCond .eq 4, 3) := dk_153 0 4 (dk_at dksX9_must_0 8 rfl rfl)
theorem dX9_must_11 : decode cX9_must 11 = .ok (.return_, 1) := dk_177 (dk_at dksX9_must_0 11 rfl rfl)
theorem dX9_must_12 : decode cX9_must 12 = .ok (.aload_n 0, 1) := dk_42 (dk_at dksX9_must_0 12 rfl rfl)
theorem dX9_must_13 : decode cX9_must 13 = .ok (.iload_n 2, 1) := dk_28 (dk_at dksX9_must_0 13 rfl rfl)
theorem dX9_must_14 : decode cX9_must 14 = .ok (.putfield 187, 3) := dk_181 0 187 (dk_at dksX9_must_0 14 rfl rfl)
theorem dX9_must_17 : decode cX9_must 17 = .ok (.aload_n 0, 1) := dk_42 (dk_at dksX9_must_0 17 rfl rfl)
theorem dX9_must_18 : decode cX9_must 18 = .ok (.aload_n 0, 1) := dk_42 (dk_at dksX9_must_0 18 rfl rfl)
theorem dX9_must_19 : decode cX9_must 19 = .ok (.getfield 177, 3) := dk_180 0 177 (dk_at dksX9_must_0 19 rfl rfl)
theorem dX9_must_22 : decode cX9_must 22 = .ok (.putfield 190, 3) := dk_181 0 190 (dk_at dksX9_must_1 0 rfl rfl)
theorem dX9_must_25 : decode cX9_must 25 = .ok (.return_, 1) := dk_177 (dk_at dksX9_must_1 3 rfl rfl)
abbrev cX9_goesPast : ByteArray := prog_17_method_55_code
def yX9_goesPast : MethodName := ⟨RX9, "goesPast", "()V"⟩
def dkwX9_goesPast_0 : List UInt8 := [42, 42, 180, 0, 177, 42, 180, 0, 180, 96, 181, 0, 171, 177]
abbrev dktX9_goesPast_0 : List UInt8 := dkwX9_goesPast_0 ++ []
theorem dksX9_goesPast_0 : cX9_goesPast.data.toList.drop 0 = dktX9_goesPast_0 := by decide +kernel
theorem dX9_goesPast_0 : decode cX9_goesPast 0 = .ok (.aload_n 0, 1) := dk_42 (dk_at dksX9_goesPast_0 0 rfl rfl)
theorem dX9_goesPast_1 : decode cX9_goesPast 1 = .ok (.aload_n 0, 1) := dk_42 (dk_at dksX9_goesPast_0 1 rfl rfl)
theorem dX9_goesPast_2 : decode cX9_goesPast 2 = .ok (.getfield 177, 3) := dk_180 0 177 (dk_at dksX9_goesPast_0 2 rfl rfl)
theorem dX9_goesPast_5 : decode cX9_goesPast 5 = .ok (.aload_n 0, 1) := dk_42 (dk_at dksX9_goesPast_0 5 rfl rfl)
theorem dX9_goesPast_6 : decode cX9_goesPast 6 = .ok (.getfield 180, 3) := dk_180 0 180 (dk_at dksX9_goesPast_0 6 rfl rfl)
theorem dX9_goesPast_9 : decode cX9_goesPast 9 = .ok (.iadd, 1) := dk_96 (dk_at dksX9_goesPast_0 9 rfl rfl)
theorem dX9_goesPast_10 : decode cX9_goesPast 10 = .ok (.putfield 171, 3) := dk_181 0 171 (dk_at dksX9_goesPast_0 10 rfl rfl)
theorem dX9_goesPast_13 : decode cX9_goesPast 13 = .ok (.return_, 1) := dk_177 (dk_at dksX9_goesPast_0 13 rfl rfl)
abbrev cX9_number : ByteArray := prog_17_method_58_code
def yX9_number : MethodName := ⟨RX9, "number", "(II)I"⟩
def dkwX9_number_6 : List UInt8 := [154, 0, 7, 29, 167, 0, 4, 27, 172]
abbrev dktX9_number_6 : List UInt8 := dkwX9_number_6 ++ []
def dkwX9_number_5 : List UInt8 := [3, 4, 182, 0, 200, 42, 29, 133, 27, 133, 28, 133, 184, 0, 62, 5, 182, 0, 200, 42, 180, 0, 187]
abbrev dktX9_number_5 : List UInt8 := dkwX9_number_5 ++ dktX9_number_6
def dkwX9_number_4 : List UInt8 := [181, 0, 171, 167, 255, 191, 42, 42, 180, 0, 171, 42, 180, 0, 177, 100, 6, 163, 0, 7, 4, 167, 0, 4]
abbrev dktX9_number_4 : List UInt8 := dkwX9_number_4 ++ dktX9_number_5
def dkwX9_number_3 : List UInt8 := [180, 0, 171, 182, 0, 174, 96, 16, 48, 100, 167, 0, 4, 29, 62, 42, 89, 180, 0, 171, 4, 96]
abbrev dktX9_number_3 : List UInt8 := dkwX9_number_3 ++ dktX9_number_4
def dkwX9_number_2 : List UInt8 := [153, 0, 50, 42, 180, 0, 171, 42, 180, 0, 177, 100, 6, 162, 0, 22, 16, 10, 29, 104, 42, 42]
abbrev dktX9_number_2 : List UInt8 := dkwX9_number_2 ++ dktX9_number_3
def dkwX9_number_1 : List UInt8 := [4, 182, 0, 200, 3, 62, 42, 42, 180, 0, 171, 182, 0, 174, 133, 20, 0, 207, 20, 0, 209, 184, 0, 62]
abbrev dktX9_number_1 : List UInt8 := dkwX9_number_1 ++ dktX9_number_2
def dkwX9_number_0 : List UInt8 := [42, 180, 0, 187, 153, 0, 5, 27, 172, 42, 42, 182, 0, 193, 133, 20, 0, 207, 20, 0, 209, 184, 0, 62]
abbrev dktX9_number_0 : List UInt8 := dkwX9_number_0 ++ dktX9_number_1
theorem dksX9_number_0 : cX9_number.data.toList.drop 0 = dktX9_number_0 := by decide +kernel
theorem dksX9_number_1 : cX9_number.data.toList.drop 24 = dktX9_number_1 := dk_seg dksX9_number_0 24 rfl rfl
theorem dksX9_number_2 : cX9_number.data.toList.drop 48 = dktX9_number_2 := dk_seg dksX9_number_1 24 rfl rfl
theorem dksX9_number_3 : cX9_number.data.toList.drop 70 = dktX9_number_3 := dk_seg dksX9_number_2 22 rfl rfl
theorem dksX9_number_4 : cX9_number.data.toList.drop 92 = dktX9_number_4 := dk_seg dksX9_number_3 22 rfl rfl
theorem dksX9_number_5 : cX9_number.data.toList.drop 116 = dktX9_number_5 := dk_seg dksX9_number_4 24 rfl rfl
theorem dksX9_number_6 : cX9_number.data.toList.drop 139 = dktX9_number_6 := dk_seg dksX9_number_5 23 rfl rfl
theorem dX9_number_0 : decode cX9_number 0 = .ok (.aload_n 0, 1) := dk_42 (dk_at dksX9_number_0 0 rfl rfl)
theorem dX9_number_1 : decode cX9_number 1 = .ok (.getfield 187, 3) := dk_180 0 187 (dk_at dksX9_number_0 1 rfl rfl)
theorem dX9_number_4 : decode cX9_number 4 = .ok (.ifCond .eq 5, 3) := dk_153 0 5 (dk_at dksX9_number_0 4 rfl rfl)
theorem dX9_number_7 : decode cX9_number 7 = .ok (.iload_n 1, 1) := dk_27 (dk_at dksX9_number_0 7 rfl rfl)
theorem dX9_number_8 : decode cX9_number 8 = .ok (.ireturn, 1) := dk_172 (dk_at dksX9_number_0 8 rfl rfl)
theorem dX9_number_9 : decode cX9_number 9 = .ok (.aload_n 0, 1) := dk_42 (dk_at dksX9_number_0 9 rfl rfl)
theorem dX9_number_10 : decode cX9_number 10 = .ok (.aload_n 0, 1) := dk_42 (dk_at dksX9_number_0 10 rfl rfl)
theorem dX9_number_11 : decode cX9_number 11 = .ok (.invokevirtual 193, 3) := dk_182 0 193 (dk_at dksX9_number_0 11 rfl rfl)
theorem dX9_number_14 : decode cX9_number 14 = .ok (.i2l, 1) := dk_133 (dk_at dksX9_number_0 14 rfl rfl)
theorem dX9_number_15 : decode cX9_number 15 = .ok (.ldc2_w 207, 3) := dk_20 0 207 (dk_at dksX9_number_0 15 rfl rfl)
theorem dX9_number_18 : decode cX9_number 18 = .ok (.ldc2_w 209, 3) := dk_20 0 209 (dk_at dksX9_number_0 18 rfl rfl)
theorem dX9_number_21 : decode cX9_number 21 = .ok (.invokestatic 62, 3) := dk_184 0 62 (dk_at dksX9_number_0 21 rfl rfl)
theorem dX9_number_24 : decode cX9_number 24 = .ok (.iconst 1, 1) := dk_4 (dk_at dksX9_number_1 0 rfl rfl)
theorem dX9_number_25 : decode cX9_number 25 = .ok (.invokevirtual 200, 3) := dk_182 0 200 (dk_at dksX9_number_1 1 rfl rfl)
theorem dX9_number_28 : decode cX9_number 28 = .ok (.iconst 0, 1) := dk_3 (dk_at dksX9_number_1 4 rfl rfl)
theorem dX9_number_29 : decode cX9_number 29 = .ok (.istore_n 3, 1) := dk_62 (dk_at dksX9_number_1 5 rfl rfl)
theorem dX9_number_30 : decode cX9_number 30 = .ok (.aload_n 0, 1) := dk_42 (dk_at dksX9_number_1 6 rfl rfl)
theorem dX9_number_31 : decode cX9_number 31 = .ok (.aload_n 0, 1) := dk_42 (dk_at dksX9_number_1 7 rfl rfl)
theorem dX9_number_32 : decode cX9_number 32 = .ok (.getfield 171, 3) := dk_180 0 171 (dk_at dksX9_number_1 8 rfl rfl)
theorem dX9_number_35 : decode cX9_number 35 = .ok (.invokevirtual 174, 3) := dk_182 0 174 (dk_at dksX9_number_1 11 rfl rfl)
theorem dX9_number_38 : decode cX9_number 38 = .ok (.i2l, 1) := dk_133 (dk_at dksX9_number_1 14 rfl rfl)
theorem dX9_number_39 : decode cX9_number 39 = .ok (.ldc2_w 207, 3) := dk_20 0 207 (dk_at dksX9_number_1 15 rfl rfl)
theorem dX9_number_42 : decode cX9_number 42 = .ok (.ldc2_w 209, 3) := dk_20 0 209 (dk_at dksX9_number_1 18 rfl rfl)
theorem dX9_number_45 : decode cX9_number 45 = .ok (.invokestatic 62, 3) := dk_184 0 62 (dk_at dksX9_number_1 21 rfl rfl)
theorem dX9_number_48 : decode cX9_number 48 = .ok (.ifCond .eq 50, 3) := dk_153 0 50 (dk_at dksX9_number_2 0 rfl rfl)
theorem dX9_number_51 : decode cX9_number 51 = .ok (.aload_n 0, 1) := dk_42 (dk_at dksX9_number_2 3 rfl rfl)
theorem dX9_number_52 : decode cX9_number 52 = .ok (.getfield 171, 3) := dk_180 0 171 (dk_at dksX9_number_2 4 rfl rfl)
theorem dX9_number_55 : decode cX9_number 55 = .ok (.aload_n 0, 1) := dk_42 (dk_at dksX9_number_2 7 rfl rfl)
theorem dX9_number_56 : decode cX9_number 56 = .ok (.getfield 177, 3) := dk_180 0 177 (dk_at dksX9_number_2 8 rfl rfl)
theorem dX9_number_59 : decode cX9_number 59 = .ok (.isub, 1) := dk_100 (dk_at dksX9_number_2 11 rfl rfl)
theorem dX9_number_60 : decode cX9_number 60 = .ok (.iconst 3, 1) := dk_6 (dk_at dksX9_number_2 12 rfl rfl)
theorem dX9_number_61 : decode cX9_number 61 = .ok (.if_icmp .ge 22, 3) := dk_162 0 22 (dk_at dksX9_number_2 13 rfl rfl)
theorem dX9_number_64 : decode cX9_number 64 = .ok (.bipush 10, 2) := dk_16 10 (dk_at dksX9_number_2 16 rfl rfl)
theorem dX9_number_66 : decode cX9_number 66 = .ok (.iload_n 3, 1) := dk_29 (dk_at dksX9_number_2 18 rfl rfl)
theorem dX9_number_67 : decode cX9_number 67 = .ok (.imul, 1) := dk_104 (dk_at dksX9_number_2 19 rfl rfl)
theorem dX9_number_68 : decode cX9_number 68 = .ok (.aload_n 0, 1) := dk_42 (dk_at dksX9_number_2 20 rfl rfl)
theorem dX9_number_69 : decode cX9_number 69 = .ok (.aload_n 0, 1) := dk_42 (dk_at dksX9_number_2 21 rfl rfl)
theorem dX9_number_70 : decode cX9_number 70 = .ok (.getfield 171, 3) := dk_180 0 171 (dk_at dksX9_number_3 0 rfl rfl)
theorem dX9_number_73 : decode cX9_number 73 = .ok (.invokevirtual 174, 3) := dk_182 0 174 (dk_at dksX9_number_3 3 rfl rfl)
theorem dX9_number_76 : decode cX9_number 76 = .ok (.iadd, 1) := dk_96 (dk_at dksX9_number_3 6 rfl rfl)
theorem dX9_number_77 : decode cX9_number 77 = .ok (.bipush 48, 2) := dk_16 48 (dk_at dksX9_number_3 7 rfl rfl)
theorem dX9_number_79 : decode cX9_number 79 = .ok (.isub, 1) := dk_100 (dk_at dksX9_number_3 9 rfl rfl)
theorem dX9_number_80 : decode cX9_number 80 = .ok (.goto 4, 3) := dk_167 0 4 (dk_at dksX9_number_3 10 rfl rfl)
theorem dX9_number_83 : decode cX9_number 83 = .ok (.iload_n 3, 1) := dk_29 (dk_at dksX9_number_3 13 rfl rfl)
theorem dX9_number_84 : decode cX9_number 84 = .ok (.istore_n 3, 1) := dk_62 (dk_at dksX9_number_3 14 rfl rfl)
theorem dX9_number_85 : decode cX9_number 85 = .ok (.aload_n 0, 1) := dk_42 (dk_at dksX9_number_3 15 rfl rfl)
theorem dX9_number_86 : decode cX9_number 86 = .ok (.dup, 1) := dk_89 (dk_at dksX9_number_3 16 rfl rfl)
theorem dX9_number_87 : decode cX9_number 87 = .ok (.getfield 171, 3) := dk_180 0 171 (dk_at dksX9_number_3 17 rfl rfl)
theorem dX9_number_90 : decode cX9_number 90 = .ok (.iconst 1, 1) := dk_4 (dk_at dksX9_number_3 20 rfl rfl)
theorem dX9_number_91 : decode cX9_number 91 = .ok (.iadd, 1) := dk_96 (dk_at dksX9_number_3 21 rfl rfl)
theorem dX9_number_92 : decode cX9_number 92 = .ok (.putfield 171, 3) := dk_181 0 171 (dk_at dksX9_number_4 0 rfl rfl)
theorem dX9_number_95 : decode cX9_number 95 = .ok (.goto (-65), 3) := dk_167 255 191 (dk_at dksX9_number_4 3 rfl rfl)
theorem dX9_number_98 : decode cX9_number 98 = .ok (.aload_n 0, 1) := dk_42 (dk_at dksX9_number_4 6 rfl rfl)
theorem dX9_number_99 : decode cX9_number 99 = .ok (.aload_n 0, 1) := dk_42 (dk_at dksX9_number_4 7 rfl rfl)
theorem dX9_number_100 : decode cX9_number 100 = .ok (.getfield 171, 3) := dk_180 0 171 (dk_at dksX9_number_4 8 rfl rfl)
theorem dX9_number_103 : decode cX9_number 103 = .ok (.aload_n 0, 1) := dk_42 (dk_at dksX9_number_4 11 rfl rfl)
theorem dX9_number_104 : decode cX9_number 104 = .ok (.getfield 177, 3) := dk_180 0 177 (dk_at dksX9_number_4 12 rfl rfl)
theorem dX9_number_107 : decode cX9_number 107 = .ok (.isub, 1) := dk_100 (dk_at dksX9_number_4 15 rfl rfl)
theorem dX9_number_108 : decode cX9_number 108 = .ok (.iconst 3, 1) := dk_6 (dk_at dksX9_number_4 16 rfl rfl)
theorem dX9_number_109 : decode cX9_number 109 = .ok (.if_icmp .gt 7, 3) := dk_163 0 7 (dk_at dksX9_number_4 17 rfl rfl)
theorem dX9_number_112 : decode cX9_number 112 = .ok (.iconst 1, 1) := dk_4 (dk_at dksX9_number_4 20 rfl rfl)
theorem dX9_number_113 : decode cX9_number 113 = .ok (.goto 4, 3) := dk_167 0 4 (dk_at dksX9_number_4 21 rfl rfl)
theorem dX9_number_116 : decode cX9_number 116 = .ok (.iconst 0, 1) := dk_3 (dk_at dksX9_number_5 0 rfl rfl)
theorem dX9_number_117 : decode cX9_number 117 = .ok (.iconst 1, 1) := dk_4 (dk_at dksX9_number_5 1 rfl rfl)
theorem dX9_number_118 : decode cX9_number 118 = .ok (.invokevirtual 200, 3) := dk_182 0 200 (dk_at dksX9_number_5 2 rfl rfl)
theorem dX9_number_121 : decode cX9_number 121 = .ok (.aload_n 0, 1) := dk_42 (dk_at dksX9_number_5 5 rfl rfl)
theorem dX9_number_122 : decode cX9_number 122 = .ok (.iload_n 3, 1) := dk_29 (dk_at dksX9_number_5 6 rfl rfl)
theorem dX9_number_123 : decode cX9_number 123 = .ok (.i2l, 1) := dk_133 (dk_at dksX9_number_5 7 rfl rfl)
theorem dX9_number_124 : decode cX9_number 124 = .ok (.iload_n 1, 1) := dk_27 (dk_at dksX9_number_5 8 rfl rfl)
theorem dX9_number_125 : decode cX9_number 125 = .ok (.i2l, 1) := dk_133 (dk_at dksX9_number_5 9 rfl rfl)
theorem dX9_number_126 : decode cX9_number 126 = .ok (.iload_n 2, 1) := dk_28 (dk_at dksX9_number_5 10 rfl rfl)
theorem dX9_number_127 : decode cX9_number 127 = .ok (.i2l, 1) := dk_133 (dk_at dksX9_number_5 11 rfl rfl)
theorem dX9_number_128 : decode cX9_number 128 = .ok (.invokestatic 62, 3) := dk_184 0 62 (dk_at dksX9_number_5 12 rfl rfl)
theorem dX9_number_131 : decode cX9_number 131 = .ok (.iconst 2, 1) := dk_5 (dk_at dksX9_number_5 15 rfl rfl)
theorem dX9_number_132 : decode cX9_number 132 = .ok (.invokevirtual 200, 3) := dk_182 0 200 (dk_at dksX9_number_5 16 rfl rfl)
theorem dX9_number_135 : decode cX9_number 135 = .ok (.aload_n 0, 1) := dk_42 (dk_at dksX9_number_5 19 rfl rfl)
theorem dX9_number_136 : decode cX9_number 136 = .ok (.getfield 187, 3) := dk_180 0 187 (dk_at dksX9_number_5 20 rfl rfl)
theorem dX9_number_139 : decode cX9_number 139 = .ok (.ifCond .ne 7, 3) := dk_154 0 7 (dk_at dksX9_number_6 0 rfl rfl)
theorem dX9_number_142 : decode cX9_number 142 = .ok (.iload_n 3, 1) := dk_29 (dk_at dksX9_number_6 3 rfl rfl)
theorem dX9_number_143 : decode cX9_number 143 = .ok (.goto 4, 3) := dk_167 0 4 (dk_at dksX9_number_6 4 rfl rfl)
theorem dX9_number_146 : decode cX9_number 146 = .ok (.iload_n 1, 1) := dk_27 (dk_at dksX9_number_6 7 rfl rfl)
theorem dX9_number_147 : decode cX9_number 147 = .ok (.ireturn, 1) := dk_172 (dk_at dksX9_number_6 8 rfl rfl)
abbrev cX9_semicolon : ByteArray := prog_17_method_57_code
def yX9_semicolon : MethodName := ⟨RX9, "semicolon", "()V"⟩
def dkwX9_semicolon_1 : List UInt8 := [182, 0, 200, 42, 89, 180, 0, 171, 4, 96, 181, 0, 171, 177]
abbrev dktX9_semicolon_1 : List UInt8 := dkwX9_semicolon_1 ++ []
def dkwX9_semicolon_0 : List UInt8 := [42, 180, 0, 187, 153, 0, 4, 177, 42, 42, 182, 0, 193, 16, 59, 160, 0, 7, 4, 167, 0, 4, 3, 4]
abbrev dktX9_semicolon_0 : List UInt8 := dkwX9_semicolon_0 ++ dktX9_semicolon_1
theorem dksX9_semicolon_0 : cX9_semicolon.data.toList.drop 0 = dktX9_semicolon_0 := by decide +kernel
theorem dksX9_semicolon_1 : cX9_semicolon.data.toList.drop 24 = dktX9_semicolon_1 := dk_seg dksX9_semicolon_0 24 rfl rfl
theorem dX9_semicolon_0 : decode cX9_semicolon 0 = .ok (.aload_n 0, 1) := dk_42 (dk_at dksX9_semicolon_0 0 rfl rfl)
theorem dX9_semicolon_1 : decode cX9_semicolon 1 = .ok (.getfield 187, 3) := dk_180 0 187 (dk_at dksX9_semicolon_0 1 rfl rfl)
theorem dX9_semicolon_4 : decode cX9_semicolon 4 = .ok (.ifCond .eq 4, 3) := dk_153 0 4 (dk_at dksX9_semicolon_0 4 rfl rfl)
theorem dX9_semicolon_7 : decode cX9_semicolon 7 = .ok (.return_, 1) := dk_177 (dk_at dksX9_semicolon_0 7 rfl rfl)
theorem dX9_semicolon_8 : decode cX9_semicolon 8 = .ok (.aload_n 0, 1) := dk_42 (dk_at dksX9_semicolon_0 8 rfl rfl)
theorem dX9_semicolon_9 : decode cX9_semicolon 9 = .ok (.aload_n 0, 1) := dk_42 (dk_at dksX9_semicolon_0 9 rfl rfl)
theorem dX9_semicolon_10 : decode cX9_semicolon 10 = .ok (.invokevirtual 193, 3) := dk_182 0 193 (dk_at dksX9_semicolon_0 10 rfl rfl)
theorem dX9_semicolon_13 : decode cX9_semicolon 13 = .ok (.bipush 59, 2) := dk_16 59 (dk_at dksX9_semicolon_0 13 rfl rfl)
theorem dX9_semicolon_15 : decode cX9_semicolon 15 = .ok (.if_icmp .ne 7, 3) := dk_160 0 7 (dk_at dksX9_semicolon_0 15 rfl rfl)
theorem dX9_semicolon_18 : decode cX9_semicolon 18 = .ok (.iconst 1, 1) := dk_4 (dk_at dksX9_semicolon_0 18 rfl rfl)
theorem dX9_semicolon_19 : decode cX9_semicolon 19 = .ok (.goto 4, 3) := dk_167 0 4 (dk_at dksX9_semicolon_0 19 rfl rfl)
theorem dX9_semicolon_22 : decode cX9_semicolon 22 = .ok (.iconst 0, 1) := dk_3 (dk_at dksX9_semicolon_0 22 rfl rfl)
theorem dX9_semicolon_23 : decode cX9_semicolon 23 = .ok (.iconst 1, 1) := dk_4 (dk_at dksX9_semicolon_0 23 rfl rfl)
theorem dX9_semicolon_24 : decode cX9_semicolon 24 = .ok (.invokevirtual 200, 3) := dk_182 0 200 (dk_at dksX9_semicolon_1 0 rfl rfl)
theorem dX9_semicolon_27 : decode cX9_semicolon 27 = .ok (.aload_n 0, 1) := dk_42 (dk_at dksX9_semicolon_1 3 rfl rfl)
theorem dX9_semicolon_28 : decode cX9_semicolon 28 = .ok (.dup, 1) := dk_89 (dk_at dksX9_semicolon_1 4 rfl rfl)
theorem dX9_semicolon_29 : decode cX9_semicolon 29 = .ok (.getfield 171, 3) := dk_180 0 171 (dk_at dksX9_semicolon_1 5 rfl rfl)
theorem dX9_semicolon_32 : decode cX9_semicolon 32 = .ok (.iconst 1, 1) := dk_4 (dk_at dksX9_semicolon_1 8 rfl rfl)
theorem dX9_semicolon_33 : decode cX9_semicolon 33 = .ok (.iadd, 1) := dk_96 (dk_at dksX9_semicolon_1 9 rfl rfl)
theorem dX9_semicolon_34 : decode cX9_semicolon 34 = .ok (.putfield 171, 3) := dk_181 0 171 (dk_at dksX9_semicolon_1 10 rfl rfl)
theorem dX9_semicolon_37 : decode cX9_semicolon 37 = .ok (.return_, 1) := dk_177 (dk_at dksX9_semicolon_1 13 rfl rfl)
abbrev cX9_ploughLine : ByteArray := prog_17_method_67_code
def yX9_ploughLine : MethodName := ⟨RX9, "ploughLine", "(I)V"⟩
def dkwX9_ploughLine_2 : List UInt8 := [42, 27, 5, 42, 3, 16, 99, 182, 0, 229, 182, 0, 87, 42, 182, 0, 232, 177]
abbrev dktX9_ploughLine_2 : List UInt8 := dkwX9_ploughLine_2 ++ []
def dkwX9_ploughLine_1 : List UInt8 := [27, 3, 42, 27, 182, 0, 76, 182, 0, 87, 42, 27, 4, 42, 4, 17, 0, 200, 182, 0, 229, 182, 0, 87]
abbrev dktX9_ploughLine_1 : List UInt8 := dkwX9_ploughLine_1 ++ dktX9_ploughLine_2
def dkwX9_ploughLine_0 : List UInt8 := [42, 180, 0, 187, 153, 0, 4, 177, 42, 27, 154, 0, 8, 18, 211, 167, 0, 5, 18, 213, 182, 0, 225, 42]
abbrev dktX9_ploughLine_0 : List UInt8 := dkwX9_ploughLine_0 ++ dktX9_ploughLine_1
theorem dksX9_ploughLine_0 : cX9_ploughLine.data.toList.drop 0 = dktX9_ploughLine_0 := by decide +kernel
theorem dksX9_ploughLine_1 : cX9_ploughLine.data.toList.drop 24 = dktX9_ploughLine_1 := dk_seg dksX9_ploughLine_0 24 rfl rfl
theorem dksX9_ploughLine_2 : cX9_ploughLine.data.toList.drop 48 = dktX9_ploughLine_2 := dk_seg dksX9_ploughLine_1 24 rfl rfl
theorem dX9_ploughLine_0 : decode cX9_ploughLine 0 = .ok (.aload_n 0, 1) := dk_42 (dk_at dksX9_ploughLine_0 0 rfl rfl)
theorem dX9_ploughLine_1 : decode cX9_ploughLine 1 = .ok (.getfield 187, 3) := dk_180 0 187 (dk_at dksX9_ploughLine_0 1 rfl rfl)
theorem dX9_ploughLine_4 : decode cX9_ploughLine 4 = .ok (.ifCond .eq 4, 3) := dk_153 0 4 (dk_at dksX9_ploughLine_0 4 rfl rfl)
theorem dX9_ploughLine_7 : decode cX9_ploughLine 7 = .ok (.return_, 1) := dk_177 (dk_at dksX9_ploughLine_0 7 rfl rfl)
theorem dX9_ploughLine_8 : decode cX9_ploughLine 8 = .ok (.aload_n 0, 1) := dk_42 (dk_at dksX9_ploughLine_0 8 rfl rfl)
theorem dX9_ploughLine_9 : decode cX9_ploughLine 9 = .ok (.iload_n 1, 1) := dk_27 (dk_at dksX9_ploughLine_0 9 rfl rfl)
theorem dX9_ploughLine_10 : decode cX9_ploughLine 10 = .ok (.ifCond .ne 8, 3) := dk_154 0 8 (dk_at dksX9_ploughLine_0 10 rfl rfl)
theorem dX9_ploughLine_13 : decode cX9_ploughLine 13 = .ok (.ldc 211, 2) := dk_18 211 (dk_at dksX9_ploughLine_0 13 rfl rfl)
theorem dX9_ploughLine_15 : decode cX9_ploughLine 15 = .ok (.goto 5, 3) := dk_167 0 5 (dk_at dksX9_ploughLine_0 15 rfl rfl)
theorem dX9_ploughLine_18 : decode cX9_ploughLine 18 = .ok (.ldc 213, 2) := dk_18 213 (dk_at dksX9_ploughLine_0 18 rfl rfl)
theorem dX9_ploughLine_20 : decode cX9_ploughLine 20 = .ok (.invokevirtual 225, 3) := dk_182 0 225 (dk_at dksX9_ploughLine_0 20 rfl rfl)
theorem dX9_ploughLine_23 : decode cX9_ploughLine 23 = .ok (.aload_n 0, 1) := dk_42 (dk_at dksX9_ploughLine_0 23 rfl rfl)
theorem dX9_ploughLine_24 : decode cX9_ploughLine 24 = .ok (.iload_n 1, 1) := dk_27 (dk_at dksX9_ploughLine_1 0 rfl rfl)
theorem dX9_ploughLine_25 : decode cX9_ploughLine 25 = .ok (.iconst 0, 1) := dk_3 (dk_at dksX9_ploughLine_1 1 rfl rfl)
theorem dX9_ploughLine_26 : decode cX9_ploughLine 26 = .ok (.aload_n 0, 1) := dk_42 (dk_at dksX9_ploughLine_1 2 rfl rfl)
theorem dX9_ploughLine_27 : decode cX9_ploughLine 27 = .ok (.iload_n 1, 1) := dk_27 (dk_at dksX9_ploughLine_1 3 rfl rfl)
theorem dX9_ploughLine_28 : decode cX9_ploughLine 28 = .ok (.invokevirtual 76, 3) := dk_182 0 76 (dk_at dksX9_ploughLine_1 4 rfl rfl)
theorem dX9_ploughLine_31 : decode cX9_ploughLine 31 = .ok (.invokevirtual 87, 3) := dk_182 0 87 (dk_at dksX9_ploughLine_1 7 rfl rfl)
theorem dX9_ploughLine_34 : decode cX9_ploughLine 34 = .ok (.aload_n 0, 1) := dk_42 (dk_at dksX9_ploughLine_1 10 rfl rfl)
theorem dX9_ploughLine_35 : decode cX9_ploughLine 35 = .ok (.iload_n 1, 1) := dk_27 (dk_at dksX9_ploughLine_1 11 rfl rfl)
theorem dX9_ploughLine_36 : decode cX9_ploughLine 36 = .ok (.iconst 1, 1) := dk_4 (dk_at dksX9_ploughLine_1 12 rfl rfl)
theorem dX9_ploughLine_37 : decode cX9_ploughLine 37 = .ok (.aload_n 0, 1) := dk_42 (dk_at dksX9_ploughLine_1 13 rfl rfl)
theorem dX9_ploughLine_38 : decode cX9_ploughLine 38 = .ok (.iconst 1, 1) := dk_4 (dk_at dksX9_ploughLine_1 14 rfl rfl)
theorem dX9_ploughLine_39 : decode cX9_ploughLine 39 = .ok (.sipush 200, 3) := dk_17 0 200 (dk_at dksX9_ploughLine_1 15 rfl rfl)
theorem dX9_ploughLine_42 : decode cX9_ploughLine 42 = .ok (.invokevirtual 229, 3) := dk_182 0 229 (dk_at dksX9_ploughLine_1 18 rfl rfl)
theorem dX9_ploughLine_45 : decode cX9_ploughLine 45 = .ok (.invokevirtual 87, 3) := dk_182 0 87 (dk_at dksX9_ploughLine_1 21 rfl rfl)
theorem dX9_ploughLine_48 : decode cX9_ploughLine 48 = .ok (.aload_n 0, 1) := dk_42 (dk_at dksX9_ploughLine_2 0 rfl rfl)
theorem dX9_ploughLine_49 : decode cX9_ploughLine 49 = .ok (.iload_n 1, 1) := dk_27 (dk_at dksX9_ploughLine_2 1 rfl rfl)
theorem dX9_ploughLine_50 : decode cX9_ploughLine 50 = .ok (.iconst 2, 1) := dk_5 (dk_at dksX9_ploughLine_2 2 rfl rfl)
theorem dX9_ploughLine_51 : decode cX9_ploughLine 51 = .ok (.aload_n 0, 1) := dk_42 (dk_at dksX9_ploughLine_2 3 rfl rfl)
theorem dX9_ploughLine_52 : decode cX9_ploughLine 52 = .ok (.iconst 0, 1) := dk_3 (dk_at dksX9_ploughLine_2 4 rfl rfl)
theorem dX9_ploughLine_53 : decode cX9_ploughLine 53 = .ok (.bipush 99, 2) := dk_16 99 (dk_at dksX9_ploughLine_2 5 rfl rfl)
theorem dX9_ploughLine_55 : decode cX9_ploughLine 55 = .ok (.invokevirtual 229, 3) := dk_182 0 229 (dk_at dksX9_ploughLine_2 7 rfl rfl)
theorem dX9_ploughLine_58 : decode cX9_ploughLine 58 = .ok (.invokevirtual 87, 3) := dk_182 0 87 (dk_at dksX9_ploughLine_2 10 rfl rfl)
theorem dX9_ploughLine_61 : decode cX9_ploughLine 61 = .ok (.aload_n 0, 1) := dk_42 (dk_at dksX9_ploughLine_2 13 rfl rfl)
theorem dX9_ploughLine_62 : decode cX9_ploughLine 62 = .ok (.invokevirtual 232, 3) := dk_182 0 232 (dk_at dksX9_ploughLine_2 14 rfl rfl)
theorem dX9_ploughLine_65 : decode cX9_ploughLine 65 = .ok (.return_, 1) := dk_177 (dk_at dksX9_ploughLine_2 17 rfl rfl)
abbrev cX9_valleyOf : ByteArray := prog_17_method_24_code
def yX9_valleyOf : MethodName := ⟨RX9, "valleyOf", "(I)I"⟩
def dkwX9_valleyOf_0 : List UInt8 := [27, 154, 0, 7, 3, 167, 0, 11, 42, 180, 0, 7, 3, 46, 4, 100, 172]
abbrev dktX9_valleyOf_0 : List UInt8 := dkwX9_valleyOf_0 ++ []
theorem dksX9_valleyOf_0 : cX9_valleyOf.data.toList.drop 0 = dktX9_valleyOf_0 := by decide +kernel
theorem dX9_valleyOf_0 : decode cX9_valleyOf 0 = .ok (.iload_n 1, 1) := dk_27 (dk_at dksX9_valleyOf_0 0 rfl rfl)
theorem dX9_valleyOf_1 : decode cX9_valleyOf 1 = .ok (.ifCond .ne 7, 3) := dk_154 0 7 (dk_at dksX9_valleyOf_0 1 rfl rfl)
theorem dX9_valleyOf_4 : decode cX9_valleyOf 4 = .ok (.iconst 0, 1) := dk_3 (dk_at dksX9_valleyOf_0 4 rfl rfl)
theorem dX9_valleyOf_5 : decode cX9_valleyOf 5 = .ok (.goto 11, 3) := dk_167 0 11 (dk_at dksX9_valleyOf_0 5 rfl rfl)
theorem dX9_valleyOf_8 : decode cX9_valleyOf 8 = .ok (.aload_n 0, 1) := dk_42 (dk_at dksX9_valleyOf_0 8 rfl rfl)
theorem dX9_valleyOf_9 : decode cX9_valleyOf 9 = .ok (.getfield 7, 3) := dk_180 0 7 (dk_at dksX9_valleyOf_0 9 rfl rfl)
theorem dX9_valleyOf_12 : decode cX9_valleyOf 12 = .ok (.iconst 0, 1) := dk_3 (dk_at dksX9_valleyOf_0 12 rfl rfl)
theorem dX9_valleyOf_13 : decode cX9_valleyOf 13 = .ok (.iaload, 1) := dk_46 (dk_at dksX9_valleyOf_0 13 rfl rfl)
theorem dX9_valleyOf_14 : decode cX9_valleyOf 14 = .ok (.iconst 1, 1) := dk_4 (dk_at dksX9_valleyOf_0 14 rfl rfl)
theorem dX9_valleyOf_15 : decode cX9_valleyOf 15 = .ok (.isub, 1) := dk_100 (dk_at dksX9_valleyOf_0 15 rfl rfl)
theorem dX9_valleyOf_16 : decode cX9_valleyOf 16 = .ok (.ireturn, 1) := dk_172 (dk_at dksX9_valleyOf_0 16 rfl rfl)
abbrev cX9_putsPlough : ByteArray := prog_17_method_13_code
def yX9_putsPlough : MethodName := ⟨RX9, "putsPlough", "(III)V"⟩
def dkwX9_putsPlough_0 : List UInt8 := [42, 180, 0, 7, 16, 17, 7, 27, 104, 96, 28, 96, 29, 79, 177]
abbrev dktX9_putsPlough_0 : List UInt8 := dkwX9_putsPlough_0 ++ []
theorem dksX9_putsPlough_0 : cX9_putsPlough.data.toList.drop 0 = dktX9_putsPlough_0 := by decide +kernel
theorem dX9_putsPlough_0 : decode cX9_putsPlough 0 = .ok (.aload_n 0, 1) := dk_42 (dk_at dksX9_putsPlough_0 0 rfl rfl)
theorem dX9_putsPlough_1 : decode cX9_putsPlough 1 = .ok (.getfield 7, 3) := dk_180 0 7 (dk_at dksX9_putsPlough_0 1 rfl rfl)
theorem dX9_putsPlough_4 : decode cX9_putsPlough 4 = .ok (.bipush 17, 2) := dk_16 17 (dk_at dksX9_putsPlough_0 4 rfl rfl)
theorem dX9_putsPlough_6 : decode cX9_putsPlough 6 = .ok (.iconst 4, 1) := dk_7 (dk_at dksX9_putsPlough_0 6 rfl rfl)
theorem dX9_putsPlough_7 : decode cX9_putsPlough 7 = .ok (.iload_n 1, 1) := dk_27 (dk_at dksX9_putsPlough_0 7 rfl rfl)
theorem dX9_putsPlough_8 : decode cX9_putsPlough 8 = .ok (.imul, 1) := dk_104 (dk_at dksX9_putsPlough_0 8 rfl rfl)
theorem dX9_putsPlough_9 : decode cX9_putsPlough 9 = .ok (.iadd, 1) := dk_96 (dk_at dksX9_putsPlough_0 9 rfl rfl)
theorem dX9_putsPlough_10 : decode cX9_putsPlough 10 = .ok (.iload_n 2, 1) := dk_28 (dk_at dksX9_putsPlough_0 10 rfl rfl)
theorem dX9_putsPlough_11 : decode cX9_putsPlough 11 = .ok (.iadd, 1) := dk_96 (dk_at dksX9_putsPlough_0 11 rfl rfl)
theorem dX9_putsPlough_12 : decode cX9_putsPlough 12 = .ok (.iload_n 3, 1) := dk_29 (dk_at dksX9_putsPlough_0 12 rfl rfl)
theorem dX9_putsPlough_13 : decode cX9_putsPlough 13 = .ok (.iastore, 1) := dk_79 (dk_at dksX9_putsPlough_0 13 rfl rfl)
theorem dX9_putsPlough_14 : decode cX9_putsPlough 14 = .ok (.return_, 1) := dk_177 (dk_at dksX9_putsPlough_0 14 rfl rfl)
abbrev cX9_statement : ByteArray := prog_17_method_70_code
def yX9_statement : MethodName := ⟨RX9, "statement", "()V"⟩
def dkwX9_statement_2 : List UInt8 := [182, 0, 232, 177]
abbrev dktX9_statement_2 : List UInt8 := dkwX9_statement_2 ++ []
def dkwX9_statement_1 : List UInt8 := [153, 0, 10, 42, 182, 0, 248, 167, 0, 14, 42, 182, 0, 193, 60, 42, 3, 4, 182, 0, 200, 42]
abbrev dktX9_statement_1 : List UInt8 := dkwX9_statement_1 ++ dktX9_statement_2
def dkwX9_statement_0 : List UInt8 := [42, 18, 241, 182, 0, 196, 153, 0, 10, 42, 182, 0, 243, 167, 0, 30, 42, 18, 246, 182, 0, 196]
abbrev dktX9_statement_0 : List UInt8 := dkwX9_statement_0 ++ dktX9_statement_1
theorem dksX9_statement_0 : cX9_statement.data.toList.drop 0 = dktX9_statement_0 := by decide +kernel
theorem dksX9_statement_1 : cX9_statement.data.toList.drop 22 = dktX9_statement_1 := dk_seg dksX9_statement_0 22 rfl rfl
theorem dksX9_statement_2 : cX9_statement.data.toList.drop 44 = dktX9_statement_2 := dk_seg dksX9_statement_1 22 rfl rfl
theorem dX9_statement_0 : decode cX9_statement 0 = .ok (.aload_n 0, 1) := dk_42 (dk_at dksX9_statement_0 0 rfl rfl)
theorem dX9_statement_1 : decode cX9_statement 1 = .ok (.ldc 241, 2) := dk_18 241 (dk_at dksX9_statement_0 1 rfl rfl)
theorem dX9_statement_3 : decode cX9_statement 3 = .ok (.invokevirtual 196, 3) := dk_182 0 196 (dk_at dksX9_statement_0 3 rfl rfl)
theorem dX9_statement_6 : decode cX9_statement 6 = .ok (.ifCond .eq 10, 3) := dk_153 0 10 (dk_at dksX9_statement_0 6 rfl rfl)
theorem dX9_statement_9 : decode cX9_statement 9 = .ok (.aload_n 0, 1) := dk_42 (dk_at dksX9_statement_0 9 rfl rfl)
theorem dX9_statement_10 : decode cX9_statement 10 = .ok (.invokevirtual 243, 3) := dk_182 0 243 (dk_at dksX9_statement_0 10 rfl rfl)
theorem dX9_statement_13 : decode cX9_statement 13 = .ok (.goto 30, 3) := dk_167 0 30 (dk_at dksX9_statement_0 13 rfl rfl)
theorem dX9_statement_16 : decode cX9_statement 16 = .ok (.aload_n 0, 1) := dk_42 (dk_at dksX9_statement_0 16 rfl rfl)
theorem dX9_statement_17 : decode cX9_statement 17 = .ok (.ldc 246, 2) := dk_18 246 (dk_at dksX9_statement_0 17 rfl rfl)
theorem dX9_statement_19 : decode cX9_statement 19 = .ok (.invokevirtual 196, 3) := dk_182 0 196 (dk_at dksX9_statement_0 19 rfl rfl)
theorem dX9_statement_22 : decode cX9_statement 22 = .ok (.ifCond .eq 10, 3) := dk_153 0 10 (dk_at dksX9_statement_1 0 rfl rfl)
theorem dX9_statement_25 : decode cX9_statement 25 = .ok (.aload_n 0, 1) := dk_42 (dk_at dksX9_statement_1 3 rfl rfl)
theorem dX9_statement_26 : decode cX9_statement 26 = .ok (.invokevirtual 248, 3) := dk_182 0 248 (dk_at dksX9_statement_1 4 rfl rfl)
theorem dX9_statement_29 : decode cX9_statement 29 = .ok (.goto 14, 3) := dk_167 0 14 (dk_at dksX9_statement_1 7 rfl rfl)
theorem dX9_statement_32 : decode cX9_statement 32 = .ok (.aload_n 0, 1) := dk_42 (dk_at dksX9_statement_1 10 rfl rfl)
theorem dX9_statement_33 : decode cX9_statement 33 = .ok (.invokevirtual 193, 3) := dk_182 0 193 (dk_at dksX9_statement_1 11 rfl rfl)
theorem dX9_statement_36 : decode cX9_statement 36 = .ok (.istore_n 1, 1) := dk_60 (dk_at dksX9_statement_1 14 rfl rfl)
theorem dX9_statement_37 : decode cX9_statement 37 = .ok (.aload_n 0, 1) := dk_42 (dk_at dksX9_statement_1 15 rfl rfl)
theorem dX9_statement_38 : decode cX9_statement 38 = .ok (.iconst 0, 1) := dk_3 (dk_at dksX9_statement_1 16 rfl rfl)
theorem dX9_statement_39 : decode cX9_statement 39 = .ok (.iconst 1, 1) := dk_4 (dk_at dksX9_statement_1 17 rfl rfl)
theorem dX9_statement_40 : decode cX9_statement 40 = .ok (.invokevirtual 200, 3) := dk_182 0 200 (dk_at dksX9_statement_1 18 rfl rfl)
theorem dX9_statement_43 : decode cX9_statement 43 = .ok (.aload_n 0, 1) := dk_42 (dk_at dksX9_statement_1 21 rfl rfl)
theorem dX9_statement_44 : decode cX9_statement 44 = .ok (.invokevirtual 232, 3) := dk_182 0 232 (dk_at dksX9_statement_2 0 rfl rfl)
theorem dX9_statement_47 : decode cX9_statement 47 = .ok (.return_, 1) := dk_177 (dk_at dksX9_statement_2 3 rfl rfl)
abbrev cX9_segmentLine : ByteArray := prog_17_method_68_code
def yX9_segmentLine : MethodName := ⟨RX9, "segmentLine", "()V"⟩
def dkwX9_segmentLine_2 : List UInt8 := [182, 0, 104, 42, 27, 3, 29, 182, 0, 104, 177]
abbrev dktX9_segmentLine_2 : List UInt8 := dkwX9_segmentLine_2 ++ []
def dkwX9_segmentLine_1 : List UInt8 := [182, 0, 229, 61, 42, 3, 17, 3, 231, 182, 0, 229, 62, 42, 180, 0, 187, 154, 0, 17, 42, 27, 4, 28]
abbrev dktX9_segmentLine_1 : List UInt8 := dkwX9_segmentLine_1 ++ dktX9_segmentLine_2
def dkwX9_segmentLine_0 : List UInt8 := [42, 182, 0, 204, 42, 3, 42, 180, 0, 7, 3, 46, 4, 100, 182, 0, 229, 60, 42, 3, 16, 9]
abbrev dktX9_segmentLine_0 : List UInt8 := dkwX9_segmentLine_0 ++ dktX9_segmentLine_1
theorem dksX9_segmentLine_0 : cX9_segmentLine.data.toList.drop 0 = dktX9_segmentLine_0 := by decide +kernel
theorem dksX9_segmentLine_1 : cX9_segmentLine.data.toList.drop 22 = dktX9_segmentLine_1 := dk_seg dksX9_segmentLine_0 22 rfl rfl
theorem dksX9_segmentLine_2 : cX9_segmentLine.data.toList.drop 46 = dktX9_segmentLine_2 := dk_seg dksX9_segmentLine_1 24 rfl rfl
theorem dX9_segmentLine_0 : decode cX9_segmentLine 0 = .ok (.aload_n 0, 1) := dk_42 (dk_at dksX9_segmentLine_0 0 rfl rfl)
theorem dX9_segmentLine_1 : decode cX9_segmentLine 1 = .ok (.invokevirtual 204, 3) := dk_182 0 204 (dk_at dksX9_segmentLine_0 1 rfl rfl)
theorem dX9_segmentLine_4 : decode cX9_segmentLine 4 = .ok (.aload_n 0, 1) := dk_42 (dk_at dksX9_segmentLine_0 4 rfl rfl)
theorem dX9_segmentLine_5 : decode cX9_segmentLine 5 = .ok (.iconst 0, 1) := dk_3 (dk_at dksX9_segmentLine_0 5 rfl rfl)
theorem dX9_segmentLine_6 : decode cX9_segmentLine 6 = .ok (.aload_n 0, 1) := dk_42 (dk_at dksX9_segmentLine_0 6 rfl rfl)
theorem dX9_segmentLine_7 : decode cX9_segmentLine 7 = .ok (.getfield 7, 3) := dk_180 0 7 (dk_at dksX9_segmentLine_0 7 rfl rfl)
theorem dX9_segmentLine_10 : decode cX9_segmentLine 10 = .ok (.iconst 0, 1) := dk_3 (dk_at dksX9_segmentLine_0 10 rfl rfl)
theorem dX9_segmentLine_11 : decode cX9_segmentLine 11 = .ok (.iaload, 1) := dk_46 (dk_at dksX9_segmentLine_0 11 rfl rfl)
theorem dX9_segmentLine_12 : decode cX9_segmentLine 12 = .ok (.iconst 1, 1) := dk_4 (dk_at dksX9_segmentLine_0 12 rfl rfl)
theorem dX9_segmentLine_13 : decode cX9_segmentLine 13 = .ok (.isub, 1) := dk_100 (dk_at dksX9_segmentLine_0 13 rfl rfl)
theorem dX9_segmentLine_14 : decode cX9_segmentLine 14 = .ok (.invokevirtual 229, 3) := dk_182 0 229 (dk_at dksX9_segmentLine_0 14 rfl rfl)
theorem dX9_segmentLine_17 : decode cX9_segmentLine 17 = .ok (.istore_n 1, 1) := dk_60 (dk_at dksX9_segmentLine_0 17 rfl rfl)
theorem dX9_segmentLine_18 : decode cX9_segmentLine 18 = .ok (.aload_n 0, 1) := dk_42 (dk_at dksX9_segmentLine_0 18 rfl rfl)
theorem dX9_segmentLine_19 : decode cX9_segmentLine 19 = .ok (.iconst 0, 1) := dk_3 (dk_at dksX9_segmentLine_0 19 rfl rfl)
theorem dX9_segmentLine_20 : decode cX9_segmentLine 20 = .ok (.bipush 9, 2) := dk_16 9 (dk_at dksX9_segmentLine_0 20 rfl rfl)
theorem dX9_segmentLine_22 : decode cX9_segmentLine 22 = .ok (.invokevirtual 229, 3) := dk_182 0 229 (dk_at dksX9_segmentLine_1 0 rfl rfl)
theorem dX9_segmentLine_25 : decode cX9_segmentLine 25 = .ok (.istore_n 2, 1) := dk_61 (dk_at dksX9_segmentLine_1 3 rfl rfl)
theorem dX9_segmentLine_26 : decode cX9_segmentLine 26 = .ok (.aload_n 0, 1) := dk_42 (dk_at dksX9_segmentLine_1 4 rfl rfl)
theorem dX9_segmentLine_27 : decode cX9_segmentLine 27 = .ok (.iconst 0, 1) := dk_3 (dk_at dksX9_segmentLine_1 5 rfl rfl)
theorem dX9_segmentLine_28 : decode cX9_segmentLine 28 = .ok (.sipush 999, 3) := dk_17 3 231 (dk_at dksX9_segmentLine_1 6 rfl rfl)
theorem dX9_segmentLine_31 : decode cX9_segmentLine 31 = .ok (.invokevirtual 229, 3) := dk_182 0 229 (dk_at dksX9_segmentLine_1 9 rfl rfl)
theorem dX9_segmentLine_34 : decode cX9_segmentLine 34 = .ok (.istore_n 3, 1) := dk_62 (dk_at dksX9_segmentLine_1 12 rfl rfl)
theorem dX9_segmentLine_35 : decode cX9_segmentLine 35 = .ok (.aload_n 0, 1) := dk_42 (dk_at dksX9_segmentLine_1 13 rfl rfl)
theorem dX9_segmentLine_36 : decode cX9_segmentLine 36 = .ok (.getfield 187, 3) := dk_180 0 187 (dk_at dksX9_segmentLine_1 14 rfl rfl)
theorem dX9_segmentLine_39 : decode cX9_segmentLine 39 = .ok (.ifCond .ne 17, 3) := dk_154 0 17 (dk_at dksX9_segmentLine_1 17 rfl rfl)
theorem dX9_segmentLine_42 : decode cX9_segmentLine 42 = .ok (.aload_n 0, 1) := dk_42 (dk_at dksX9_segmentLine_1 20 rfl rfl)
theorem dX9_segmentLine_43 : decode cX9_segmentLine 43 = .ok (.iload_n 1, 1) := dk_27 (dk_at dksX9_segmentLine_1 21 rfl rfl)
theorem dX9_segmentLine_44 : decode cX9_segmentLine 44 = .ok (.iconst 1, 1) := dk_4 (dk_at dksX9_segmentLine_1 22 rfl rfl)
theorem dX9_segmentLine_45 : decode cX9_segmentLine 45 = .ok (.iload_n 2, 1) := dk_28 (dk_at dksX9_segmentLine_1 23 rfl rfl)
theorem dX9_segmentLine_46 : decode cX9_segmentLine 46 = .ok (.invokevirtual 104, 3) := dk_182 0 104 (dk_at dksX9_segmentLine_2 0 rfl rfl)
theorem dX9_segmentLine_49 : decode cX9_segmentLine 49 = .ok (.aload_n 0, 1) := dk_42 (dk_at dksX9_segmentLine_2 3 rfl rfl)
theorem dX9_segmentLine_50 : decode cX9_segmentLine 50 = .ok (.iload_n 1, 1) := dk_27 (dk_at dksX9_segmentLine_2 4 rfl rfl)
theorem dX9_segmentLine_51 : decode cX9_segmentLine 51 = .ok (.iconst 0, 1) := dk_3 (dk_at dksX9_segmentLine_2 5 rfl rfl)
theorem dX9_segmentLine_52 : decode cX9_segmentLine 52 = .ok (.iload_n 3, 1) := dk_29 (dk_at dksX9_segmentLine_2 6 rfl rfl)
theorem dX9_segmentLine_53 : decode cX9_segmentLine 53 = .ok (.invokevirtual 104, 3) := dk_182 0 104 (dk_at dksX9_segmentLine_2 7 rfl rfl)
theorem dX9_segmentLine_56 : decode cX9_segmentLine 56 = .ok (.return_, 1) := dk_177 (dk_at dksX9_segmentLine_2 10 rfl rfl)
abbrev cX9_puts : ByteArray := prog_17_method_11_code
def yX9_puts : MethodName := ⟨RX9, "puts", "(III)V"⟩
def dkwX9_puts_0 : List UInt8 := [42, 180, 0, 7, 16, 25, 6, 27, 104, 96, 28, 96, 29, 79, 177]
abbrev dktX9_puts_0 : List UInt8 := dkwX9_puts_0 ++ []
theorem dksX9_puts_0 : cX9_puts.data.toList.drop 0 = dktX9_puts_0 := by decide +kernel
theorem dX9_puts_0 : decode cX9_puts 0 = .ok (.aload_n 0, 1) := dk_42 (dk_at dksX9_puts_0 0 rfl rfl)
theorem dX9_puts_1 : decode cX9_puts 1 = .ok (.getfield 7, 3) := dk_180 0 7 (dk_at dksX9_puts_0 1 rfl rfl)
theorem dX9_puts_4 : decode cX9_puts 4 = .ok (.bipush 25, 2) := dk_16 25 (dk_at dksX9_puts_0 4 rfl rfl)
theorem dX9_puts_6 : decode cX9_puts 6 = .ok (.iconst 3, 1) := dk_6 (dk_at dksX9_puts_0 6 rfl rfl)
theorem dX9_puts_7 : decode cX9_puts 7 = .ok (.iload_n 1, 1) := dk_27 (dk_at dksX9_puts_0 7 rfl rfl)
theorem dX9_puts_8 : decode cX9_puts 8 = .ok (.imul, 1) := dk_104 (dk_at dksX9_puts_0 8 rfl rfl)
theorem dX9_puts_9 : decode cX9_puts 9 = .ok (.iadd, 1) := dk_96 (dk_at dksX9_puts_0 9 rfl rfl)
theorem dX9_puts_10 : decode cX9_puts 10 = .ok (.iload_n 2, 1) := dk_28 (dk_at dksX9_puts_0 10 rfl rfl)
theorem dX9_puts_11 : decode cX9_puts 11 = .ok (.iadd, 1) := dk_96 (dk_at dksX9_puts_0 11 rfl rfl)
theorem dX9_puts_12 : decode cX9_puts 12 = .ok (.iload_n 3, 1) := dk_29 (dk_at dksX9_puts_0 12 rfl rfl)
theorem dX9_puts_13 : decode cX9_puts 13 = .ok (.iastore, 1) := dk_79 (dk_at dksX9_puts_0 13 rfl rfl)
theorem dX9_puts_14 : decode cX9_puts 14 = .ok (.return_, 1) := dk_177 (dk_at dksX9_puts_0 14 rfl rfl)
abbrev cX9_cartLine : ByteArray := prog_17_method_69_code
def yX9_cartLine : MethodName := ⟨RX9, "cartLine", "()V"⟩
def dkwX9_cartLine_2 : List UInt8 := [182, 0, 235, 182, 0, 238, 61, 177]
abbrev dktX9_cartLine_2 : List UInt8 := dkwX9_cartLine_2 ++ []
def dkwX9_cartLine_1 : List UInt8 := [4, 167, 0, 4, 3, 6, 182, 0, 200, 42, 180, 0, 187, 153, 0, 4, 177, 42, 182, 0, 204, 42, 27, 42]
abbrev dktX9_cartLine_1 : List UInt8 := dkwX9_cartLine_1 ++ dktX9_cartLine_2
def dkwX9_cartLine_0 : List UInt8 := [42, 182, 0, 204, 42, 182, 0, 215, 60, 42, 42, 180, 0, 7, 16, 125, 27, 96, 46, 16, 10, 162, 0, 7]
abbrev dktX9_cartLine_0 : List UInt8 := dkwX9_cartLine_0 ++ dktX9_cartLine_1
theorem dksX9_cartLine_0 : cX9_cartLine.data.toList.drop 0 = dktX9_cartLine_0 := by decide +kernel
theorem dksX9_cartLine_1 : cX9_cartLine.data.toList.drop 24 = dktX9_cartLine_1 := dk_seg dksX9_cartLine_0 24 rfl rfl
theorem dksX9_cartLine_2 : cX9_cartLine.data.toList.drop 48 = dktX9_cartLine_2 := dk_seg dksX9_cartLine_1 24 rfl rfl
theorem dX9_cartLine_0 : decode cX9_cartLine 0 = .ok (.aload_n 0, 1) := dk_42 (dk_at dksX9_cartLine_0 0 rfl rfl)
theorem dX9_cartLine_1 : decode cX9_cartLine 1 = .ok (.invokevirtual 204, 3) := dk_182 0 204 (dk_at dksX9_cartLine_0 1 rfl rfl)
theorem dX9_cartLine_4 : decode cX9_cartLine 4 = .ok (.aload_n 0, 1) := dk_42 (dk_at dksX9_cartLine_0 4 rfl rfl)
theorem dX9_cartLine_5 : decode cX9_cartLine 5 = .ok (.invokevirtual 215, 3) := dk_182 0 215 (dk_at dksX9_cartLine_0 5 rfl rfl)
theorem dX9_cartLine_8 : decode cX9_cartLine 8 = .ok (.istore_n 1, 1) := dk_60 (dk_at dksX9_cartLine_0 8 rfl rfl)
theorem dX9_cartLine_9 : decode cX9_cartLine 9 = .ok (.aload_n 0, 1) := dk_42 (dk_at dksX9_cartLine_0 9 rfl rfl)
theorem dX9_cartLine_10 : decode cX9_cartLine 10 = .ok (.aload_n 0, 1) := dk_42 (dk_at dksX9_cartLine_0 10 rfl rfl)
theorem dX9_cartLine_11 : decode cX9_cartLine 11 = .ok (.getfield 7, 3) := dk_180 0 7 (dk_at dksX9_cartLine_0 11 rfl rfl)
theorem dX9_cartLine_14 : decode cX9_cartLine 14 = .ok (.bipush 125, 2) := dk_16 125 (dk_at dksX9_cartLine_0 14 rfl rfl)
theorem dX9_cartLine_16 : decode cX9_cartLine 16 = .ok (.iload_n 1, 1) := dk_27 (dk_at dksX9_cartLine_0 16 rfl rfl)
theorem dX9_cartLine_17 : decode cX9_cartLine 17 = .ok (.iadd, 1) := dk_96 (dk_at dksX9_cartLine_0 17 rfl rfl)
theorem dX9_cartLine_18 : decode cX9_cartLine 18 = .ok (.iaload, 1) := dk_46 (dk_at dksX9_cartLine_0 18 rfl rfl)
theorem dX9_cartLine_19 : decode cX9_cartLine 19 = .ok (.bipush 10, 2) := dk_16 10 (dk_at dksX9_cartLine_0 19 rfl rfl)
theorem dX9_cartLine_21 : decode cX9_cartLine 21 = .ok (.if_icmp .ge 7, 3) := dk_162 0 7 (dk_at dksX9_cartLine_0 21 rfl rfl)
theorem dX9_cartLine_24 : decode cX9_cartLine 24 = .ok (.iconst 1, 1) := dk_4 (dk_at dksX9_cartLine_1 0 rfl rfl)
theorem dX9_cartLine_25 : decode cX9_cartLine 25 = .ok (.goto 4, 3) := dk_167 0 4 (dk_at dksX9_cartLine_1 1 rfl rfl)
theorem dX9_cartLine_28 : decode cX9_cartLine 28 = .ok (.iconst 0, 1) := dk_3 (dk_at dksX9_cartLine_1 4 rfl rfl)
theorem dX9_cartLine_29 : decode cX9_cartLine 29 = .ok (.iconst 3, 1) := dk_6 (dk_at dksX9_cartLine_1 5 rfl rfl)
theorem dX9_cartLine_30 : decode cX9_cartLine 30 = .ok (.invokevirtual 200, 3) := dk_182 0 200 (dk_at dksX9_cartLine_1 6 rfl rfl)
theorem dX9_cartLine_33 : decode cX9_cartLine 33 = .ok (.aload_n 0, 1) := dk_42 (dk_at dksX9_cartLine_1 9 rfl rfl)
theorem dX9_cartLine_34 : decode cX9_cartLine 34 = .ok (.getfield 187, 3) := dk_180 0 187 (dk_at dksX9_cartLine_1 10 rfl rfl)
theorem dX9_cartLine_37 : decode cX9_cartLine 37 = .ok (.ifCond .eq 4, 3) := dk_153 0 4 (dk_at dksX9_cartLine_1 13 rfl rfl)
theorem dX9_cartLine_40 : decode cX9_cartLine 40 = .ok (.return_, 1) := dk_177 (dk_at dksX9_cartLine_1 16 rfl rfl)
theorem dX9_cartLine_41 : decode cX9_cartLine 41 = .ok (.aload_n 0, 1) := dk_42 (dk_at dksX9_cartLine_1 17 rfl rfl)
theorem dX9_cartLine_42 : decode cX9_cartLine 42 = .ok (.invokevirtual 204, 3) := dk_182 0 204 (dk_at dksX9_cartLine_1 18 rfl rfl)
theorem dX9_cartLine_45 : decode cX9_cartLine 45 = .ok (.aload_n 0, 1) := dk_42 (dk_at dksX9_cartLine_1 21 rfl rfl)
theorem dX9_cartLine_46 : decode cX9_cartLine 46 = .ok (.iload_n 1, 1) := dk_27 (dk_at dksX9_cartLine_1 22 rfl rfl)
theorem dX9_cartLine_47 : decode cX9_cartLine 47 = .ok (.aload_n 0, 1) := dk_42 (dk_at dksX9_cartLine_1 23 rfl rfl)
theorem dX9_cartLine_48 : decode cX9_cartLine 48 = .ok (.invokevirtual 235, 3) := dk_182 0 235 (dk_at dksX9_cartLine_2 0 rfl rfl)
theorem dX9_cartLine_51 : decode cX9_cartLine 51 = .ok (.invokevirtual 238, 3) := dk_182 0 238 (dk_at dksX9_cartLine_2 3 rfl rfl)
theorem dX9_cartLine_54 : decode cX9_cartLine 54 = .ok (.istore_n 2, 1) := dk_61 (dk_at dksX9_cartLine_2 6 rfl rfl)
theorem dX9_cartLine_55 : decode cX9_cartLine 55 = .ok (.return_, 1) := dk_177 (dk_at dksX9_cartLine_2 7 rfl rfl)
abbrev cX9_sideHere : ByteArray := prog_17_method_59_code
def yX9_sideHere : MethodName := ⟨RX9, "sideHere", "()I"⟩
def dkwX9_sideHere_0 : List UInt8 := [42, 18, 211, 182, 0, 196, 153, 0, 5, 3, 172, 42, 42, 18, 213, 182, 0, 196, 4, 182, 0, 200, 4, 172]
abbrev dktX9_sideHere_0 : List UInt8 := dkwX9_sideHere_0 ++ []
theorem dksX9_sideHere_0 : cX9_sideHere.data.toList.drop 0 = dktX9_sideHere_0 := by decide +kernel
theorem dX9_sideHere_0 : decode cX9_sideHere 0 = .ok (.aload_n 0, 1) := dk_42 (dk_at dksX9_sideHere_0 0 rfl rfl)
theorem dX9_sideHere_1 : decode cX9_sideHere 1 = .ok (.ldc 211, 2) := dk_18 211 (dk_at dksX9_sideHere_0 1 rfl rfl)
theorem dX9_sideHere_3 : decode cX9_sideHere 3 = .ok (.invokevirtual 196, 3) := dk_182 0 196 (dk_at dksX9_sideHere_0 3 rfl rfl)
theorem dX9_sideHere_6 : decode cX9_sideHere 6 = .ok (.ifCond .eq 5, 3) := dk_153 0 5 (dk_at dksX9_sideHere_0 6 rfl rfl)
theorem dX9_sideHere_9 : decode cX9_sideHere 9 = .ok (.iconst 0, 1) := dk_3 (dk_at dksX9_sideHere_0 9 rfl rfl)
theorem dX9_sideHere_10 : decode cX9_sideHere 10 = .ok (.ireturn, 1) := dk_172 (dk_at dksX9_sideHere_0 10 rfl rfl)
theorem dX9_sideHere_11 : decode cX9_sideHere 11 = .ok (.aload_n 0, 1) := dk_42 (dk_at dksX9_sideHere_0 11 rfl rfl)
theorem dX9_sideHere_12 : decode cX9_sideHere 12 = .ok (.aload_n 0, 1) := dk_42 (dk_at dksX9_sideHere_0 12 rfl rfl)
theorem dX9_sideHere_13 : decode cX9_sideHere 13 = .ok (.ldc 213, 2) := dk_18 213 (dk_at dksX9_sideHere_0 13 rfl rfl)
theorem dX9_sideHere_15 : decode cX9_sideHere 15 = .ok (.invokevirtual 196, 3) := dk_182 0 196 (dk_at dksX9_sideHere_0 15 rfl rfl)
theorem dX9_sideHere_18 : decode cX9_sideHere 18 = .ok (.iconst 1, 1) := dk_4 (dk_at dksX9_sideHere_0 18 rfl rfl)
theorem dX9_sideHere_19 : decode cX9_sideHere 19 = .ok (.invokevirtual 200, 3) := dk_182 0 200 (dk_at dksX9_sideHere_0 19 rfl rfl)
theorem dX9_sideHere_22 : decode cX9_sideHere 22 = .ok (.iconst 1, 1) := dk_4 (dk_at dksX9_sideHere_0 22 rfl rfl)
theorem dX9_sideHere_23 : decode cX9_sideHere 23 = .ok (.ireturn, 1) := dk_172 (dk_at dksX9_sideHere_0 23 rfl rfl)
abbrev cX9_chainsHere : ByteArray := prog_17_method_61_code
def yX9_chainsHere : MethodName := ⟨RX9, "chainsHere", "()I"⟩
def dkwX9_chainsHere_0 : List UInt8 := [42, 18, 218, 182, 0, 196, 154, 0, 5, 3, 172, 42, 182, 0, 204, 4, 172]
abbrev dktX9_chainsHere_0 : List UInt8 := dkwX9_chainsHere_0 ++ []
theorem dksX9_chainsHere_0 : cX9_chainsHere.data.toList.drop 0 = dktX9_chainsHere_0 := by decide +kernel
theorem dX9_chainsHere_0 : decode cX9_chainsHere 0 = .ok (.aload_n 0, 1) := dk_42 (dk_at dksX9_chainsHere_0 0 rfl rfl)
theorem dX9_chainsHere_1 : decode cX9_chainsHere 1 = .ok (.ldc 218, 2) := dk_18 218 (dk_at dksX9_chainsHere_0 1 rfl rfl)
theorem dX9_chainsHere_3 : decode cX9_chainsHere 3 = .ok (.invokevirtual 196, 3) := dk_182 0 196 (dk_at dksX9_chainsHere_0 3 rfl rfl)
theorem dX9_chainsHere_6 : decode cX9_chainsHere 6 = .ok (.ifCond .ne 5, 3) := dk_154 0 5 (dk_at dksX9_chainsHere_0 6 rfl rfl)
theorem dX9_chainsHere_9 : decode cX9_chainsHere 9 = .ok (.iconst 0, 1) := dk_3 (dk_at dksX9_chainsHere_0 9 rfl rfl)
theorem dX9_chainsHere_10 : decode cX9_chainsHere 10 = .ok (.ireturn, 1) := dk_172 (dk_at dksX9_chainsHere_0 10 rfl rfl)
theorem dX9_chainsHere_11 : decode cX9_chainsHere 11 = .ok (.aload_n 0, 1) := dk_42 (dk_at dksX9_chainsHere_0 11 rfl rfl)
theorem dX9_chainsHere_12 : decode cX9_chainsHere 12 = .ok (.invokevirtual 204, 3) := dk_182 0 204 (dk_at dksX9_chainsHere_0 12 rfl rfl)
theorem dX9_chainsHere_15 : decode cX9_chainsHere 15 = .ok (.iconst 1, 1) := dk_4 (dk_at dksX9_chainsHere_0 15 rfl rfl)
theorem dX9_chainsHere_16 : decode cX9_chainsHere 16 = .ok (.ireturn, 1) := dk_172 (dk_at dksX9_chainsHere_0 16 rfl rfl)
abbrev cX9_cartNow : ByteArray := prog_17_method_43_code
def yX9_cartNow : MethodName := ⟨RX9, "cartNow", "(II)Z"⟩
def dkwX9_cartNow_4 : List UInt8 := [4, 172]
abbrev dktX9_cartNow_4 : List UInt8 := dkwX9_cartNow_4 ++ []
def dkwX9_cartNow_3 : List UInt8 := [96, 79, 42, 42, 180, 0, 7, 16, 8, 46, 181, 0, 155, 42, 180, 0, 7, 16, 8, 92, 46, 4, 96, 79]
abbrev dktX9_cartNow_3 : List UInt8 := dkwX9_cartNow_3 ++ dktX9_cartNow_4
def dkwX9_cartNow_2 : List UInt8 := [16, 8, 46, 79, 42, 180, 0, 7, 29, 4, 96, 28, 79, 42, 180, 0, 7, 16, 125, 27, 96, 92, 46, 4]
abbrev dktX9_cartNow_2 : List UInt8 := dkwX9_cartNow_2 ++ dktX9_cartNow_3
def dkwX9_cartNow_1 : List UInt8 := [180, 0, 7, 16, 125, 27, 96, 46, 96, 104, 96, 62, 42, 180, 0, 7, 29, 3, 96, 42, 180, 0, 7]
abbrev dktX9_cartNow_1 : List UInt8 := dkwX9_cartNow_1 ++ dktX9_cartNow_2
def dkwX9_cartNow_0 : List UInt8 := [42, 180, 0, 7, 16, 125, 27, 96, 46, 16, 10, 160, 0, 5, 3, 172, 16, 127, 5, 16, 10, 27, 104, 42]
abbrev dktX9_cartNow_0 : List UInt8 := dkwX9_cartNow_0 ++ dktX9_cartNow_1
theorem dksX9_cartNow_0 : cX9_cartNow.data.toList.drop 0 = dktX9_cartNow_0 := by decide +kernel
theorem dksX9_cartNow_1 : cX9_cartNow.data.toList.drop 24 = dktX9_cartNow_1 := dk_seg dksX9_cartNow_0 24 rfl rfl
theorem dksX9_cartNow_2 : cX9_cartNow.data.toList.drop 47 = dktX9_cartNow_2 := dk_seg dksX9_cartNow_1 23 rfl rfl
theorem dksX9_cartNow_3 : cX9_cartNow.data.toList.drop 71 = dktX9_cartNow_3 := dk_seg dksX9_cartNow_2 24 rfl rfl
theorem dksX9_cartNow_4 : cX9_cartNow.data.toList.drop 95 = dktX9_cartNow_4 := dk_seg dksX9_cartNow_3 24 rfl rfl
theorem dX9_cartNow_0 : decode cX9_cartNow 0 = .ok (.aload_n 0, 1) := dk_42 (dk_at dksX9_cartNow_0 0 rfl rfl)
theorem dX9_cartNow_1 : decode cX9_cartNow 1 = .ok (.getfield 7, 3) := dk_180 0 7 (dk_at dksX9_cartNow_0 1 rfl rfl)
theorem dX9_cartNow_4 : decode cX9_cartNow 4 = .ok (.bipush 125, 2) := dk_16 125 (dk_at dksX9_cartNow_0 4 rfl rfl)
theorem dX9_cartNow_6 : decode cX9_cartNow 6 = .ok (.iload_n 1, 1) := dk_27 (dk_at dksX9_cartNow_0 6 rfl rfl)
theorem dX9_cartNow_7 : decode cX9_cartNow 7 = .ok (.iadd, 1) := dk_96 (dk_at dksX9_cartNow_0 7 rfl rfl)
theorem dX9_cartNow_8 : decode cX9_cartNow 8 = .ok (.iaload, 1) := dk_46 (dk_at dksX9_cartNow_0 8 rfl rfl)
theorem dX9_cartNow_9 : decode cX9_cartNow 9 = .ok (.bipush 10, 2) := dk_16 10 (dk_at dksX9_cartNow_0 9 rfl rfl)
theorem dX9_cartNow_11 : decode cX9_cartNow 11 = .ok (.if_icmp .ne 5, 3) := dk_160 0 5 (dk_at dksX9_cartNow_0 11 rfl rfl)
theorem dX9_cartNow_14 : decode cX9_cartNow 14 = .ok (.iconst 0, 1) := dk_3 (dk_at dksX9_cartNow_0 14 rfl rfl)
theorem dX9_cartNow_15 : decode cX9_cartNow 15 = .ok (.ireturn, 1) := dk_172 (dk_at dksX9_cartNow_0 15 rfl rfl)
theorem dX9_cartNow_16 : decode cX9_cartNow 16 = .ok (.bipush 127, 2) := dk_16 127 (dk_at dksX9_cartNow_0 16 rfl rfl)
theorem dX9_cartNow_18 : decode cX9_cartNow 18 = .ok (.iconst 2, 1) := dk_5 (dk_at dksX9_cartNow_0 18 rfl rfl)
theorem dX9_cartNow_19 : decode cX9_cartNow 19 = .ok (.bipush 10, 2) := dk_16 10 (dk_at dksX9_cartNow_0 19 rfl rfl)
theorem dX9_cartNow_21 : decode cX9_cartNow 21 = .ok (.iload_n 1, 1) := dk_27 (dk_at dksX9_cartNow_0 21 rfl rfl)
theorem dX9_cartNow_22 : decode cX9_cartNow 22 = .ok (.imul, 1) := dk_104 (dk_at dksX9_cartNow_0 22 rfl rfl)
theorem dX9_cartNow_23 : decode cX9_cartNow 23 = .ok (.aload_n 0, 1) := dk_42 (dk_at dksX9_cartNow_0 23 rfl rfl)
theorem dX9_cartNow_24 : decode cX9_cartNow 24 = .ok (.getfield 7, 3) := dk_180 0 7 (dk_at dksX9_cartNow_1 0 rfl rfl)
theorem dX9_cartNow_27 : decode cX9_cartNow 27 = .ok (.bipush 125, 2) := dk_16 125 (dk_at dksX9_cartNow_1 3 rfl rfl)
theorem dX9_cartNow_29 : decode cX9_cartNow 29 = .ok (.iload_n 1, 1) := dk_27 (dk_at dksX9_cartNow_1 5 rfl rfl)
theorem dX9_cartNow_30 : decode cX9_cartNow 30 = .ok (.iadd, 1) := dk_96 (dk_at dksX9_cartNow_1 6 rfl rfl)
theorem dX9_cartNow_31 : decode cX9_cartNow 31 = .ok (.iaload, 1) := dk_46 (dk_at dksX9_cartNow_1 7 rfl rfl)
theorem dX9_cartNow_32 : decode cX9_cartNow 32 = .ok (.iadd, 1) := dk_96 (dk_at dksX9_cartNow_1 8 rfl rfl)
theorem dX9_cartNow_33 : decode cX9_cartNow 33 = .ok (.imul, 1) := dk_104 (dk_at dksX9_cartNow_1 9 rfl rfl)
theorem dX9_cartNow_34 : decode cX9_cartNow 34 = .ok (.iadd, 1) := dk_96 (dk_at dksX9_cartNow_1 10 rfl rfl)
theorem dX9_cartNow_35 : decode cX9_cartNow 35 = .ok (.istore_n 3, 1) := dk_62 (dk_at dksX9_cartNow_1 11 rfl rfl)
theorem dX9_cartNow_36 : decode cX9_cartNow 36 = .ok (.aload_n 0, 1) := dk_42 (dk_at dksX9_cartNow_1 12 rfl rfl)
theorem dX9_cartNow_37 : decode cX9_cartNow 37 = .ok (.getfield 7, 3) := dk_180 0 7 (dk_at dksX9_cartNow_1 13 rfl rfl)
theorem dX9_cartNow_40 : decode cX9_cartNow 40 = .ok (.iload_n 3, 1) := dk_29 (dk_at dksX9_cartNow_1 16 rfl rfl)
theorem dX9_cartNow_41 : decode cX9_cartNow 41 = .ok (.iconst 0, 1) := dk_3 (dk_at dksX9_cartNow_1 17 rfl rfl)
theorem dX9_cartNow_42 : decode cX9_cartNow 42 = .ok (.iadd, 1) := dk_96 (dk_at dksX9_cartNow_1 18 rfl rfl)
theorem dX9_cartNow_43 : decode cX9_cartNow 43 = .ok (.aload_n 0, 1) := dk_42 (dk_at dksX9_cartNow_1 19 rfl rfl)
theorem dX9_cartNow_44 : decode cX9_cartNow 44 = .ok (.getfield 7, 3) := dk_180 0 7 (dk_at dksX9_cartNow_1 20 rfl rfl)
theorem dX9_cartNow_47 : decode cX9_cartNow 47 = .ok (.bipush 8, 2) := dk_16 8 (dk_at dksX9_cartNow_2 0 rfl rfl)
theorem dX9_cartNow_49 : decode cX9_cartNow 49 = .ok (.iaload, 1) := dk_46 (dk_at dksX9_cartNow_2 2 rfl rfl)
theorem dX9_cartNow_50 : decode cX9_cartNow 50 = .ok (.iastore, 1) := dk_79 (dk_at dksX9_cartNow_2 3 rfl rfl)
theorem dX9_cartNow_51 : decode cX9_cartNow 51 = .ok (.aload_n 0, 1) := dk_42 (dk_at dksX9_cartNow_2 4 rfl rfl)
theorem dX9_cartNow_52 : decode cX9_cartNow 52 = .ok (.getfield 7, 3) := dk_180 0 7 (dk_at dksX9_cartNow_2 5 rfl rfl)
theorem dX9_cartNow_55 : decode cX9_cartNow 55 = .ok (.iload_n 3, 1) := dk_29 (dk_at dksX9_cartNow_2 8 rfl rfl)
theorem dX9_cartNow_56 : decode cX9_cartNow 56 = .ok (.iconst 1, 1) := dk_4 (dk_at dksX9_cartNow_2 9 rfl rfl)
theorem dX9_cartNow_57 : decode cX9_cartNow 57 = .ok (.iadd, 1) := dk_96 (dk_at dksX9_cartNow_2 10 rfl rfl)
theorem dX9_cartNow_58 : decode cX9_cartNow 58 = .ok (.iload_n 2, 1) := dk_28 (dk_at dksX9_cartNow_2 11 rfl rfl)
theorem dX9_cartNow_59 : decode cX9_cartNow 59 = .ok (.iastore, 1) := dk_79 (dk_at dksX9_cartNow_2 12 rfl rfl)
theorem dX9_cartNow_60 : decode cX9_cartNow 60 = .ok (.aload_n 0, 1) := dk_42 (dk_at dksX9_cartNow_2 13 rfl rfl)
theorem dX9_cartNow_61 : decode cX9_cartNow 61 = .ok (.getfield 7, 3) := dk_180 0 7 (dk_at dksX9_cartNow_2 14 rfl rfl)
theorem dX9_cartNow_64 : decode cX9_cartNow 64 = .ok (.bipush 125, 2) := dk_16 125 (dk_at dksX9_cartNow_2 17 rfl rfl)
theorem dX9_cartNow_66 : decode cX9_cartNow 66 = .ok (.iload_n 1, 1) := dk_27 (dk_at dksX9_cartNow_2 19 rfl rfl)
theorem dX9_cartNow_67 : decode cX9_cartNow 67 = .ok (.iadd, 1) := dk_96 (dk_at dksX9_cartNow_2 20 rfl rfl)
theorem dX9_cartNow_68 : decode cX9_cartNow 68 = .ok (.dup2, 1) := dk_92 (dk_at dksX9_cartNow_2 21 rfl rfl)
theorem dX9_cartNow_69 : decode cX9_cartNow 69 = .ok (.iaload, 1) := dk_46 (dk_at dksX9_cartNow_2 22 rfl rfl)
theorem dX9_cartNow_70 : decode cX9_cartNow 70 = .ok (.iconst 1, 1) := dk_4 (dk_at dksX9_cartNow_2 23 rfl rfl)
theorem dX9_cartNow_71 : decode cX9_cartNow 71 = .ok (.iadd, 1) := dk_96 (dk_at dksX9_cartNow_3 0 rfl rfl)
theorem dX9_cartNow_72 : decode cX9_cartNow 72 = .ok (.iastore, 1) := dk_79 (dk_at dksX9_cartNow_3 1 rfl rfl)
theorem dX9_cartNow_73 : decode cX9_cartNow 73 = .ok (.aload_n 0, 1) := dk_42 (dk_at dksX9_cartNow_3 2 rfl rfl)
theorem dX9_cartNow_74 : decode cX9_cartNow 74 = .ok (.aload_n 0, 1) := dk_42 (dk_at dksX9_cartNow_3 3 rfl rfl)
theorem dX9_cartNow_75 : decode cX9_cartNow 75 = .ok (.getfield 7, 3) := dk_180 0 7 (dk_at dksX9_cartNow_3 4 rfl rfl)
theorem dX9_cartNow_78 : decode cX9_cartNow 78 = .ok (.bipush 8, 2) := dk_16 8 (dk_at dksX9_cartNow_3 7 rfl rfl)
theorem dX9_cartNow_80 : decode cX9_cartNow 80 = .ok (.iaload, 1) := dk_46 (dk_at dksX9_cartNow_3 9 rfl rfl)
theorem dX9_cartNow_81 : decode cX9_cartNow 81 = .ok (.putfield 155, 3) := dk_181 0 155 (dk_at dksX9_cartNow_3 10 rfl rfl)
theorem dX9_cartNow_84 : decode cX9_cartNow 84 = .ok (.aload_n 0, 1) := dk_42 (dk_at dksX9_cartNow_3 13 rfl rfl)
theorem dX9_cartNow_85 : decode cX9_cartNow 85 = .ok (.getfield 7, 3) := dk_180 0 7 (dk_at dksX9_cartNow_3 14 rfl rfl)
theorem dX9_cartNow_88 : decode cX9_cartNow 88 = .ok (.bipush 8, 2) := dk_16 8 (dk_at dksX9_cartNow_3 17 rfl rfl)
theorem dX9_cartNow_90 : decode cX9_cartNow 90 = .ok (.dup2, 1) := dk_92 (dk_at dksX9_cartNow_3 19 rfl rfl)
theorem dX9_cartNow_91 : decode cX9_cartNow 91 = .ok (.iaload, 1) := dk_46 (dk_at dksX9_cartNow_3 20 rfl rfl)
theorem dX9_cartNow_92 : decode cX9_cartNow 92 = .ok (.iconst 1, 1) := dk_4 (dk_at dksX9_cartNow_3 21 rfl rfl)
theorem dX9_cartNow_93 : decode cX9_cartNow 93 = .ok (.iadd, 1) := dk_96 (dk_at dksX9_cartNow_3 22 rfl rfl)
theorem dX9_cartNow_94 : decode cX9_cartNow 94 = .ok (.iastore, 1) := dk_79 (dk_at dksX9_cartNow_3 23 rfl rfl)
theorem dX9_cartNow_95 : decode cX9_cartNow 95 = .ok (.iconst 1, 1) := dk_4 (dk_at dksX9_cartNow_4 0 rfl rfl)
theorem dX9_cartNow_96 : decode cX9_cartNow 96 = .ok (.ireturn, 1) := dk_172 (dk_at dksX9_cartNow_4 1 rfl rfl)
abbrev cX9_endsText : ByteArray := prog_17_method_63_code
def yX9_endsText : MethodName := ⟨RX9, "endsText", "()Z"⟩
def dkwX9_endsText_1 : List UInt8 := [180, 0, 187, 154, 0, 7, 4, 167, 0, 4, 3, 172]
abbrev dktX9_endsText_1 : List UInt8 := dkwX9_endsText_1 ++ []
def dkwX9_endsText_0 : List UInt8 := [42, 3, 181, 0, 50, 42, 42, 180, 0, 187, 181, 0, 220, 42, 42, 180, 0, 190, 181, 0, 28, 42]
abbrev dktX9_endsText_0 : List UInt8 := dkwX9_endsText_0 ++ dktX9_endsText_1
theorem dksX9_endsText_0 : cX9_endsText.data.toList.drop 0 = dktX9_endsText_0 := by decide +kernel
theorem dksX9_endsText_1 : cX9_endsText.data.toList.drop 22 = dktX9_endsText_1 := dk_seg dksX9_endsText_0 22 rfl rfl
theorem dX9_endsText_0 : decode cX9_endsText 0 = .ok (.aload_n 0, 1) := dk_42 (dk_at dksX9_endsText_0 0 rfl rfl)
theorem dX9_endsText_1 : decode cX9_endsText 1 = .ok (.iconst 0, 1) := dk_3 (dk_at dksX9_endsText_0 1 rfl rfl)
theorem dX9_endsText_2 : decode cX9_endsText 2 = .ok (.putfield 50, 3) := dk_181 0 50 (dk_at dksX9_endsText_0 2 rfl rfl)
theorem dX9_endsText_5 : decode cX9_endsText 5 = .ok (.aload_n 0, 1) := dk_42 (dk_at dksX9_endsText_0 5 rfl rfl)
theorem dX9_endsText_6 : decode cX9_endsText 6 = .ok (.aload_n 0, 1) := dk_42 (dk_at dksX9_endsText_0 6 rfl rfl)
theorem dX9_endsText_7 : decode cX9_endsText 7 = .ok (.getfield 187, 3) := dk_180 0 187 (dk_at dksX9_endsText_0 7 rfl rfl)
theorem dX9_endsText_10 : decode cX9_endsText 10 = .ok (.putfield 220, 3) := dk_181 0 220 (dk_at dksX9_endsText_0 10 rfl rfl)
theorem dX9_endsText_13 : decode cX9_endsText 13 = .ok (.aload_n 0, 1) := dk_42 (dk_at dksX9_endsText_0 13 rfl rfl)
theorem dX9_endsText_14 : decode cX9_endsText 14 = .ok (.aload_n 0, 1) := dk_42 (dk_at dksX9_endsText_0 14 rfl rfl)
theorem dX9_endsText_15 : decode cX9_endsText 15 = .ok (.getfield 190, 3) := dk_180 0 190 (dk_at dksX9_endsText_0 15 rfl rfl)
theorem dX9_endsText_18 : decode cX9_endsText 18 = .ok (.putfield 28, 3) := dk_181 0 28 (dk_at dksX9_endsText_0 18 rfl rfl)
theorem dX9_endsText_21 : decode cX9_endsText 21 = .ok (.aload_n 0, 1) := dk_42 (dk_at dksX9_endsText_0 21 rfl rfl)
theorem dX9_endsText_22 : decode cX9_endsText 22 = .ok (.getfield 187, 3) := dk_180 0 187 (dk_at dksX9_endsText_1 0 rfl rfl)
theorem dX9_endsText_25 : decode cX9_endsText 25 = .ok (.ifCond .ne 7, 3) := dk_154 0 7 (dk_at dksX9_endsText_1 3 rfl rfl)
theorem dX9_endsText_28 : decode cX9_endsText 28 = .ok (.iconst 1, 1) := dk_4 (dk_at dksX9_endsText_1 6 rfl rfl)
theorem dX9_endsText_29 : decode cX9_endsText 29 = .ok (.goto 4, 3) := dk_167 0 4 (dk_at dksX9_endsText_1 7 rfl rfl)
theorem dX9_endsText_32 : decode cX9_endsText 32 = .ok (.iconst 0, 1) := dk_3 (dk_at dksX9_endsText_1 10 rfl rfl)
theorem dX9_endsText_33 : decode cX9_endsText 33 = .ok (.ireturn, 1) := dk_172 (dk_at dksX9_endsText_1 11 rfl rfl)
abbrev cX9_passes : ByteArray := prog_17_method_5_code
def yX9_passes : MethodName := ⟨RX9, "passes", "(Z)Z"⟩
def dkwX9_passes_0 : List UInt8 := [42, 27, 153, 0, 7, 3, 167, 0, 4, 4, 181, 0, 55, 27, 172]
abbrev dktX9_passes_0 : List UInt8 := dkwX9_passes_0 ++ []
theorem dksX9_passes_0 : cX9_passes.data.toList.drop 0 = dktX9_passes_0 := by decide +kernel
theorem dX9_passes_0 : decode cX9_passes 0 = .ok (.aload_n 0, 1) := dk_42 (dk_at dksX9_passes_0 0 rfl rfl)
theorem dX9_passes_1 : decode cX9_passes 1 = .ok (.iload_n 1, 1) := dk_27 (dk_at dksX9_passes_0 1 rfl rfl)
theorem dX9_passes_2 : decode cX9_passes 2 = .ok (.ifCond .eq 7, 3) := dk_153 0 7 (dk_at dksX9_passes_0 2 rfl rfl)
theorem dX9_passes_5 : decode cX9_passes 5 = .ok (.iconst 0, 1) := dk_3 (dk_at dksX9_passes_0 5 rfl rfl)
theorem dX9_passes_6 : decode cX9_passes 6 = .ok (.goto 4, 3) := dk_167 0 4 (dk_at dksX9_passes_0 6 rfl rfl)
theorem dX9_passes_9 : decode cX9_passes 9 = .ok (.iconst 1, 1) := dk_4 (dk_at dksX9_passes_0 9 rfl rfl)
theorem dX9_passes_10 : decode cX9_passes 10 = .ok (.putfield 55, 3) := dk_181 0 55 (dk_at dksX9_passes_0 10 rfl rfl)
theorem dX9_passes_13 : decode cX9_passes 13 = .ok (.iload_n 1, 1) := dk_27 (dk_at dksX9_passes_0 13 rfl rfl)
theorem dX9_passes_14 : decode cX9_passes 14 = .ok (.ireturn, 1) := dk_172 (dk_at dksX9_passes_0 14 rfl rfl)
abbrev cX9_depths : ByteArray := prog_17_method_22_code
def yX9_depths : MethodName := ⟨RX9, "depths", "()I"⟩
def dkwX9_depths_1 : List UInt8 := [132, 2, 1, 167, 255, 234, 27, 172]
abbrev dktX9_depths_1 : List UInt8 := dkwX9_depths_1 ++ []
def dkwX9_depths_0 : List UInt8 := [3, 60, 3, 61, 28, 42, 180, 0, 7, 3, 46, 162, 0, 18, 27, 42, 28, 3, 182, 0, 66, 96, 60]
abbrev dktX9_depths_0 : List UInt8 := dkwX9_depths_0 ++ dktX9_depths_1
theorem dksX9_depths_0 : cX9_depths.data.toList.drop 0 = dktX9_depths_0 := by decide +kernel
theorem dksX9_depths_1 : cX9_depths.data.toList.drop 23 = dktX9_depths_1 := dk_seg dksX9_depths_0 23 rfl rfl
theorem dX9_depths_0 : decode cX9_depths 0 = .ok (.iconst 0, 1) := dk_3 (dk_at dksX9_depths_0 0 rfl rfl)
theorem dX9_depths_1 : decode cX9_depths 1 = .ok (.istore_n 1, 1) := dk_60 (dk_at dksX9_depths_0 1 rfl rfl)
theorem dX9_depths_2 : decode cX9_depths 2 = .ok (.iconst 0, 1) := dk_3 (dk_at dksX9_depths_0 2 rfl rfl)
theorem dX9_depths_3 : decode cX9_depths 3 = .ok (.istore_n 2, 1) := dk_61 (dk_at dksX9_depths_0 3 rfl rfl)
theorem dX9_depths_4 : decode cX9_depths 4 = .ok (.iload_n 2, 1) := dk_28 (dk_at dksX9_depths_0 4 rfl rfl)
theorem dX9_depths_5 : decode cX9_depths 5 = .ok (.aload_n 0, 1) := dk_42 (dk_at dksX9_depths_0 5 rfl rfl)
theorem dX9_depths_6 : decode cX9_depths 6 = .ok (.getfield 7, 3) := dk_180 0 7 (dk_at dksX9_depths_0 6 rfl rfl)
theorem dX9_depths_9 : decode cX9_depths 9 = .ok (.iconst 0, 1) := dk_3 (dk_at dksX9_depths_0 9 rfl rfl)
theorem dX9_depths_10 : decode cX9_depths 10 = .ok (.iaload, 1) := dk_46 (dk_at dksX9_depths_0 10 rfl rfl)
theorem dX9_depths_11 : decode cX9_depths 11 = .ok (.if_icmp .ge 18, 3) := dk_162 0 18 (dk_at dksX9_depths_0 11 rfl rfl)
theorem dX9_depths_14 : decode cX9_depths 14 = .ok (.iload_n 1, 1) := dk_27 (dk_at dksX9_depths_0 14 rfl rfl)
theorem dX9_depths_15 : decode cX9_depths 15 = .ok (.aload_n 0, 1) := dk_42 (dk_at dksX9_depths_0 15 rfl rfl)
theorem dX9_depths_16 : decode cX9_depths 16 = .ok (.iload_n 2, 1) := dk_28 (dk_at dksX9_depths_0 16 rfl rfl)
theorem dX9_depths_17 : decode cX9_depths 17 = .ok (.iconst 0, 1) := dk_3 (dk_at dksX9_depths_0 17 rfl rfl)
theorem dX9_depths_18 : decode cX9_depths 18 = .ok (.invokevirtual 66, 3) := dk_182 0 66 (dk_at dksX9_depths_0 18 rfl rfl)
theorem dX9_depths_21 : decode cX9_depths 21 = .ok (.iadd, 1) := dk_96 (dk_at dksX9_depths_0 21 rfl rfl)
theorem dX9_depths_22 : decode cX9_depths 22 = .ok (.istore_n 1, 1) := dk_60 (dk_at dksX9_depths_0 22 rfl rfl)
theorem dX9_depths_23 : decode cX9_depths 23 = .ok (.iinc 2 1, 3) := dk_132 2 1 (dk_at dksX9_depths_1 0 rfl rfl)
theorem dX9_depths_26 : decode cX9_depths 26 = .ok (.goto (-22), 3) := dk_167 255 234 (dk_at dksX9_depths_1 3 rfl rfl)
theorem dX9_depths_29 : decode cX9_depths 29 = .ok (.iload_n 1, 1) := dk_27 (dk_at dksX9_depths_1 6 rfl rfl)
theorem dX9_depths_30 : decode cX9_depths 30 = .ok (.ireturn, 1) := dk_172 (dk_at dksX9_depths_1 7 rfl rfl)
abbrev cX9_of : ByteArray := prog_17_method_10_code
def yX9_of : MethodName := ⟨RX9, "of", "(II)I"⟩
def dkwX9_of_0 : List UInt8 := [42, 180, 0, 7, 16, 25, 6, 27, 104, 96, 28, 96, 46, 172]
abbrev dktX9_of_0 : List UInt8 := dkwX9_of_0 ++ []
theorem dksX9_of_0 : cX9_of.data.toList.drop 0 = dktX9_of_0 := by decide +kernel
theorem dX9_of_0 : decode cX9_of 0 = .ok (.aload_n 0, 1) := dk_42 (dk_at dksX9_of_0 0 rfl rfl)
theorem dX9_of_1 : decode cX9_of 1 = .ok (.getfield 7, 3) := dk_180 0 7 (dk_at dksX9_of_0 1 rfl rfl)
theorem dX9_of_4 : decode cX9_of 4 = .ok (.bipush 25, 2) := dk_16 25 (dk_at dksX9_of_0 4 rfl rfl)
theorem dX9_of_6 : decode cX9_of 6 = .ok (.iconst 3, 1) := dk_6 (dk_at dksX9_of_0 6 rfl rfl)
theorem dX9_of_7 : decode cX9_of 7 = .ok (.iload_n 1, 1) := dk_27 (dk_at dksX9_of_0 7 rfl rfl)
theorem dX9_of_8 : decode cX9_of 8 = .ok (.imul, 1) := dk_104 (dk_at dksX9_of_0 8 rfl rfl)
theorem dX9_of_9 : decode cX9_of 9 = .ok (.iadd, 1) := dk_96 (dk_at dksX9_of_0 9 rfl rfl)
theorem dX9_of_10 : decode cX9_of 10 = .ok (.iload_n 2, 1) := dk_28 (dk_at dksX9_of_0 10 rfl rfl)
theorem dX9_of_11 : decode cX9_of 11 = .ok (.iadd, 1) := dk_96 (dk_at dksX9_of_0 11 rfl rfl)
theorem dX9_of_12 : decode cX9_of 12 = .ok (.iaload, 1) := dk_46 (dk_at dksX9_of_0 12 rfl rfl)
theorem dX9_of_13 : decode cX9_of 13 = .ok (.ireturn, 1) := dk_172 (dk_at dksX9_of_0 13 rfl rfl)
abbrev cX9_thrown : ByteArray := prog_17_method_2_code
def yX9_thrown : MethodName := ⟨RX9, "thrown", "()I"⟩
theorem dX9_thrown_0 : decode cX9_thrown 0 = .ok (.aload_n 0, 1) := by decide +kernel
theorem dX9_thrown_1 : decode cX9_thrown 1 = .ok (.getfield 55, 3) := by decide +kernel
theorem dX9_thrown_4 : decode cX9_thrown 4 = .ok (.ireturn, 1) := by decide +kernel
abbrev cX9_append : ByteArray := prog_17_method_49_code
def yX9_append : MethodName := ⟨RX9, "append", "(IIIII)I"⟩
def dkwX9_append_2 : List UInt8 := [182, 0, 168, 42, 21, 5, 182, 0, 168, 42, 180, 0, 50, 172]
abbrev dktX9_append_2 : List UInt8 := dkwX9_append_2 ++ []
def dkwX9_append_1 : List UInt8 := [154, 0, 5, 3, 172, 42, 27, 182, 0, 168, 42, 28, 182, 0, 168, 42, 29, 182, 0, 168, 42, 21, 4]
abbrev dktX9_append_1 : List UInt8 := dkwX9_append_1 ++ dktX9_append_2
def dkwX9_append_0 : List UInt8 := [42, 42, 180, 0, 50, 16, 20, 96, 17, 2, 188, 163, 0, 7, 4, 167, 0, 4, 3, 182, 0, 164]
abbrev dktX9_append_0 : List UInt8 := dkwX9_append_0 ++ dktX9_append_1
theorem dksX9_append_0 : cX9_append.data.toList.drop 0 = dktX9_append_0 := by decide +kernel
theorem dksX9_append_1 : cX9_append.data.toList.drop 22 = dktX9_append_1 := dk_seg dksX9_append_0 22 rfl rfl
theorem dksX9_append_2 : cX9_append.data.toList.drop 45 = dktX9_append_2 := dk_seg dksX9_append_1 23 rfl rfl
theorem dX9_append_0 : decode cX9_append 0 = .ok (.aload_n 0, 1) := dk_42 (dk_at dksX9_append_0 0 rfl rfl)
theorem dX9_append_1 : decode cX9_append 1 = .ok (.aload_n 0, 1) := dk_42 (dk_at dksX9_append_0 1 rfl rfl)
theorem dX9_append_2 : decode cX9_append 2 = .ok (.getfield 50, 3) := dk_180 0 50 (dk_at dksX9_append_0 2 rfl rfl)
theorem dX9_append_5 : decode cX9_append 5 = .ok (.bipush 20, 2) := dk_16 20 (dk_at dksX9_append_0 5 rfl rfl)
theorem dX9_append_7 : decode cX9_append 7 = .ok (.iadd, 1) := dk_96 (dk_at dksX9_append_0 7 rfl rfl)
theorem dX9_append_8 : decode cX9_append 8 = .ok (.sipush 700, 3) := dk_17 2 188 (dk_at dksX9_append_0 8 rfl rfl)
theorem dX9_append_11 : decode cX9_append 11 = .ok (.if_icmp .gt 7, 3) := dk_163 0 7 (dk_at dksX9_append_0 11 rfl rfl)
theorem dX9_append_14 : decode cX9_append 14 = .ok (.iconst 1, 1) := dk_4 (dk_at dksX9_append_0 14 rfl rfl)
theorem dX9_append_15 : decode cX9_append 15 = .ok (.goto 4, 3) := dk_167 0 4 (dk_at dksX9_append_0 15 rfl rfl)
theorem dX9_append_18 : decode cX9_append 18 = .ok (.iconst 0, 1) := dk_3 (dk_at dksX9_append_0 18 rfl rfl)
theorem dX9_append_19 : decode cX9_append 19 = .ok (.invokevirtual 164, 3) := dk_182 0 164 (dk_at dksX9_append_0 19 rfl rfl)
theorem dX9_append_22 : decode cX9_append 22 = .ok (.ifCond .ne 5, 3) := dk_154 0 5 (dk_at dksX9_append_1 0 rfl rfl)
theorem dX9_append_25 : decode cX9_append 25 = .ok (.iconst 0, 1) := dk_3 (dk_at dksX9_append_1 3 rfl rfl)
theorem dX9_append_26 : decode cX9_append 26 = .ok (.ireturn, 1) := dk_172 (dk_at dksX9_append_1 4 rfl rfl)
theorem dX9_append_27 : decode cX9_append 27 = .ok (.aload_n 0, 1) := dk_42 (dk_at dksX9_append_1 5 rfl rfl)
theorem dX9_append_28 : decode cX9_append 28 = .ok (.iload_n 1, 1) := dk_27 (dk_at dksX9_append_1 6 rfl rfl)
theorem dX9_append_29 : decode cX9_append 29 = .ok (.invokevirtual 168, 3) := dk_182 0 168 (dk_at dksX9_append_1 7 rfl rfl)
theorem dX9_append_32 : decode cX9_append 32 = .ok (.aload_n 0, 1) := dk_42 (dk_at dksX9_append_1 10 rfl rfl)
theorem dX9_append_33 : decode cX9_append 33 = .ok (.iload_n 2, 1) := dk_28 (dk_at dksX9_append_1 11 rfl rfl)
theorem dX9_append_34 : decode cX9_append 34 = .ok (.invokevirtual 168, 3) := dk_182 0 168 (dk_at dksX9_append_1 12 rfl rfl)
theorem dX9_append_37 : decode cX9_append 37 = .ok (.aload_n 0, 1) := dk_42 (dk_at dksX9_append_1 15 rfl rfl)
theorem dX9_append_38 : decode cX9_append 38 = .ok (.iload_n 3, 1) := dk_29 (dk_at dksX9_append_1 16 rfl rfl)
theorem dX9_append_39 : decode cX9_append 39 = .ok (.invokevirtual 168, 3) := dk_182 0 168 (dk_at dksX9_append_1 17 rfl rfl)
theorem dX9_append_42 : decode cX9_append 42 = .ok (.aload_n 0, 1) := dk_42 (dk_at dksX9_append_1 20 rfl rfl)
theorem dX9_append_43 : decode cX9_append 43 = .ok (.iload 4, 2) := dk_21 4 (dk_at dksX9_append_1 21 rfl rfl)
theorem dX9_append_45 : decode cX9_append 45 = .ok (.invokevirtual 168, 3) := dk_182 0 168 (dk_at dksX9_append_2 0 rfl rfl)
theorem dX9_append_48 : decode cX9_append 48 = .ok (.aload_n 0, 1) := dk_42 (dk_at dksX9_append_2 3 rfl rfl)
theorem dX9_append_49 : decode cX9_append 49 = .ok (.iload 5, 2) := dk_21 5 (dk_at dksX9_append_2 4 rfl rfl)
theorem dX9_append_51 : decode cX9_append 51 = .ok (.invokevirtual 168, 3) := dk_182 0 168 (dk_at dksX9_append_2 6 rfl rfl)
theorem dX9_append_54 : decode cX9_append 54 = .ok (.aload_n 0, 1) := dk_42 (dk_at dksX9_append_2 9 rfl rfl)
theorem dX9_append_55 : decode cX9_append 55 = .ok (.getfield 50, 3) := dk_180 0 50 (dk_at dksX9_append_2 10 rfl rfl)
theorem dX9_append_58 : decode cX9_append 58 = .ok (.ireturn, 1) := dk_172 (dk_at dksX9_append_2 13 rfl rfl)
abbrev cX9_four : ByteArray := prog_17_method_48_code
def yX9_four : MethodName := ⟨RX9, "four", "(I)V"⟩
def dkwX9_four_1 : List UInt8 := [89, 180, 0, 50, 4, 96, 181, 0, 50, 132, 2, 248, 167, 255, 223, 177]
abbrev dktX9_four_1 : List UInt8 := dkwX9_four_1 ++ []
def dkwX9_four_0 : List UInt8 := [16, 24, 61, 28, 155, 0, 35, 42, 180, 0, 25, 42, 180, 0, 50, 27, 28, 122, 17, 0, 255, 126, 79, 42]
abbrev dktX9_four_0 : List UInt8 := dkwX9_four_0 ++ dktX9_four_1
theorem dksX9_four_0 : cX9_four.data.toList.drop 0 = dktX9_four_0 := by decide +kernel
theorem dksX9_four_1 : cX9_four.data.toList.drop 24 = dktX9_four_1 := dk_seg dksX9_four_0 24 rfl rfl
theorem dX9_four_0 : decode cX9_four 0 = .ok (.bipush 24, 2) := dk_16 24 (dk_at dksX9_four_0 0 rfl rfl)
theorem dX9_four_2 : decode cX9_four 2 = .ok (.istore_n 2, 1) := dk_61 (dk_at dksX9_four_0 2 rfl rfl)
theorem dX9_four_3 : decode cX9_four 3 = .ok (.iload_n 2, 1) := dk_28 (dk_at dksX9_four_0 3 rfl rfl)
theorem dX9_four_4 : decode cX9_four 4 = .ok (.ifCond .lt 35, 3) := dk_155 0 35 (dk_at dksX9_four_0 4 rfl rfl)
theorem dX9_four_7 : decode cX9_four 7 = .ok (.aload_n 0, 1) := dk_42 (dk_at dksX9_four_0 7 rfl rfl)
theorem dX9_four_8 : decode cX9_four 8 = .ok (.getfield 25, 3) := dk_180 0 25 (dk_at dksX9_four_0 8 rfl rfl)
theorem dX9_four_11 : decode cX9_four 11 = .ok (.aload_n 0, 1) := dk_42 (dk_at dksX9_four_0 11 rfl rfl)
theorem dX9_four_12 : decode cX9_four 12 = .ok (.getfield 50, 3) := dk_180 0 50 (dk_at dksX9_four_0 12 rfl rfl)
theorem dX9_four_15 : decode cX9_four 15 = .ok (.iload_n 1, 1) := dk_27 (dk_at dksX9_four_0 15 rfl rfl)
theorem dX9_four_16 : decode cX9_four 16 = .ok (.iload_n 2, 1) := dk_28 (dk_at dksX9_four_0 16 rfl rfl)
theorem dX9_four_17 : decode cX9_four 17 = .ok (.ishr, 1) := dk_122 (dk_at dksX9_four_0 17 rfl rfl)
theorem dX9_four_18 : decode cX9_four 18 = .ok (.sipush 255, 3) := dk_17 0 255 (dk_at dksX9_four_0 18 rfl rfl)
theorem dX9_four_21 : decode cX9_four 21 = .ok (.iand, 1) := dk_126 (dk_at dksX9_four_0 21 rfl rfl)
theorem dX9_four_22 : decode cX9_four 22 = .ok (.iastore, 1) := dk_79 (dk_at dksX9_four_0 22 rfl rfl)
theorem dX9_four_23 : decode cX9_four 23 = .ok (.aload_n 0, 1) := dk_42 (dk_at dksX9_four_0 23 rfl rfl)
theorem dX9_four_24 : decode cX9_four 24 = .ok (.dup, 1) := dk_89 (dk_at dksX9_four_1 0 rfl rfl)
theorem dX9_four_25 : decode cX9_four 25 = .ok (.getfield 50, 3) := dk_180 0 50 (dk_at dksX9_four_1 1 rfl rfl)
theorem dX9_four_28 : decode cX9_four 28 = .ok (.iconst 1, 1) := dk_4 (dk_at dksX9_four_1 4 rfl rfl)
theorem dX9_four_29 : decode cX9_four 29 = .ok (.iadd, 1) := dk_96 (dk_at dksX9_four_1 5 rfl rfl)
theorem dX9_four_30 : decode cX9_four 30 = .ok (.putfield 50, 3) := dk_181 0 50 (dk_at dksX9_four_1 6 rfl rfl)
theorem dX9_four_33 : decode cX9_four 33 = .ok (.iinc 2 (-8), 3) := dk_132 2 248 (dk_at dksX9_four_1 9 rfl rfl)
theorem dX9_four_36 : decode cX9_four 36 = .ok (.goto (-33), 3) := dk_167 255 223 (dk_at dksX9_four_1 12 rfl rfl)
theorem dX9_four_39 : decode cX9_four 39 = .ok (.return_, 1) := dk_177 (dk_at dksX9_four_1 15 rfl rfl)
abbrev cX9_truncate : ByteArray := prog_17_method_50_code
def yX9_truncate : MethodName := ⟨RX9, "truncate", "(I)I"⟩
def dkwX9_truncate_1 : List UInt8 := [181, 0, 50, 27, 172]
abbrev dktX9_truncate_1 : List UInt8 := dkwX9_truncate_1 ++ []
def dkwX9_truncate_0 : List UInt8 := [42, 27, 133, 9, 42, 180, 0, 50, 133, 184, 0, 62, 182, 0, 164, 154, 0, 5, 3, 172, 42, 27]
abbrev dktX9_truncate_0 : List UInt8 := dkwX9_truncate_0 ++ dktX9_truncate_1
theorem dksX9_truncate_0 : cX9_truncate.data.toList.drop 0 = dktX9_truncate_0 := by decide +kernel
theorem dksX9_truncate_1 : cX9_truncate.data.toList.drop 22 = dktX9_truncate_1 := dk_seg dksX9_truncate_0 22 rfl rfl
theorem dX9_truncate_0 : decode cX9_truncate 0 = .ok (.aload_n 0, 1) := dk_42 (dk_at dksX9_truncate_0 0 rfl rfl)
theorem dX9_truncate_1 : decode cX9_truncate 1 = .ok (.iload_n 1, 1) := dk_27 (dk_at dksX9_truncate_0 1 rfl rfl)
theorem dX9_truncate_2 : decode cX9_truncate 2 = .ok (.i2l, 1) := dk_133 (dk_at dksX9_truncate_0 2 rfl rfl)
theorem dX9_truncate_3 : decode cX9_truncate 3 = .ok (.lconst 0, 1) := dk_9 (dk_at dksX9_truncate_0 3 rfl rfl)
theorem dX9_truncate_4 : decode cX9_truncate 4 = .ok (.aload_n 0, 1) := dk_42 (dk_at dksX9_truncate_0 4 rfl rfl)
theorem dX9_truncate_5 : decode cX9_truncate 5 = .ok (.getfield 50, 3) := dk_180 0 50 (dk_at dksX9_truncate_0 5 rfl rfl)
theorem dX9_truncate_8 : decode cX9_truncate 8 = .ok (.i2l, 1) := dk_133 (dk_at dksX9_truncate_0 8 rfl rfl)
theorem dX9_truncate_9 : decode cX9_truncate 9 = .ok (.invokestatic 62, 3) := dk_184 0 62 (dk_at dksX9_truncate_0 9 rfl rfl)
theorem dX9_truncate_12 : decode cX9_truncate 12 = .ok (.invokevirtual 164, 3) := dk_182 0 164 (dk_at dksX9_truncate_0 12 rfl rfl)
theorem dX9_truncate_15 : decode cX9_truncate 15 = .ok (.ifCond .ne 5, 3) := dk_154 0 5 (dk_at dksX9_truncate_0 15 rfl rfl)
theorem dX9_truncate_18 : decode cX9_truncate 18 = .ok (.iconst 0, 1) := dk_3 (dk_at dksX9_truncate_0 18 rfl rfl)
theorem dX9_truncate_19 : decode cX9_truncate 19 = .ok (.ireturn, 1) := dk_172 (dk_at dksX9_truncate_0 19 rfl rfl)
theorem dX9_truncate_20 : decode cX9_truncate 20 = .ok (.aload_n 0, 1) := dk_42 (dk_at dksX9_truncate_0 20 rfl rfl)
theorem dX9_truncate_21 : decode cX9_truncate 21 = .ok (.iload_n 1, 1) := dk_27 (dk_at dksX9_truncate_0 21 rfl rfl)
theorem dX9_truncate_22 : decode cX9_truncate 22 = .ok (.putfield 50, 3) := dk_181 0 50 (dk_at dksX9_truncate_1 0 rfl rfl)
theorem dX9_truncate_25 : decode cX9_truncate 25 = .ok (.iload_n 1, 1) := dk_27 (dk_at dksX9_truncate_1 3 rfl rfl)
theorem dX9_truncate_26 : decode cX9_truncate 26 = .ok (.ireturn, 1) := dk_172 (dk_at dksX9_truncate_1 4 rfl rfl)
abbrev cX9_errorCode : ByteArray := prog_17_method_64_code
def yX9_errorCode : MethodName := ⟨RX9, "errorCode", "()I"⟩
def dkwX9_errorCode_0 : List UInt8 := [42, 3, 181, 0, 55, 42, 180, 0, 220, 172]
abbrev dktX9_errorCode_0 : List UInt8 := dkwX9_errorCode_0 ++ []
theorem dksX9_errorCode_0 : cX9_errorCode.data.toList.drop 0 = dktX9_errorCode_0 := by decide +kernel
theorem dX9_errorCode_0 : decode cX9_errorCode 0 = .ok (.aload_n 0, 1) := dk_42 (dk_at dksX9_errorCode_0 0 rfl rfl)
theorem dX9_errorCode_1 : decode cX9_errorCode 1 = .ok (.iconst 0, 1) := dk_3 (dk_at dksX9_errorCode_0 1 rfl rfl)
theorem dX9_errorCode_2 : decode cX9_errorCode 2 = .ok (.putfield 55, 3) := dk_181 0 55 (dk_at dksX9_errorCode_0 2 rfl rfl)
theorem dX9_errorCode_5 : decode cX9_errorCode 5 = .ok (.aload_n 0, 1) := dk_42 (dk_at dksX9_errorCode_0 5 rfl rfl)
theorem dX9_errorCode_6 : decode cX9_errorCode 6 = .ok (.getfield 220, 3) := dk_180 0 220 (dk_at dksX9_errorCode_0 6 rfl rfl)
theorem dX9_errorCode_9 : decode cX9_errorCode 9 = .ok (.ireturn, 1) := dk_172 (dk_at dksX9_errorCode_0 9 rfl rfl)
abbrev cX9_errorPosition : ByteArray := prog_17_method_65_code
def yX9_errorPosition : MethodName := ⟨RX9, "errorPosition", "()I"⟩
def dkwX9_errorPosition_0 : List UInt8 := [42, 3, 181, 0, 55, 42, 180, 0, 28, 172]
abbrev dktX9_errorPosition_0 : List UInt8 := dkwX9_errorPosition_0 ++ []
theorem dksX9_errorPosition_0 : cX9_errorPosition.data.toList.drop 0 = dktX9_errorPosition_0 := by decide +kernel
theorem dX9_errorPosition_0 : decode cX9_errorPosition 0 = .ok (.aload_n 0, 1) := dk_42 (dk_at dksX9_errorPosition_0 0 rfl rfl)
theorem dX9_errorPosition_1 : decode cX9_errorPosition 1 = .ok (.iconst 0, 1) := dk_3 (dk_at dksX9_errorPosition_0 1 rfl rfl)
theorem dX9_errorPosition_2 : decode cX9_errorPosition 2 = .ok (.putfield 55, 3) := dk_181 0 55 (dk_at dksX9_errorPosition_0 2 rfl rfl)
theorem dX9_errorPosition_5 : decode cX9_errorPosition 5 = .ok (.aload_n 0, 1) := dk_42 (dk_at dksX9_errorPosition_0 5 rfl rfl)
theorem dX9_errorPosition_6 : decode cX9_errorPosition 6 = .ok (.getfield 28, 3) := dk_180 0 28 (dk_at dksX9_errorPosition_0 6 rfl rfl)
theorem dX9_errorPosition_9 : decode cX9_errorPosition 9 = .ok (.ireturn, 1) := dk_172 (dk_at dksX9_errorPosition_0 9 rfl rfl)
abbrev cX9_executeCommands : ByteArray := prog_17_method_78_code
def yX9_executeCommands : MethodName := ⟨RX9, "executeCommands", "()I"⟩
def dkwX9_executeCommands_3 : List UInt8 := [153, 0, 9, 132, 1, 1, 167, 255, 235, 27, 172]
abbrev dktX9_executeCommands_3 : List UInt8 := dkwX9_executeCommands_3 ++ []
def dkwX9_executeCommands_2 : List UInt8 := [180, 0, 7, 182, 1, 66, 3, 60, 27, 42, 180, 1, 39, 162, 0, 19, 42, 6, 27, 104, 182, 1, 70]
abbrev dktX9_executeCommands_2 : List UInt8 := dkwX9_executeCommands_2 ++ dktX9_executeCommands_3
def dkwX9_executeCommands_1 : List UInt8 := [42, 182, 1, 63, 167, 255, 237, 42, 42, 182, 1, 7, 182, 0, 164, 154, 0, 5, 3, 172, 42, 42]
abbrev dktX9_executeCommands_1 : List UInt8 := dkwX9_executeCommands_1 ++ dktX9_executeCommands_2
def dkwX9_executeCommands_0 : List UInt8 := [42, 182, 0, 251, 42, 3, 181, 1, 39, 42, 180, 0, 187, 154, 0, 18, 42, 182, 0, 193, 2, 159, 0, 10]
abbrev dktX9_executeCommands_0 : List UInt8 := dkwX9_executeCommands_0 ++ dktX9_executeCommands_1
theorem dksX9_executeCommands_0 : cX9_executeCommands.data.toList.drop 0 = dktX9_executeCommands_0 := by decide +kernel
theorem dksX9_executeCommands_1 : cX9_executeCommands.data.toList.drop 24 = dktX9_executeCommands_1 := dk_seg dksX9_executeCommands_0 24 rfl rfl
theorem dksX9_executeCommands_2 : cX9_executeCommands.data.toList.drop 46 = dktX9_executeCommands_2 := dk_seg dksX9_executeCommands_1 22 rfl rfl
theorem dksX9_executeCommands_3 : cX9_executeCommands.data.toList.drop 69 = dktX9_executeCommands_3 := dk_seg dksX9_executeCommands_2 23 rfl rfl
theorem dX9_executeCommands_0 : decode cX9_executeCommands 0 = .ok (.aload_n 0, 1) := dk_42 (dk_at dksX9_executeCommands_0 0 rfl rfl)
theorem dX9_executeCommands_1 : decode cX9_executeCommands 1 = .ok (.invokevirtual 251, 3) := dk_182 0 251 (dk_at dksX9_executeCommands_0 1 rfl rfl)
theorem dX9_executeCommands_4 : decode cX9_executeCommands 4 = .ok (.aload_n 0, 1) := dk_42 (dk_at dksX9_executeCommands_0 4 rfl rfl)
theorem dX9_executeCommands_5 : decode cX9_executeCommands 5 = .ok (.iconst 0, 1) := dk_3 (dk_at dksX9_executeCommands_0 5 rfl rfl)
theorem dX9_executeCommands_6 : decode cX9_executeCommands 6 = .ok (.putfield 295, 3) := dk_181 1 39 (dk_at dksX9_executeCommands_0 6 rfl rfl)
theorem dX9_executeCommands_9 : decode cX9_executeCommands 9 = .ok (.aload_n 0, 1) := dk_42 (dk_at dksX9_executeCommands_0 9 rfl rfl)
theorem dX9_executeCommands_10 : decode cX9_executeCommands 10 = .ok (.getfield 187, 3) := dk_180 0 187 (dk_at dksX9_executeCommands_0 10 rfl rfl)
theorem dX9_executeCommands_13 : decode cX9_executeCommands 13 = .ok (.ifCond .ne 18, 3) := dk_154 0 18 (dk_at dksX9_executeCommands_0 13 rfl rfl)
theorem dX9_executeCommands_16 : decode cX9_executeCommands 16 = .ok (.aload_n 0, 1) := dk_42 (dk_at dksX9_executeCommands_0 16 rfl rfl)
theorem dX9_executeCommands_17 : decode cX9_executeCommands 17 = .ok (.invokevirtual 193, 3) := dk_182 0 193 (dk_at dksX9_executeCommands_0 17 rfl rfl)
theorem dX9_executeCommands_20 : decode cX9_executeCommands 20 = .ok (.iconst (-1), 1) := dk_2 (dk_at dksX9_executeCommands_0 20 rfl rfl)
theorem dX9_executeCommands_21 : decode cX9_executeCommands 21 = .ok (.if_icmp .eq 10, 3) := dk_159 0 10 (dk_at dksX9_executeCommands_0 21 rfl rfl)
theorem dX9_executeCommands_24 : decode cX9_executeCommands 24 = .ok (.aload_n 0, 1) := dk_42 (dk_at dksX9_executeCommands_1 0 rfl rfl)
theorem dX9_executeCommands_25 : decode cX9_executeCommands 25 = .ok (.invokevirtual 319, 3) := dk_182 1 63 (dk_at dksX9_executeCommands_1 1 rfl rfl)
theorem dX9_executeCommands_28 : decode cX9_executeCommands 28 = .ok (.goto (-19), 3) := dk_167 255 237 (dk_at dksX9_executeCommands_1 4 rfl rfl)
theorem dX9_executeCommands_31 : decode cX9_executeCommands 31 = .ok (.aload_n 0, 1) := dk_42 (dk_at dksX9_executeCommands_1 7 rfl rfl)
theorem dX9_executeCommands_32 : decode cX9_executeCommands 32 = .ok (.aload_n 0, 1) := dk_42 (dk_at dksX9_executeCommands_1 8 rfl rfl)
theorem dX9_executeCommands_33 : decode cX9_executeCommands 33 = .ok (.invokevirtual 263, 3) := dk_182 1 7 (dk_at dksX9_executeCommands_1 9 rfl rfl)
theorem dX9_executeCommands_36 : decode cX9_executeCommands 36 = .ok (.invokevirtual 164, 3) := dk_182 0 164 (dk_at dksX9_executeCommands_1 12 rfl rfl)
theorem dX9_executeCommands_39 : decode cX9_executeCommands 39 = .ok (.ifCond .ne 5, 3) := dk_154 0 5 (dk_at dksX9_executeCommands_1 15 rfl rfl)
theorem dX9_executeCommands_42 : decode cX9_executeCommands 42 = .ok (.iconst 0, 1) := dk_3 (dk_at dksX9_executeCommands_1 18 rfl rfl)
theorem dX9_executeCommands_43 : decode cX9_executeCommands 43 = .ok (.ireturn, 1) := dk_172 (dk_at dksX9_executeCommands_1 19 rfl rfl)
theorem dX9_executeCommands_44 : decode cX9_executeCommands 44 = .ok (.aload_n 0, 1) := dk_42 (dk_at dksX9_executeCommands_1 20 rfl rfl)
theorem dX9_executeCommands_45 : decode cX9_executeCommands 45 = .ok (.aload_n 0, 1) := dk_42 (dk_at dksX9_executeCommands_1 21 rfl rfl)
theorem dX9_executeCommands_46 : decode cX9_executeCommands 46 = .ok (.getfield 7, 3) := dk_180 0 7 (dk_at dksX9_executeCommands_2 0 rfl rfl)
theorem dX9_executeCommands_49 : decode cX9_executeCommands 49 = .ok (.invokevirtual 322, 3) := dk_182 1 66 (dk_at dksX9_executeCommands_2 3 rfl rfl)
theorem dX9_executeCommands_52 : decode cX9_executeCommands 52 = .ok (.iconst 0, 1) := dk_3 (dk_at dksX9_executeCommands_2 6 rfl rfl)
theorem dX9_executeCommands_53 : decode cX9_executeCommands 53 = .ok (.istore_n 1, 1) := dk_60 (dk_at dksX9_executeCommands_2 7 rfl rfl)
theorem dX9_executeCommands_54 : decode cX9_executeCommands 54 = .ok (.iload_n 1, 1) := dk_27 (dk_at dksX9_executeCommands_2 8 rfl rfl)
theorem dX9_executeCommands_55 : decode cX9_executeCommands 55 = .ok (.aload_n 0, 1) := dk_42 (dk_at dksX9_executeCommands_2 9 rfl rfl)
theorem dX9_executeCommands_56 : decode cX9_executeCommands 56 = .ok (.getfield 295, 3) := dk_180 1 39 (dk_at dksX9_executeCommands_2 10 rfl rfl)
theorem dX9_executeCommands_59 : decode cX9_executeCommands 59 = .ok (.if_icmp .ge 19, 3) := dk_162 0 19 (dk_at dksX9_executeCommands_2 13 rfl rfl)
theorem dX9_executeCommands_62 : decode cX9_executeCommands 62 = .ok (.aload_n 0, 1) := dk_42 (dk_at dksX9_executeCommands_2 16 rfl rfl)
theorem dX9_executeCommands_63 : decode cX9_executeCommands 63 = .ok (.iconst 3, 1) := dk_6 (dk_at dksX9_executeCommands_2 17 rfl rfl)
theorem dX9_executeCommands_64 : decode cX9_executeCommands 64 = .ok (.iload_n 1, 1) := dk_27 (dk_at dksX9_executeCommands_2 18 rfl rfl)
theorem dX9_executeCommands_65 : decode cX9_executeCommands 65 = .ok (.imul, 1) := dk_104 (dk_at dksX9_executeCommands_2 19 rfl rfl)
theorem dX9_executeCommands_66 : decode cX9_executeCommands 66 = .ok (.invokevirtual 326, 3) := dk_182 1 70 (dk_at dksX9_executeCommands_2 20 rfl rfl)
theorem dX9_executeCommands_69 : decode cX9_executeCommands 69 = .ok (.ifCond .eq 9, 3) := dk_153 0 9 (dk_at dksX9_executeCommands_3 0 rfl rfl)
theorem dX9_executeCommands_72 : decode cX9_executeCommands 72 = .ok (.iinc 1 1, 3) := dk_132 1 1 (dk_at dksX9_executeCommands_3 3 rfl rfl)
theorem dX9_executeCommands_75 : decode cX9_executeCommands 75 = .ok (.goto (-21), 3) := dk_167 255 235 (dk_at dksX9_executeCommands_3 6 rfl rfl)
theorem dX9_executeCommands_78 : decode cX9_executeCommands 78 = .ok (.iload_n 1, 1) := dk_27 (dk_at dksX9_executeCommands_3 9 rfl rfl)
theorem dX9_executeCommands_79 : decode cX9_executeCommands 79 = .ok (.ireturn, 1) := dk_172 (dk_at dksX9_executeCommands_3 10 rfl rfl)
abbrev cX9_readsOne : ByteArray := prog_17_method_75_code
def yX9_readsOne : MethodName := ⟨RX9, "readsOne", "()V"⟩
def dkwX9_readsOne_3 : List UInt8 := [104, 4, 96, 182, 1, 42, 42, 89, 180, 1, 39, 4, 96, 181, 1, 39, 42, 182, 0, 232, 177]
abbrev dktX9_readsOne_3 : List UInt8 := dkwX9_readsOne_3 ++ []
def dkwX9_readsOne_2 : List UInt8 := [177, 42, 182, 0, 204, 42, 180, 0, 32, 6, 42, 180, 1, 39, 104, 27, 79, 42, 27, 6, 42, 180, 1, 39]
abbrev dktX9_readsOne_2 : List UInt8 := dkwX9_readsOne_2 ++ dktX9_readsOne_3
def dkwX9_readsOne_1 : List UInt8 := [180, 1, 39, 16, 30, 162, 0, 7, 4, 167, 0, 4, 3, 6, 182, 0, 200, 42, 180, 0, 187, 153, 0, 4]
abbrev dktX9_readsOne_1 : List UInt8 := dkwX9_readsOne_1 ++ dktX9_readsOne_2
def dkwX9_readsOne_0 : List UInt8 := [42, 182, 1, 36, 60, 42, 27, 2, 159, 0, 7, 4, 167, 0, 4, 3, 4, 182, 0, 200, 42, 42]
abbrev dktX9_readsOne_0 : List UInt8 := dkwX9_readsOne_0 ++ dktX9_readsOne_1
theorem dksX9_readsOne_0 : cX9_readsOne.data.toList.drop 0 = dktX9_readsOne_0 := by decide +kernel
theorem dksX9_readsOne_1 : cX9_readsOne.data.toList.drop 22 = dktX9_readsOne_1 := dk_seg dksX9_readsOne_0 22 rfl rfl
theorem dksX9_readsOne_2 : cX9_readsOne.data.toList.drop 46 = dktX9_readsOne_2 := dk_seg dksX9_readsOne_1 24 rfl rfl
theorem dksX9_readsOne_3 : cX9_readsOne.data.toList.drop 70 = dktX9_readsOne_3 := dk_seg dksX9_readsOne_2 24 rfl rfl
theorem dX9_readsOne_0 : decode cX9_readsOne 0 = .ok (.aload_n 0, 1) := dk_42 (dk_at dksX9_readsOne_0 0 rfl rfl)
theorem dX9_readsOne_1 : decode cX9_readsOne 1 = .ok (.invokevirtual 292, 3) := dk_182 1 36 (dk_at dksX9_readsOne_0 1 rfl rfl)
theorem dX9_readsOne_4 : decode cX9_readsOne 4 = .ok (.istore_n 1, 1) := dk_60 (dk_at dksX9_readsOne_0 4 rfl rfl)
theorem dX9_readsOne_5 : decode cX9_readsOne 5 = .ok (.aload_n 0, 1) := dk_42 (dk_at dksX9_readsOne_0 5 rfl rfl)
theorem dX9_readsOne_6 : decode cX9_readsOne 6 = .ok (.iload_n 1, 1) := dk_27 (dk_at dksX9_readsOne_0 6 rfl rfl)
theorem dX9_readsOne_7 : decode cX9_readsOne 7 = .ok (.iconst (-1), 1) := dk_2 (dk_at dksX9_readsOne_0 7 rfl rfl)
theorem dX9_readsOne_8 : decode cX9_readsOne 8 = .ok (.if_icmp .eq 7, 3) := dk_159 0 7 (dk_at dksX9_readsOne_0 8 rfl rfl)
theorem dX9_readsOne_11 : decode cX9_readsOne 11 = .ok (.iconst 1, 1) := dk_4 (dk_at dksX9_readsOne_0 11 rfl rfl)
theorem dX9_readsOne_12 : decode cX9_readsOne 12 = .ok (.goto 4, 3) := dk_167 0 4 (dk_at dksX9_readsOne_0 12 rfl rfl)
theorem dX9_readsOne_15 : decode cX9_readsOne 15 = .ok (.iconst 0, 1) := dk_3 (dk_at dksX9_readsOne_0 15 rfl rfl)
theorem dX9_readsOne_16 : decode cX9_readsOne 16 = .ok (.iconst 1, 1) := dk_4 (dk_at dksX9_readsOne_0 16 rfl rfl)
theorem dX9_readsOne_17 : decode cX9_readsOne 17 = .ok (.invokevirtual 200, 3) := dk_182 0 200 (dk_at dksX9_readsOne_0 17 rfl rfl)
theorem dX9_readsOne_20 : decode cX9_readsOne 20 = .ok (.aload_n 0, 1) := dk_42 (dk_at dksX9_readsOne_0 20 rfl rfl)
theorem dX9_readsOne_21 : decode cX9_readsOne 21 = .ok (.aload_n 0, 1) := dk_42 (dk_at dksX9_readsOne_0 21 rfl rfl)
theorem dX9_readsOne_22 : decode cX9_readsOne 22 = .ok (.getfield 295, 3) := dk_180 1 39 (dk_at dksX9_readsOne_1 0 rfl rfl)
theorem dX9_readsOne_25 : decode cX9_readsOne 25 = .ok (.bipush 30, 2) := dk_16 30 (dk_at dksX9_readsOne_1 3 rfl rfl)
theorem dX9_readsOne_27 : decode cX9_readsOne 27 = .ok (.if_icmp .ge 7, 3) := dk_162 0 7 (dk_at dksX9_readsOne_1 5 rfl rfl)
theorem dX9_readsOne_30 : decode cX9_readsOne 30 = .ok (.iconst 1, 1) := dk_4 (dk_at dksX9_readsOne_1 8 rfl rfl)
theorem dX9_readsOne_31 : decode cX9_readsOne 31 = .ok (.goto 4, 3) := dk_167 0 4 (dk_at dksX9_readsOne_1 9 rfl rfl)
theorem dX9_readsOne_34 : decode cX9_readsOne 34 = .ok (.iconst 0, 1) := dk_3 (dk_at dksX9_readsOne_1 12 rfl rfl)
theorem dX9_readsOne_35 : decode cX9_readsOne 35 = .ok (.iconst 3, 1) := dk_6 (dk_at dksX9_readsOne_1 13 rfl rfl)
theorem dX9_readsOne_36 : decode cX9_readsOne 36 = .ok (.invokevirtual 200, 3) := dk_182 0 200 (dk_at dksX9_readsOne_1 14 rfl rfl)
theorem dX9_readsOne_39 : decode cX9_readsOne 39 = .ok (.aload_n 0, 1) := dk_42 (dk_at dksX9_readsOne_1 17 rfl rfl)
theorem dX9_readsOne_40 : decode cX9_readsOne 40 = .ok (.getfield 187, 3) := dk_180 0 187 (dk_at dksX9_readsOne_1 18 rfl rfl)
theorem dX9_readsOne_43 : decode cX9_readsOne 43 = .ok (.ifCond .eq 4, 3) := dk_153 0 4 (dk_at dksX9_readsOne_1 21 rfl rfl)
theorem dX9_readsOne_46 : decode cX9_readsOne 46 = .ok (.return_, 1) := dk_177 (dk_at dksX9_readsOne_2 0 rfl rfl)
theorem dX9_readsOne_47 : decode cX9_readsOne 47 = .ok (.aload_n 0, 1) := dk_42 (dk_at dksX9_readsOne_2 1 rfl rfl)
theorem dX9_readsOne_48 : decode cX9_readsOne 48 = .ok (.invokevirtual 204, 3) := dk_182 0 204 (dk_at dksX9_readsOne_2 2 rfl rfl)
theorem dX9_readsOne_51 : decode cX9_readsOne 51 = .ok (.aload_n 0, 1) := dk_42 (dk_at dksX9_readsOne_2 5 rfl rfl)
theorem dX9_readsOne_52 : decode cX9_readsOne 52 = .ok (.getfield 32, 3) := dk_180 0 32 (dk_at dksX9_readsOne_2 6 rfl rfl)
theorem dX9_readsOne_55 : decode cX9_readsOne 55 = .ok (.iconst 3, 1) := dk_6 (dk_at dksX9_readsOne_2 9 rfl rfl)
theorem dX9_readsOne_56 : decode cX9_readsOne 56 = .ok (.aload_n 0, 1) := dk_42 (dk_at dksX9_readsOne_2 10 rfl rfl)
theorem dX9_readsOne_57 : decode cX9_readsOne 57 = .ok (.getfield 295, 3) := dk_180 1 39 (dk_at dksX9_readsOne_2 11 rfl rfl)
theorem dX9_readsOne_60 : decode cX9_readsOne 60 = .ok (.imul, 1) := dk_104 (dk_at dksX9_readsOne_2 14 rfl rfl)
theorem dX9_readsOne_61 : decode cX9_readsOne 61 = .ok (.iload_n 1, 1) := dk_27 (dk_at dksX9_readsOne_2 15 rfl rfl)
theorem dX9_readsOne_62 : decode cX9_readsOne 62 = .ok (.iastore, 1) := dk_79 (dk_at dksX9_readsOne_2 16 rfl rfl)
theorem dX9_readsOne_63 : decode cX9_readsOne 63 = .ok (.aload_n 0, 1) := dk_42 (dk_at dksX9_readsOne_2 17 rfl rfl)
theorem dX9_readsOne_64 : decode cX9_readsOne 64 = .ok (.iload_n 1, 1) := dk_27 (dk_at dksX9_readsOne_2 18 rfl rfl)
theorem dX9_readsOne_65 : decode cX9_readsOne 65 = .ok (.iconst 3, 1) := dk_6 (dk_at dksX9_readsOne_2 19 rfl rfl)
theorem dX9_readsOne_66 : decode cX9_readsOne 66 = .ok (.aload_n 0, 1) := dk_42 (dk_at dksX9_readsOne_2 20 rfl rfl)
theorem dX9_readsOne_67 : decode cX9_readsOne 67 = .ok (.getfield 295, 3) := dk_180 1 39 (dk_at dksX9_readsOne_2 21 rfl rfl)
theorem dX9_readsOne_70 : decode cX9_readsOne 70 = .ok (.imul, 1) := dk_104 (dk_at dksX9_readsOne_3 0 rfl rfl)
theorem dX9_readsOne_71 : decode cX9_readsOne 71 = .ok (.iconst 1, 1) := dk_4 (dk_at dksX9_readsOne_3 1 rfl rfl)
theorem dX9_readsOne_72 : decode cX9_readsOne 72 = .ok (.iadd, 1) := dk_96 (dk_at dksX9_readsOne_3 2 rfl rfl)
theorem dX9_readsOne_73 : decode cX9_readsOne 73 = .ok (.invokevirtual 298, 3) := dk_182 1 42 (dk_at dksX9_readsOne_3 3 rfl rfl)
theorem dX9_readsOne_76 : decode cX9_readsOne 76 = .ok (.aload_n 0, 1) := dk_42 (dk_at dksX9_readsOne_3 6 rfl rfl)
theorem dX9_readsOne_77 : decode cX9_readsOne 77 = .ok (.dup, 1) := dk_89 (dk_at dksX9_readsOne_3 7 rfl rfl)
theorem dX9_readsOne_78 : decode cX9_readsOne 78 = .ok (.getfield 295, 3) := dk_180 1 39 (dk_at dksX9_readsOne_3 8 rfl rfl)
theorem dX9_readsOne_81 : decode cX9_readsOne 81 = .ok (.iconst 1, 1) := dk_4 (dk_at dksX9_readsOne_3 11 rfl rfl)
theorem dX9_readsOne_82 : decode cX9_readsOne 82 = .ok (.iadd, 1) := dk_96 (dk_at dksX9_readsOne_3 12 rfl rfl)
theorem dX9_readsOne_83 : decode cX9_readsOne 83 = .ok (.putfield 295, 3) := dk_181 1 39 (dk_at dksX9_readsOne_3 13 rfl rfl)
theorem dX9_readsOne_86 : decode cX9_readsOne 86 = .ok (.aload_n 0, 1) := dk_42 (dk_at dksX9_readsOne_3 16 rfl rfl)
theorem dX9_readsOne_87 : decode cX9_readsOne 87 = .ok (.invokevirtual 232, 3) := dk_182 0 232 (dk_at dksX9_readsOne_3 17 rfl rfl)
theorem dX9_readsOne_90 : decode cX9_readsOne 90 = .ok (.return_, 1) := dk_177 (dk_at dksX9_readsOne_3 20 rfl rfl)
abbrev cX9_commandHere : ByteArray := prog_17_method_73_code
def yX9_commandHere : MethodName := ⟨RX9, "commandHere", "()I"⟩
def dkwX9_commandHere_2 : List UInt8 := [167, 0, 7, 42, 182, 1, 30, 172]
abbrev dktX9_commandHere_2 : List UInt8 := dkwX9_commandHere_2 ++ []
def dkwX9_commandHere_1 : List UInt8 := [42, 19, 1, 26, 182, 0, 196, 153, 0, 5, 5, 172, 42, 19, 1, 28, 182, 0, 196, 153, 0, 7, 6]
abbrev dktX9_commandHere_1 : List UInt8 := dkwX9_commandHere_1 ++ dktX9_commandHere_2
def dkwX9_commandHere_0 : List UInt8 := [42, 19, 1, 22, 182, 0, 196, 153, 0, 5, 3, 172, 42, 19, 1, 24, 182, 0, 196, 153, 0, 5, 4, 172]
abbrev dktX9_commandHere_0 : List UInt8 := dkwX9_commandHere_0 ++ dktX9_commandHere_1
theorem dksX9_commandHere_0 : cX9_commandHere.data.toList.drop 0 = dktX9_commandHere_0 := by decide +kernel
theorem dksX9_commandHere_1 : cX9_commandHere.data.toList.drop 24 = dktX9_commandHere_1 := dk_seg dksX9_commandHere_0 24 rfl rfl
theorem dksX9_commandHere_2 : cX9_commandHere.data.toList.drop 47 = dktX9_commandHere_2 := dk_seg dksX9_commandHere_1 23 rfl rfl
theorem dX9_commandHere_0 : decode cX9_commandHere 0 = .ok (.aload_n 0, 1) := dk_42 (dk_at dksX9_commandHere_0 0 rfl rfl)
theorem dX9_commandHere_1 : decode cX9_commandHere 1 = .ok (.ldc_w 278, 3) := dk_19 1 22 (dk_at dksX9_commandHere_0 1 rfl rfl)
theorem dX9_commandHere_4 : decode cX9_commandHere 4 = .ok (.invokevirtual 196, 3) := dk_182 0 196 (dk_at dksX9_commandHere_0 4 rfl rfl)
theorem dX9_commandHere_7 : decode cX9_commandHere 7 = .ok (.ifCond .eq 5, 3) := dk_153 0 5 (dk_at dksX9_commandHere_0 7 rfl rfl)
theorem dX9_commandHere_10 : decode cX9_commandHere 10 = .ok (.iconst 0, 1) := dk_3 (dk_at dksX9_commandHere_0 10 rfl rfl)
theorem dX9_commandHere_11 : decode cX9_commandHere 11 = .ok (.ireturn, 1) := dk_172 (dk_at dksX9_commandHere_0 11 rfl rfl)
theorem dX9_commandHere_12 : decode cX9_commandHere 12 = .ok (.aload_n 0, 1) := dk_42 (dk_at dksX9_commandHere_0 12 rfl rfl)
theorem dX9_commandHere_13 : decode cX9_commandHere 13 = .ok (.ldc_w 280, 3) := dk_19 1 24 (dk_at dksX9_commandHere_0 13 rfl rfl)
theorem dX9_commandHere_16 : decode cX9_commandHere 16 = .ok (.invokevirtual 196, 3) := dk_182 0 196 (dk_at dksX9_commandHere_0 16 rfl rfl)
theorem dX9_commandHere_19 : decode cX9_commandHere 19 = .ok (.ifCond .eq 5, 3) := dk_153 0 5 (dk_at dksX9_commandHere_0 19 rfl rfl)
theorem dX9_commandHere_22 : decode cX9_commandHere 22 = .ok (.iconst 1, 1) := dk_4 (dk_at dksX9_commandHere_0 22 rfl rfl)
theorem dX9_commandHere_23 : decode cX9_commandHere 23 = .ok (.ireturn, 1) := dk_172 (dk_at dksX9_commandHere_0 23 rfl rfl)
theorem dX9_commandHere_24 : decode cX9_commandHere 24 = .ok (.aload_n 0, 1) := dk_42 (dk_at dksX9_commandHere_1 0 rfl rfl)
theorem dX9_commandHere_25 : decode cX9_commandHere 25 = .ok (.ldc_w 282, 3) := dk_19 1 26 (dk_at dksX9_commandHere_1 1 rfl rfl)
theorem dX9_commandHere_28 : decode cX9_commandHere 28 = .ok (.invokevirtual 196, 3) := dk_182 0 196 (dk_at dksX9_commandHere_1 4 rfl rfl)
theorem dX9_commandHere_31 : decode cX9_commandHere 31 = .ok (.ifCond .eq 5, 3) := dk_153 0 5 (dk_at dksX9_commandHere_1 7 rfl rfl)
theorem dX9_commandHere_34 : decode cX9_commandHere 34 = .ok (.iconst 2, 1) := dk_5 (dk_at dksX9_commandHere_1 10 rfl rfl)
theorem dX9_commandHere_35 : decode cX9_commandHere 35 = .ok (.ireturn, 1) := dk_172 (dk_at dksX9_commandHere_1 11 rfl rfl)
theorem dX9_commandHere_36 : decode cX9_commandHere 36 = .ok (.aload_n 0, 1) := dk_42 (dk_at dksX9_commandHere_1 12 rfl rfl)
theorem dX9_commandHere_37 : decode cX9_commandHere 37 = .ok (.ldc_w 284, 3) := dk_19 1 28 (dk_at dksX9_commandHere_1 13 rfl rfl)
theorem dX9_commandHere_40 : decode cX9_commandHere 40 = .ok (.invokevirtual 196, 3) := dk_182 0 196 (dk_at dksX9_commandHere_1 16 rfl rfl)
theorem dX9_commandHere_43 : decode cX9_commandHere 43 = .ok (.ifCond .eq 7, 3) := dk_153 0 7 (dk_at dksX9_commandHere_1 19 rfl rfl)
theorem dX9_commandHere_46 : decode cX9_commandHere 46 = .ok (.iconst 3, 1) := dk_6 (dk_at dksX9_commandHere_1 22 rfl rfl)
theorem dX9_commandHere_47 : decode cX9_commandHere 47 = .ok (.goto 7, 3) := dk_167 0 7 (dk_at dksX9_commandHere_2 0 rfl rfl)
theorem dX9_commandHere_50 : decode cX9_commandHere 50 = .ok (.aload_n 0, 1) := dk_42 (dk_at dksX9_commandHere_2 3 rfl rfl)
theorem dX9_commandHere_51 : decode cX9_commandHere 51 = .ok (.invokevirtual 286, 3) := dk_182 1 30 (dk_at dksX9_commandHere_2 4 rfl rfl)
theorem dX9_commandHere_54 : decode cX9_commandHere 54 = .ok (.ireturn, 1) := dk_172 (dk_at dksX9_commandHere_2 7 rfl rfl)
abbrev cX9_otherCommand : ByteArray := prog_17_method_72_code
def yX9_otherCommand : MethodName := ⟨RX9, "otherCommand", "()I"⟩
def dkwX9_otherCommand_2 : List UInt8 := [167, 0, 4, 2, 172]
abbrev dktX9_otherCommand_2 : List UInt8 := dkwX9_otherCommand_2 ++ []
def dkwX9_otherCommand_1 : List UInt8 := [42, 18, 246, 182, 0, 196, 153, 0, 6, 16, 6, 172, 42, 19, 1, 20, 182, 0, 196, 153, 0, 8, 16, 7]
abbrev dktX9_otherCommand_1 : List UInt8 := dkwX9_otherCommand_1 ++ dktX9_otherCommand_2
def dkwX9_otherCommand_0 : List UInt8 := [42, 19, 1, 16, 182, 0, 196, 153, 0, 5, 7, 172, 42, 19, 1, 18, 182, 0, 196, 153, 0, 5, 8, 172]
abbrev dktX9_otherCommand_0 : List UInt8 := dkwX9_otherCommand_0 ++ dktX9_otherCommand_1
theorem dksX9_otherCommand_0 : cX9_otherCommand.data.toList.drop 0 = dktX9_otherCommand_0 := by decide +kernel
theorem dksX9_otherCommand_1 : cX9_otherCommand.data.toList.drop 24 = dktX9_otherCommand_1 := dk_seg dksX9_otherCommand_0 24 rfl rfl
theorem dksX9_otherCommand_2 : cX9_otherCommand.data.toList.drop 48 = dktX9_otherCommand_2 := dk_seg dksX9_otherCommand_1 24 rfl rfl
theorem dX9_otherCommand_0 : decode cX9_otherCommand 0 = .ok (.aload_n 0, 1) := dk_42 (dk_at dksX9_otherCommand_0 0 rfl rfl)
theorem dX9_otherCommand_1 : decode cX9_otherCommand 1 = .ok (.ldc_w 272, 3) := dk_19 1 16 (dk_at dksX9_otherCommand_0 1 rfl rfl)
theorem dX9_otherCommand_4 : decode cX9_otherCommand 4 = .ok (.invokevirtual 196, 3) := dk_182 0 196 (dk_at dksX9_otherCommand_0 4 rfl rfl)
theorem dX9_otherCommand_7 : decode cX9_otherCommand 7 = .ok (.ifCond .eq 5, 3) := dk_153 0 5 (dk_at dksX9_otherCommand_0 7 rfl rfl)
theorem dX9_otherCommand_10 : decode cX9_otherCommand 10 = .ok (.iconst 4, 1) := dk_7 (dk_at dksX9_otherCommand_0 10 rfl rfl)
theorem dX9_otherCommand_11 : decode cX9_otherCommand 11 = .ok (.ireturn, 1) := dk_172 (dk_at dksX9_otherCommand_0 11 rfl rfl)
theorem dX9_otherCommand_12 : decode cX9_otherCommand 12 = .ok (.aload_n 0, 1) := dk_42 (dk_at dksX9_otherCommand_0 12 rfl rfl)
theorem dX9_otherCommand_13 : decode cX9_otherCommand 13 = .ok (.ldc_w 274, 3) := dk_19 1 18 (dk_at dksX9_otherCommand_0 13 rfl rfl)
theorem dX9_otherCommand_16 : decode cX9_otherCommand 16 = .ok (.invokevirtual 196, 3) := dk_182 0 196 (dk_at dksX9_otherCommand_0 16 rfl rfl)
theorem dX9_otherCommand_19 : decode cX9_otherCommand 19 = .ok (.ifCond .eq 5, 3) := dk_153 0 5 (dk_at dksX9_otherCommand_0 19 rfl rfl)
theorem dX9_otherCommand_22 : decode cX9_otherCommand 22 = .ok (.iconst 5, 1) := dk_8 (dk_at dksX9_otherCommand_0 22 rfl rfl)
theorem dX9_otherCommand_23 : decode cX9_otherCommand 23 = .ok (.ireturn, 1) := dk_172 (dk_at dksX9_otherCommand_0 23 rfl rfl)
theorem dX9_otherCommand_24 : decode cX9_otherCommand 24 = .ok (.aload_n 0, 1) := dk_42 (dk_at dksX9_otherCommand_1 0 rfl rfl)
theorem dX9_otherCommand_25 : decode cX9_otherCommand 25 = .ok (.ldc 246, 2) := dk_18 246 (dk_at dksX9_otherCommand_1 1 rfl rfl)
theorem dX9_otherCommand_27 : decode cX9_otherCommand 27 = .ok (.invokevirtual 196, 3) := dk_182 0 196 (dk_at dksX9_otherCommand_1 3 rfl rfl)
theorem dX9_otherCommand_30 : decode cX9_otherCommand 30 = .ok (.ifCond .eq 6, 3) := dk_153 0 6 (dk_at dksX9_otherCommand_1 6 rfl rfl)
theorem dX9_otherCommand_33 : decode cX9_otherCommand 33 = .ok (.bipush 6, 2) := dk_16 6 (dk_at dksX9_otherCommand_1 9 rfl rfl)
theorem dX9_otherCommand_35 : decode cX9_otherCommand 35 = .ok (.ireturn, 1) := dk_172 (dk_at dksX9_otherCommand_1 11 rfl rfl)
theorem dX9_otherCommand_36 : decode cX9_otherCommand 36 = .ok (.aload_n 0, 1) := dk_42 (dk_at dksX9_otherCommand_1 12 rfl rfl)
theorem dX9_otherCommand_37 : decode cX9_otherCommand 37 = .ok (.ldc_w 276, 3) := dk_19 1 20 (dk_at dksX9_otherCommand_1 13 rfl rfl)
theorem dX9_otherCommand_40 : decode cX9_otherCommand 40 = .ok (.invokevirtual 196, 3) := dk_182 0 196 (dk_at dksX9_otherCommand_1 16 rfl rfl)
theorem dX9_otherCommand_43 : decode cX9_otherCommand 43 = .ok (.ifCond .eq 8, 3) := dk_153 0 8 (dk_at dksX9_otherCommand_1 19 rfl rfl)
theorem dX9_otherCommand_46 : decode cX9_otherCommand 46 = .ok (.bipush 7, 2) := dk_16 7 (dk_at dksX9_otherCommand_1 22 rfl rfl)
theorem dX9_otherCommand_48 : decode cX9_otherCommand 48 = .ok (.goto 4, 3) := dk_167 0 4 (dk_at dksX9_otherCommand_2 0 rfl rfl)
theorem dX9_otherCommand_51 : decode cX9_otherCommand 51 = .ok (.iconst (-1), 1) := dk_2 (dk_at dksX9_otherCommand_2 3 rfl rfl)
theorem dX9_otherCommand_52 : decode cX9_otherCommand 52 = .ok (.ireturn, 1) := dk_172 (dk_at dksX9_otherCommand_2 4 rfl rfl)
abbrev cX9_partsOf : ByteArray := prog_17_method_74_code
def yX9_partsOf : MethodName := ⟨RX9, "partsOf", "(II)V"⟩
def dkwX9_partsOf_7 : List UInt8 := [177]
abbrev dktX9_partsOf_7 : List UInt8 := dkwX9_partsOf_7 ++ []
def dkwX9_partsOf_6 : List UInt8 := [180, 0, 32, 28, 42, 3, 17, 3, 231, 182, 0, 229, 79, 177, 42, 180, 0, 32, 28, 42, 182, 1, 33, 79]
abbrev dktX9_partsOf_6 : List UInt8 := dkwX9_partsOf_6 ++ dktX9_partsOf_7
def dkwX9_partsOf_5 : List UInt8 := [180, 0, 32, 28, 42, 182, 1, 33, 79, 42, 180, 0, 32, 28, 4, 96, 42, 182, 0, 235, 79, 177, 42]
abbrev dktX9_partsOf_5 : List UInt8 := dkwX9_partsOf_5 ++ dktX9_partsOf_6
def dkwX9_partsOf_4 : List UInt8 := [16, 99, 182, 0, 229, 79, 177, 42, 180, 0, 32, 28, 42, 3, 16, 9, 182, 0, 229, 79, 177, 42]
abbrev dktX9_partsOf_4 : List UInt8 := dkwX9_partsOf_4 ++ dktX9_partsOf_5
def dkwX9_partsOf_3 : List UInt8 := [42, 180, 0, 32, 28, 4, 96, 42, 4, 16, 99, 182, 0, 229, 79, 177, 42, 180, 0, 32, 28, 42, 3]
abbrev dktX9_partsOf_3 : List UInt8 := dkwX9_partsOf_3 ++ dktX9_partsOf_4
def dkwX9_partsOf_2 : List UInt8 := [42, 180, 0, 32, 28, 42, 4, 16, 48, 182, 0, 229, 79, 177, 42, 180, 0, 32, 28, 42, 182, 1, 33, 79]
abbrev dktX9_partsOf_2 : List UInt8 := dkwX9_partsOf_2 ++ dktX9_partsOf_3
def dkwX9_partsOf_1 : List UInt8 := [170, 0, 0, 0, 0, 0, 153, 0, 0, 0, 0, 0, 0, 0, 7, 0, 0, 0, 47, 0, 0, 0, 153, 0, 0, 0, 153, 0, 0, 0, 61, 0, 0, 0, 87, 0, 0, 0, 101, 0, 0, 0, 115, 0, 0, 0, 138]
abbrev dktX9_partsOf_1 : List UInt8 := dkwX9_partsOf_1 ++ dktX9_partsOf_2
def dkwX9_partsOf_0 : List UInt8 := [27]
abbrev dktX9_partsOf_0 : List UInt8 := dkwX9_partsOf_0 ++ dktX9_partsOf_1
theorem dksX9_partsOf_0 : cX9_partsOf.data.toList.drop 0 = dktX9_partsOf_0 := by decide +kernel
theorem dksX9_partsOf_1 : cX9_partsOf.data.toList.drop 1 = dktX9_partsOf_1 := dk_seg dksX9_partsOf_0 1 rfl rfl
theorem dksX9_partsOf_2 : cX9_partsOf.data.toList.drop 48 = dktX9_partsOf_2 := dk_seg dksX9_partsOf_1 47 rfl rfl
theorem dksX9_partsOf_3 : cX9_partsOf.data.toList.drop 72 = dktX9_partsOf_3 := dk_seg dksX9_partsOf_2 24 rfl rfl
theorem dksX9_partsOf_4 : cX9_partsOf.data.toList.drop 95 = dktX9_partsOf_4 := dk_seg dksX9_partsOf_3 23 rfl rfl
theorem dksX9_partsOf_5 : cX9_partsOf.data.toList.drop 117 = dktX9_partsOf_5 := dk_seg dksX9_partsOf_4 22 rfl rfl
theorem dksX9_partsOf_6 : cX9_partsOf.data.toList.drop 140 = dktX9_partsOf_6 := dk_seg dksX9_partsOf_5 23 rfl rfl
theorem dksX9_partsOf_7 : cX9_partsOf.data.toList.drop 164 = dktX9_partsOf_7 := dk_seg dksX9_partsOf_6 24 rfl rfl
theorem dX9_partsOf_0 : decode cX9_partsOf 0 = .ok (.iload_n 1, 1) := dk_27 (dk_at dksX9_partsOf_0 0 rfl rfl)
theorem dX9_partsOf_1 : decode cX9_partsOf 1 = .ok (.tableswitch 153 0 7 #[47, 153, 153, 61, 87, 101, 115, 138], 47) := by decide +kernel
theorem dX9_partsOf_48 : decode cX9_partsOf 48 = .ok (.aload_n 0, 1) := dk_42 (dk_at dksX9_partsOf_2 0 rfl rfl)
theorem dX9_partsOf_49 : decode cX9_partsOf 49 = .ok (.getfield 32, 3) := dk_180 0 32 (dk_at dksX9_partsOf_2 1 rfl rfl)
theorem dX9_partsOf_52 : decode cX9_partsOf 52 = .ok (.iload_n 2, 1) := dk_28 (dk_at dksX9_partsOf_2 4 rfl rfl)
theorem dX9_partsOf_53 : decode cX9_partsOf 53 = .ok (.aload_n 0, 1) := dk_42 (dk_at dksX9_partsOf_2 5 rfl rfl)
theorem dX9_partsOf_54 : decode cX9_partsOf 54 = .ok (.iconst 1, 1) := dk_4 (dk_at dksX9_partsOf_2 6 rfl rfl)
theorem dX9_partsOf_55 : decode cX9_partsOf 55 = .ok (.bipush 48, 2) := dk_16 48 (dk_at dksX9_partsOf_2 7 rfl rfl)
theorem dX9_partsOf_57 : decode cX9_partsOf 57 = .ok (.invokevirtual 229, 3) := dk_182 0 229 (dk_at dksX9_partsOf_2 9 rfl rfl)
theorem dX9_partsOf_60 : decode cX9_partsOf 60 = .ok (.iastore, 1) := dk_79 (dk_at dksX9_partsOf_2 12 rfl rfl)
theorem dX9_partsOf_61 : decode cX9_partsOf 61 = .ok (.return_, 1) := dk_177 (dk_at dksX9_partsOf_2 13 rfl rfl)
theorem dX9_partsOf_62 : decode cX9_partsOf 62 = .ok (.aload_n 0, 1) := dk_42 (dk_at dksX9_partsOf_2 14 rfl rfl)
theorem dX9_partsOf_63 : decode cX9_partsOf 63 = .ok (.getfield 32, 3) := dk_180 0 32 (dk_at dksX9_partsOf_2 15 rfl rfl)
theorem dX9_partsOf_66 : decode cX9_partsOf 66 = .ok (.iload_n 2, 1) := dk_28 (dk_at dksX9_partsOf_2 18 rfl rfl)
theorem dX9_partsOf_67 : decode cX9_partsOf 67 = .ok (.aload_n 0, 1) := dk_42 (dk_at dksX9_partsOf_2 19 rfl rfl)
theorem dX9_partsOf_68 : decode cX9_partsOf 68 = .ok (.invokevirtual 289, 3) := dk_182 1 33 (dk_at dksX9_partsOf_2 20 rfl rfl)
theorem dX9_partsOf_71 : decode cX9_partsOf 71 = .ok (.iastore, 1) := dk_79 (dk_at dksX9_partsOf_2 23 rfl rfl)
theorem dX9_partsOf_72 : decode cX9_partsOf 72 = .ok (.aload_n 0, 1) := dk_42 (dk_at dksX9_partsOf_3 0 rfl rfl)
theorem dX9_partsOf_73 : decode cX9_partsOf 73 = .ok (.getfield 32, 3) := dk_180 0 32 (dk_at dksX9_partsOf_3 1 rfl rfl)
theorem dX9_partsOf_76 : decode cX9_partsOf 76 = .ok (.iload_n 2, 1) := dk_28 (dk_at dksX9_partsOf_3 4 rfl rfl)
theorem dX9_partsOf_77 : decode cX9_partsOf 77 = .ok (.iconst 1, 1) := dk_4 (dk_at dksX9_partsOf_3 5 rfl rfl)
theorem dX9_partsOf_78 : decode cX9_partsOf 78 = .ok (.iadd, 1) := dk_96 (dk_at dksX9_partsOf_3 6 rfl rfl)
theorem dX9_partsOf_79 : decode cX9_partsOf 79 = .ok (.aload_n 0, 1) := dk_42 (dk_at dksX9_partsOf_3 7 rfl rfl)
theorem dX9_partsOf_80 : decode cX9_partsOf 80 = .ok (.iconst 1, 1) := dk_4 (dk_at dksX9_partsOf_3 8 rfl rfl)
theorem dX9_partsOf_81 : decode cX9_partsOf 81 = .ok (.bipush 99, 2) := dk_16 99 (dk_at dksX9_partsOf_3 9 rfl rfl)
theorem dX9_partsOf_83 : decode cX9_partsOf 83 = .ok (.invokevirtual 229, 3) := dk_182 0 229 (dk_at dksX9_partsOf_3 11 rfl rfl)
theorem dX9_partsOf_86 : decode cX9_partsOf 86 = .ok (.iastore, 1) := dk_79 (dk_at dksX9_partsOf_3 14 rfl rfl)
theorem dX9_partsOf_87 : decode cX9_partsOf 87 = .ok (.return_, 1) := dk_177 (dk_at dksX9_partsOf_3 15 rfl rfl)
theorem dX9_partsOf_88 : decode cX9_partsOf 88 = .ok (.aload_n 0, 1) := dk_42 (dk_at dksX9_partsOf_3 16 rfl rfl)
theorem dX9_partsOf_89 : decode cX9_partsOf 89 = .ok (.getfield 32, 3) := dk_180 0 32 (dk_at dksX9_partsOf_3 17 rfl rfl)
theorem dX9_partsOf_92 : decode cX9_partsOf 92 = .ok (.iload_n 2, 1) := dk_28 (dk_at dksX9_partsOf_3 20 rfl rfl)
theorem dX9_partsOf_93 : decode cX9_partsOf 93 = .ok (.aload_n 0, 1) := dk_42 (dk_at dksX9_partsOf_3 21 rfl rfl)
theorem dX9_partsOf_94 : decode cX9_partsOf 94 = .ok (.iconst 0, 1) := dk_3 (dk_at dksX9_partsOf_3 22 rfl rfl)
theorem dX9_partsOf_95 : decode cX9_partsOf 95 = .ok (.bipush 99, 2) := dk_16 99 (dk_at dksX9_partsOf_4 0 rfl rfl)
theorem dX9_partsOf_97 : decode cX9_partsOf 97 = .ok (.invokevirtual 229, 3) := dk_182 0 229 (dk_at dksX9_partsOf_4 2 rfl rfl)
theorem dX9_partsOf_100 : decode cX9_partsOf 100 = .ok (.iastore, 1) := dk_79 (dk_at dksX9_partsOf_4 5 rfl rfl)
theorem dX9_partsOf_101 : decode cX9_partsOf 101 = .ok (.return_, 1) := dk_177 (dk_at dksX9_partsOf_4 6 rfl rfl)
theorem dX9_partsOf_102 : decode cX9_partsOf 102 = .ok (.aload_n 0, 1) := dk_42 (dk_at dksX9_partsOf_4 7 rfl rfl)
theorem dX9_partsOf_103 : decode cX9_partsOf 103 = .ok (.getfield 32, 3) := dk_180 0 32 (dk_at dksX9_partsOf_4 8 rfl rfl)
theorem dX9_partsOf_106 : decode cX9_partsOf 106 = .ok (.iload_n 2, 1) := dk_28 (dk_at dksX9_partsOf_4 11 rfl rfl)
theorem dX9_partsOf_107 : decode cX9_partsOf 107 = .ok (.aload_n 0, 1) := dk_42 (dk_at dksX9_partsOf_4 12 rfl rfl)
theorem dX9_partsOf_108 : decode cX9_partsOf 108 = .ok (.iconst 0, 1) := dk_3 (dk_at dksX9_partsOf_4 13 rfl rfl)
theorem dX9_partsOf_109 : decode cX9_partsOf 109 = .ok (.bipush 9, 2) := dk_16 9 (dk_at dksX9_partsOf_4 14 rfl rfl)
theorem dX9_partsOf_111 : decode cX9_partsOf 111 = .ok (.invokevirtual 229, 3) := dk_182 0 229 (dk_at dksX9_partsOf_4 16 rfl rfl)
theorem dX9_partsOf_114 : decode cX9_partsOf 114 = .ok (.iastore, 1) := dk_79 (dk_at dksX9_partsOf_4 19 rfl rfl)
theorem dX9_partsOf_115 : decode cX9_partsOf 115 = .ok (.return_, 1) := dk_177 (dk_at dksX9_partsOf_4 20 rfl rfl)
theorem dX9_partsOf_116 : decode cX9_partsOf 116 = .ok (.aload_n 0, 1) := dk_42 (dk_at dksX9_partsOf_4 21 rfl rfl)
theorem dX9_partsOf_117 : decode cX9_partsOf 117 = .ok (.getfield 32, 3) := dk_180 0 32 (dk_at dksX9_partsOf_5 0 rfl rfl)
theorem dX9_partsOf_120 : decode cX9_partsOf 120 = .ok (.iload_n 2, 1) := dk_28 (dk_at dksX9_partsOf_5 3 rfl rfl)
theorem dX9_partsOf_121 : decode cX9_partsOf 121 = .ok (.aload_n 0, 1) := dk_42 (dk_at dksX9_partsOf_5 4 rfl rfl)
theorem dX9_partsOf_122 : decode cX9_partsOf 122 = .ok (.invokevirtual 289, 3) := dk_182 1 33 (dk_at dksX9_partsOf_5 5 rfl rfl)
theorem dX9_partsOf_125 : decode cX9_partsOf 125 = .ok (.iastore, 1) := dk_79 (dk_at dksX9_partsOf_5 8 rfl rfl)
theorem dX9_partsOf_126 : decode cX9_partsOf 126 = .ok (.aload_n 0, 1) := dk_42 (dk_at dksX9_partsOf_5 9 rfl rfl)
theorem dX9_partsOf_127 : decode cX9_partsOf 127 = .ok (.getfield 32, 3) := dk_180 0 32 (dk_at dksX9_partsOf_5 10 rfl rfl)
theorem dX9_partsOf_130 : decode cX9_partsOf 130 = .ok (.iload_n 2, 1) := dk_28 (dk_at dksX9_partsOf_5 13 rfl rfl)
theorem dX9_partsOf_131 : decode cX9_partsOf 131 = .ok (.iconst 1, 1) := dk_4 (dk_at dksX9_partsOf_5 14 rfl rfl)
theorem dX9_partsOf_132 : decode cX9_partsOf 132 = .ok (.iadd, 1) := dk_96 (dk_at dksX9_partsOf_5 15 rfl rfl)
theorem dX9_partsOf_133 : decode cX9_partsOf 133 = .ok (.aload_n 0, 1) := dk_42 (dk_at dksX9_partsOf_5 16 rfl rfl)
theorem dX9_partsOf_134 : decode cX9_partsOf 134 = .ok (.invokevirtual 235, 3) := dk_182 0 235 (dk_at dksX9_partsOf_5 17 rfl rfl)
theorem dX9_partsOf_137 : decode cX9_partsOf 137 = .ok (.iastore, 1) := dk_79 (dk_at dksX9_partsOf_5 20 rfl rfl)
theorem dX9_partsOf_138 : decode cX9_partsOf 138 = .ok (.return_, 1) := dk_177 (dk_at dksX9_partsOf_5 21 rfl rfl)
theorem dX9_partsOf_139 : decode cX9_partsOf 139 = .ok (.aload_n 0, 1) := dk_42 (dk_at dksX9_partsOf_5 22 rfl rfl)
theorem dX9_partsOf_140 : decode cX9_partsOf 140 = .ok (.getfield 32, 3) := dk_180 0 32 (dk_at dksX9_partsOf_6 0 rfl rfl)
theorem dX9_partsOf_143 : decode cX9_partsOf 143 = .ok (.iload_n 2, 1) := dk_28 (dk_at dksX9_partsOf_6 3 rfl rfl)
theorem dX9_partsOf_144 : decode cX9_partsOf 144 = .ok (.aload_n 0, 1) := dk_42 (dk_at dksX9_partsOf_6 4 rfl rfl)
theorem dX9_partsOf_145 : decode cX9_partsOf 145 = .ok (.iconst 0, 1) := dk_3 (dk_at dksX9_partsOf_6 5 rfl rfl)
theorem dX9_partsOf_146 : decode cX9_partsOf 146 = .ok (.sipush 999, 3) := dk_17 3 231 (dk_at dksX9_partsOf_6 6 rfl rfl)
theorem dX9_partsOf_149 : decode cX9_partsOf 149 = .ok (.invokevirtual 229, 3) := dk_182 0 229 (dk_at dksX9_partsOf_6 9 rfl rfl)
theorem dX9_partsOf_152 : decode cX9_partsOf 152 = .ok (.iastore, 1) := dk_79 (dk_at dksX9_partsOf_6 12 rfl rfl)
theorem dX9_partsOf_153 : decode cX9_partsOf 153 = .ok (.return_, 1) := dk_177 (dk_at dksX9_partsOf_6 13 rfl rfl)
theorem dX9_partsOf_154 : decode cX9_partsOf 154 = .ok (.aload_n 0, 1) := dk_42 (dk_at dksX9_partsOf_6 14 rfl rfl)
theorem dX9_partsOf_155 : decode cX9_partsOf 155 = .ok (.getfield 32, 3) := dk_180 0 32 (dk_at dksX9_partsOf_6 15 rfl rfl)
theorem dX9_partsOf_158 : decode cX9_partsOf 158 = .ok (.iload_n 2, 1) := dk_28 (dk_at dksX9_partsOf_6 18 rfl rfl)
theorem dX9_partsOf_159 : decode cX9_partsOf 159 = .ok (.aload_n 0, 1) := dk_42 (dk_at dksX9_partsOf_6 19 rfl rfl)
theorem dX9_partsOf_160 : decode cX9_partsOf 160 = .ok (.invokevirtual 289, 3) := dk_182 1 33 (dk_at dksX9_partsOf_6 20 rfl rfl)
theorem dX9_partsOf_163 : decode cX9_partsOf 163 = .ok (.iastore, 1) := dk_79 (dk_at dksX9_partsOf_6 23 rfl rfl)
theorem dX9_partsOf_164 : decode cX9_partsOf 164 = .ok (.return_, 1) := dk_177 (dk_at dksX9_partsOf_7 0 rfl rfl)
abbrev cX9_sidePast : ByteArray := prog_17_method_60_code
def yX9_sidePast : MethodName := ⟨RX9, "sidePast", "()I"⟩
def dkwX9_sidePast_0 : List UInt8 := [42, 182, 0, 215, 60, 42, 182, 0, 204, 27, 172]
abbrev dktX9_sidePast_0 : List UInt8 := dkwX9_sidePast_0 ++ []
theorem dksX9_sidePast_0 : cX9_sidePast.data.toList.drop 0 = dktX9_sidePast_0 := by decide +kernel
theorem dX9_sidePast_0 : decode cX9_sidePast 0 = .ok (.aload_n 0, 1) := dk_42 (dk_at dksX9_sidePast_0 0 rfl rfl)
theorem dX9_sidePast_1 : decode cX9_sidePast 1 = .ok (.invokevirtual 215, 3) := dk_182 0 215 (dk_at dksX9_sidePast_0 1 rfl rfl)
theorem dX9_sidePast_4 : decode cX9_sidePast 4 = .ok (.istore_n 1, 1) := dk_60 (dk_at dksX9_sidePast_0 4 rfl rfl)
theorem dX9_sidePast_5 : decode cX9_sidePast 5 = .ok (.aload_n 0, 1) := dk_42 (dk_at dksX9_sidePast_0 5 rfl rfl)
theorem dX9_sidePast_6 : decode cX9_sidePast 6 = .ok (.invokevirtual 204, 3) := dk_182 0 204 (dk_at dksX9_sidePast_0 6 rfl rfl)
theorem dX9_sidePast_9 : decode cX9_sidePast 9 = .ok (.iload_n 1, 1) := dk_27 (dk_at dksX9_sidePast_0 9 rfl rfl)
theorem dX9_sidePast_10 : decode cX9_sidePast 10 = .ok (.ireturn, 1) := dk_172 (dk_at dksX9_sidePast_0 10 rfl rfl)
abbrev cX9_keeps : ByteArray := prog_17_method_77_code
def yX9_keeps : MethodName := ⟨RX9, "keeps", "([I)V"⟩
def dkwX9_keeps_3 : List UInt8 := [180, 1, 13, 4, 96, 181, 1, 13, 177]
abbrev dktX9_keeps_3 : List UInt8 := dkwX9_keeps_3 ++ []
def dkwX9_keeps_2 : List UInt8 := [181, 1, 13, 43, 3, 42, 180, 0, 22, 17, 0, 167, 42, 180, 1, 13, 104, 184, 0, 58, 42, 89]
abbrev dktX9_keeps_2 : List UInt8 := dkwX9_keeps_2 ++ dktX9_keeps_3
def dkwX9_keeps_1 : List UInt8 := [180, 0, 22, 28, 17, 0, 167, 96, 46, 79, 132, 2, 1, 167, 255, 230, 42, 89, 180, 1, 13, 4, 100]
abbrev dktX9_keeps_1 : List UInt8 := dkwX9_keeps_1 ++ dktX9_keeps_2
def dkwX9_keeps_0 : List UInt8 := [42, 180, 1, 13, 16, 8, 160, 0, 44, 3, 61, 28, 17, 4, 145, 162, 0, 25, 42, 180, 0, 22, 28, 42]
abbrev dktX9_keeps_0 : List UInt8 := dkwX9_keeps_0 ++ dktX9_keeps_1
theorem dksX9_keeps_0 : cX9_keeps.data.toList.drop 0 = dktX9_keeps_0 := by decide +kernel
theorem dksX9_keeps_1 : cX9_keeps.data.toList.drop 24 = dktX9_keeps_1 := dk_seg dksX9_keeps_0 24 rfl rfl
theorem dksX9_keeps_2 : cX9_keeps.data.toList.drop 47 = dktX9_keeps_2 := dk_seg dksX9_keeps_1 23 rfl rfl
theorem dksX9_keeps_3 : cX9_keeps.data.toList.drop 69 = dktX9_keeps_3 := dk_seg dksX9_keeps_2 22 rfl rfl
theorem dX9_keeps_0 : decode cX9_keeps 0 = .ok (.aload_n 0, 1) := dk_42 (dk_at dksX9_keeps_0 0 rfl rfl)
theorem dX9_keeps_1 : decode cX9_keeps 1 = .ok (.getfield 269, 3) := dk_180 1 13 (dk_at dksX9_keeps_0 1 rfl rfl)
theorem dX9_keeps_4 : decode cX9_keeps 4 = .ok (.bipush 8, 2) := dk_16 8 (dk_at dksX9_keeps_0 4 rfl rfl)
theorem dX9_keeps_6 : decode cX9_keeps 6 = .ok (.if_icmp .ne 44, 3) := dk_160 0 44 (dk_at dksX9_keeps_0 6 rfl rfl)
theorem dX9_keeps_9 : decode cX9_keeps 9 = .ok (.iconst 0, 1) := dk_3 (dk_at dksX9_keeps_0 9 rfl rfl)
theorem dX9_keeps_10 : decode cX9_keeps 10 = .ok (.istore_n 2, 1) := dk_61 (dk_at dksX9_keeps_0 10 rfl rfl)
theorem dX9_keeps_11 : decode cX9_keeps 11 = .ok (.iload_n 2, 1) := dk_28 (dk_at dksX9_keeps_0 11 rfl rfl)
theorem dX9_keeps_12 : decode cX9_keeps 12 = .ok (.sipush 1169, 3) := dk_17 4 145 (dk_at dksX9_keeps_0 12 rfl rfl)
theorem dX9_keeps_15 : decode cX9_keeps 15 = .ok (.if_icmp .ge 25, 3) := dk_162 0 25 (dk_at dksX9_keeps_0 15 rfl rfl)
theorem dX9_keeps_18 : decode cX9_keeps 18 = .ok (.aload_n 0, 1) := dk_42 (dk_at dksX9_keeps_0 18 rfl rfl)
theorem dX9_keeps_19 : decode cX9_keeps 19 = .ok (.getfield 22, 3) := dk_180 0 22 (dk_at dksX9_keeps_0 19 rfl rfl)
theorem dX9_keeps_22 : decode cX9_keeps 22 = .ok (.iload_n 2, 1) := dk_28 (dk_at dksX9_keeps_0 22 rfl rfl)
theorem dX9_keeps_23 : decode cX9_keeps 23 = .ok (.aload_n 0, 1) := dk_42 (dk_at dksX9_keeps_0 23 rfl rfl)
theorem dX9_keeps_24 : decode cX9_keeps 24 = .ok (.getfield 22, 3) := dk_180 0 22 (dk_at dksX9_keeps_1 0 rfl rfl)
theorem dX9_keeps_27 : decode cX9_keeps 27 = .ok (.iload_n 2, 1) := dk_28 (dk_at dksX9_keeps_1 3 rfl rfl)
theorem dX9_keeps_28 : decode cX9_keeps 28 = .ok (.sipush 167, 3) := dk_17 0 167 (dk_at dksX9_keeps_1 4 rfl rfl)
theorem dX9_keeps_31 : decode cX9_keeps 31 = .ok (.iadd, 1) := dk_96 (dk_at dksX9_keeps_1 7 rfl rfl)
theorem dX9_keeps_32 : decode cX9_keeps 32 = .ok (.iaload, 1) := dk_46 (dk_at dksX9_keeps_1 8 rfl rfl)
theorem dX9_keeps_33 : decode cX9_keeps 33 = .ok (.iastore, 1) := dk_79 (dk_at dksX9_keeps_1 9 rfl rfl)
theorem dX9_keeps_34 : decode cX9_keeps 34 = .ok (.iinc 2 1, 3) := dk_132 2 1 (dk_at dksX9_keeps_1 10 rfl rfl)
theorem dX9_keeps_37 : decode cX9_keeps 37 = .ok (.goto (-26), 3) := dk_167 255 230 (dk_at dksX9_keeps_1 13 rfl rfl)
theorem dX9_keeps_40 : decode cX9_keeps 40 = .ok (.aload_n 0, 1) := dk_42 (dk_at dksX9_keeps_1 16 rfl rfl)
theorem dX9_keeps_41 : decode cX9_keeps 41 = .ok (.dup, 1) := dk_89 (dk_at dksX9_keeps_1 17 rfl rfl)
theorem dX9_keeps_42 : decode cX9_keeps 42 = .ok (.getfield 269, 3) := dk_180 1 13 (dk_at dksX9_keeps_1 18 rfl rfl)
theorem dX9_keeps_45 : decode cX9_keeps 45 = .ok (.iconst 1, 1) := dk_4 (dk_at dksX9_keeps_1 21 rfl rfl)
theorem dX9_keeps_46 : decode cX9_keeps 46 = .ok (.isub, 1) := dk_100 (dk_at dksX9_keeps_1 22 rfl rfl)
theorem dX9_keeps_47 : decode cX9_keeps 47 = .ok (.putfield 269, 3) := dk_181 1 13 (dk_at dksX9_keeps_2 0 rfl rfl)
theorem dX9_keeps_50 : decode cX9_keeps 50 = .ok (.aload_n 1, 1) := dk_43 (dk_at dksX9_keeps_2 3 rfl rfl)
theorem dX9_keeps_51 : decode cX9_keeps 51 = .ok (.iconst 0, 1) := dk_3 (dk_at dksX9_keeps_2 4 rfl rfl)
theorem dX9_keeps_52 : decode cX9_keeps 52 = .ok (.aload_n 0, 1) := dk_42 (dk_at dksX9_keeps_2 5 rfl rfl)
theorem dX9_keeps_53 : decode cX9_keeps 53 = .ok (.getfield 22, 3) := dk_180 0 22 (dk_at dksX9_keeps_2 6 rfl rfl)
theorem dX9_keeps_56 : decode cX9_keeps 56 = .ok (.sipush 167, 3) := dk_17 0 167 (dk_at dksX9_keeps_2 9 rfl rfl)
theorem dX9_keeps_59 : decode cX9_keeps 59 = .ok (.aload_n 0, 1) := dk_42 (dk_at dksX9_keeps_2 12 rfl rfl)
theorem dX9_keeps_60 : decode cX9_keeps 60 = .ok (.getfield 269, 3) := dk_180 1 13 (dk_at dksX9_keeps_2 13 rfl rfl)
theorem dX9_keeps_63 : decode cX9_keeps 63 = .ok (.imul, 1) := dk_104 (dk_at dksX9_keeps_2 16 rfl rfl)
theorem dX9_keeps_64 : decode cX9_keeps 64 = .ok (.invokestatic 58, 3) := dk_184 0 58 (dk_at dksX9_keeps_2 17 rfl rfl)
theorem dX9_keeps_67 : decode cX9_keeps 67 = .ok (.aload_n 0, 1) := dk_42 (dk_at dksX9_keeps_2 20 rfl rfl)
theorem dX9_keeps_68 : decode cX9_keeps 68 = .ok (.dup, 1) := dk_89 (dk_at dksX9_keeps_2 21 rfl rfl)
theorem dX9_keeps_69 : decode cX9_keeps 69 = .ok (.getfield 269, 3) := dk_180 1 13 (dk_at dksX9_keeps_3 0 rfl rfl)
theorem dX9_keeps_72 : decode cX9_keeps 72 = .ok (.iconst 1, 1) := dk_4 (dk_at dksX9_keeps_3 3 rfl rfl)
theorem dX9_keeps_73 : decode cX9_keeps 73 = .ok (.iadd, 1) := dk_96 (dk_at dksX9_keeps_3 4 rfl rfl)
theorem dX9_keeps_74 : decode cX9_keeps 74 = .ok (.putfield 269, 3) := dk_181 1 13 (dk_at dksX9_keeps_3 5 rfl rfl)
theorem dX9_keeps_77 : decode cX9_keeps 77 = .ok (.return_, 1) := dk_177 (dk_at dksX9_keeps_3 8 rfl rfl)
abbrev cX9_doesOne : ByteArray := prog_17_method_76_code
def yX9_doesOne : MethodName := ⟨RX9, "doesOne", "(I)Z"⟩
def dkwX9_doesOne_4 : List UInt8 := [28, 182, 1, 60, 172]
abbrev dktX9_doesOne_4 : List UInt8 := dkwX9_doesOne_4 ++ []
def dkwX9_doesOne_3 : List UInt8 := [172, 42, 8, 28, 182, 1, 57, 172, 42, 16, 6, 28, 182, 1, 57, 172, 42, 28, 29, 182, 0, 238, 172, 42]
abbrev dktX9_doesOne_3 : List UInt8 := dkwX9_doesOne_3 ++ dktX9_doesOne_4
def dkwX9_doesOne_2 : List UInt8 := [42, 28, 182, 1, 45, 172, 42, 28, 182, 1, 48, 172, 42, 28, 182, 1, 51, 172, 42, 28, 29, 182, 1, 54]
abbrev dktX9_doesOne_2 : List UInt8 := dkwX9_doesOne_2 ++ dktX9_doesOne_3
def dkwX9_doesOne_1 : List UInt8 := [170, 0, 0, 0, 0, 0, 0, 91, 0, 0, 0, 0, 0, 0, 0, 6, 0, 0, 0, 44, 0, 0, 0, 50, 0, 0, 0, 56, 0, 0, 0, 62, 0, 0, 0, 69, 0, 0, 0, 76, 0, 0, 0, 84]
abbrev dktX9_doesOne_1 : List UInt8 := dkwX9_doesOne_1 ++ dktX9_doesOne_2
def dkwX9_doesOne_0 : List UInt8 := [42, 180, 0, 32, 27, 4, 96, 46, 61, 42, 180, 0, 32, 27, 5, 96, 46, 62, 42, 180, 0, 32, 27, 46]
abbrev dktX9_doesOne_0 : List UInt8 := dkwX9_doesOne_0 ++ dktX9_doesOne_1
theorem dksX9_doesOne_0 : cX9_doesOne.data.toList.drop 0 = dktX9_doesOne_0 := by decide +kernel
theorem dksX9_doesOne_1 : cX9_doesOne.data.toList.drop 24 = dktX9_doesOne_1 := dk_seg dksX9_doesOne_0 24 rfl rfl
theorem dksX9_doesOne_2 : cX9_doesOne.data.toList.drop 68 = dktX9_doesOne_2 := dk_seg dksX9_doesOne_1 44 rfl rfl
theorem dksX9_doesOne_3 : cX9_doesOne.data.toList.drop 92 = dktX9_doesOne_3 := dk_seg dksX9_doesOne_2 24 rfl rfl
theorem dksX9_doesOne_4 : cX9_doesOne.data.toList.drop 116 = dktX9_doesOne_4 := dk_seg dksX9_doesOne_3 24 rfl rfl
theorem dX9_doesOne_0 : decode cX9_doesOne 0 = .ok (.aload_n 0, 1) := dk_42 (dk_at dksX9_doesOne_0 0 rfl rfl)
theorem dX9_doesOne_1 : decode cX9_doesOne 1 = .ok (.getfield 32, 3) := dk_180 0 32 (dk_at dksX9_doesOne_0 1 rfl rfl)
theorem dX9_doesOne_4 : decode cX9_doesOne 4 = .ok (.iload_n 1, 1) := dk_27 (dk_at dksX9_doesOne_0 4 rfl rfl)
theorem dX9_doesOne_5 : decode cX9_doesOne 5 = .ok (.iconst 1, 1) := dk_4 (dk_at dksX9_doesOne_0 5 rfl rfl)
theorem dX9_doesOne_6 : decode cX9_doesOne 6 = .ok (.iadd, 1) := dk_96 (dk_at dksX9_doesOne_0 6 rfl rfl)
theorem dX9_doesOne_7 : decode cX9_doesOne 7 = .ok (.iaload, 1) := dk_46 (dk_at dksX9_doesOne_0 7 rfl rfl)
theorem dX9_doesOne_8 : decode cX9_doesOne 8 = .ok (.istore_n 2, 1) := dk_61 (dk_at dksX9_doesOne_0 8 rfl rfl)
theorem dX9_doesOne_9 : decode cX9_doesOne 9 = .ok (.aload_n 0, 1) := dk_42 (dk_at dksX9_doesOne_0 9 rfl rfl)
theorem dX9_doesOne_10 : decode cX9_doesOne 10 = .ok (.getfield 32, 3) := dk_180 0 32 (dk_at dksX9_doesOne_0 10 rfl rfl)
theorem dX9_doesOne_13 : decode cX9_doesOne 13 = .ok (.iload_n 1, 1) := dk_27 (dk_at dksX9_doesOne_0 13 rfl rfl)
theorem dX9_doesOne_14 : decode cX9_doesOne 14 = .ok (.iconst 2, 1) := dk_5 (dk_at dksX9_doesOne_0 14 rfl rfl)
theorem dX9_doesOne_15 : decode cX9_doesOne 15 = .ok (.iadd, 1) := dk_96 (dk_at dksX9_doesOne_0 15 rfl rfl)
theorem dX9_doesOne_16 : decode cX9_doesOne 16 = .ok (.iaload, 1) := dk_46 (dk_at dksX9_doesOne_0 16 rfl rfl)
theorem dX9_doesOne_17 : decode cX9_doesOne 17 = .ok (.istore_n 3, 1) := dk_62 (dk_at dksX9_doesOne_0 17 rfl rfl)
theorem dX9_doesOne_18 : decode cX9_doesOne 18 = .ok (.aload_n 0, 1) := dk_42 (dk_at dksX9_doesOne_0 18 rfl rfl)
theorem dX9_doesOne_19 : decode cX9_doesOne 19 = .ok (.getfield 32, 3) := dk_180 0 32 (dk_at dksX9_doesOne_0 19 rfl rfl)
theorem dX9_doesOne_22 : decode cX9_doesOne 22 = .ok (.iload_n 1, 1) := dk_27 (dk_at dksX9_doesOne_0 22 rfl rfl)
theorem dX9_doesOne_23 : decode cX9_doesOne 23 = .ok (.iaload, 1) := dk_46 (dk_at dksX9_doesOne_0 23 rfl rfl)
theorem dX9_doesOne_24 : decode cX9_doesOne 24 = .ok (.tableswitch 91 0 6 #[44, 50, 56, 62, 69, 76, 84], 44) := by decide +kernel
theorem dX9_doesOne_68 : decode cX9_doesOne 68 = .ok (.aload_n 0, 1) := dk_42 (dk_at dksX9_doesOne_2 0 rfl rfl)
theorem dX9_doesOne_69 : decode cX9_doesOne 69 = .ok (.iload_n 2, 1) := dk_28 (dk_at dksX9_doesOne_2 1 rfl rfl)
theorem dX9_doesOne_70 : decode cX9_doesOne 70 = .ok (.invokevirtual 301, 3) := dk_182 1 45 (dk_at dksX9_doesOne_2 2 rfl rfl)
theorem dX9_doesOne_73 : decode cX9_doesOne 73 = .ok (.ireturn, 1) := dk_172 (dk_at dksX9_doesOne_2 5 rfl rfl)
theorem dX9_doesOne_74 : decode cX9_doesOne 74 = .ok (.aload_n 0, 1) := dk_42 (dk_at dksX9_doesOne_2 6 rfl rfl)
theorem dX9_doesOne_75 : decode cX9_doesOne 75 = .ok (.iload_n 2, 1) := dk_28 (dk_at dksX9_doesOne_2 7 rfl rfl)
theorem dX9_doesOne_76 : decode cX9_doesOne 76 = .ok (.invokevirtual 304, 3) := dk_182 1 48 (dk_at dksX9_doesOne_2 8 rfl rfl)
theorem dX9_doesOne_79 : decode cX9_doesOne 79 = .ok (.ireturn, 1) := dk_172 (dk_at dksX9_doesOne_2 11 rfl rfl)
theorem dX9_doesOne_80 : decode cX9_doesOne 80 = .ok (.aload_n 0, 1) := dk_42 (dk_at dksX9_doesOne_2 12 rfl rfl)
theorem dX9_doesOne_81 : decode cX9_doesOne 81 = .ok (.iload_n 2, 1) := dk_28 (dk_at dksX9_doesOne_2 13 rfl rfl)
theorem dX9_doesOne_82 : decode cX9_doesOne 82 = .ok (.invokevirtual 307, 3) := dk_182 1 51 (dk_at dksX9_doesOne_2 14 rfl rfl)
theorem dX9_doesOne_85 : decode cX9_doesOne 85 = .ok (.ireturn, 1) := dk_172 (dk_at dksX9_doesOne_2 17 rfl rfl)
theorem dX9_doesOne_86 : decode cX9_doesOne 86 = .ok (.aload_n 0, 1) := dk_42 (dk_at dksX9_doesOne_2 18 rfl rfl)
theorem dX9_doesOne_87 : decode cX9_doesOne 87 = .ok (.iload_n 2, 1) := dk_28 (dk_at dksX9_doesOne_2 19 rfl rfl)
theorem dX9_doesOne_88 : decode cX9_doesOne 88 = .ok (.iload_n 3, 1) := dk_29 (dk_at dksX9_doesOne_2 20 rfl rfl)
theorem dX9_doesOne_89 : decode cX9_doesOne 89 = .ok (.invokevirtual 310, 3) := dk_182 1 54 (dk_at dksX9_doesOne_2 21 rfl rfl)
theorem dX9_doesOne_92 : decode cX9_doesOne 92 = .ok (.ireturn, 1) := dk_172 (dk_at dksX9_doesOne_3 0 rfl rfl)
theorem dX9_doesOne_93 : decode cX9_doesOne 93 = .ok (.aload_n 0, 1) := dk_42 (dk_at dksX9_doesOne_3 1 rfl rfl)
theorem dX9_doesOne_94 : decode cX9_doesOne 94 = .ok (.iconst 5, 1) := dk_8 (dk_at dksX9_doesOne_3 2 rfl rfl)
theorem dX9_doesOne_95 : decode cX9_doesOne 95 = .ok (.iload_n 2, 1) := dk_28 (dk_at dksX9_doesOne_3 3 rfl rfl)
theorem dX9_doesOne_96 : decode cX9_doesOne 96 = .ok (.invokevirtual 313, 3) := dk_182 1 57 (dk_at dksX9_doesOne_3 4 rfl rfl)
theorem dX9_doesOne_99 : decode cX9_doesOne 99 = .ok (.ireturn, 1) := dk_172 (dk_at dksX9_doesOne_3 7 rfl rfl)
theorem dX9_doesOne_100 : decode cX9_doesOne 100 = .ok (.aload_n 0, 1) := dk_42 (dk_at dksX9_doesOne_3 8 rfl rfl)
theorem dX9_doesOne_101 : decode cX9_doesOne 101 = .ok (.bipush 6, 2) := dk_16 6 (dk_at dksX9_doesOne_3 9 rfl rfl)
theorem dX9_doesOne_103 : decode cX9_doesOne 103 = .ok (.iload_n 2, 1) := dk_28 (dk_at dksX9_doesOne_3 11 rfl rfl)
theorem dX9_doesOne_104 : decode cX9_doesOne 104 = .ok (.invokevirtual 313, 3) := dk_182 1 57 (dk_at dksX9_doesOne_3 12 rfl rfl)
theorem dX9_doesOne_107 : decode cX9_doesOne 107 = .ok (.ireturn, 1) := dk_172 (dk_at dksX9_doesOne_3 15 rfl rfl)
theorem dX9_doesOne_108 : decode cX9_doesOne 108 = .ok (.aload_n 0, 1) := dk_42 (dk_at dksX9_doesOne_3 16 rfl rfl)
theorem dX9_doesOne_109 : decode cX9_doesOne 109 = .ok (.iload_n 2, 1) := dk_28 (dk_at dksX9_doesOne_3 17 rfl rfl)
theorem dX9_doesOne_110 : decode cX9_doesOne 110 = .ok (.iload_n 3, 1) := dk_29 (dk_at dksX9_doesOne_3 18 rfl rfl)
theorem dX9_doesOne_111 : decode cX9_doesOne 111 = .ok (.invokevirtual 238, 3) := dk_182 0 238 (dk_at dksX9_doesOne_3 19 rfl rfl)
theorem dX9_doesOne_114 : decode cX9_doesOne 114 = .ok (.ireturn, 1) := dk_172 (dk_at dksX9_doesOne_3 22 rfl rfl)
theorem dX9_doesOne_115 : decode cX9_doesOne 115 = .ok (.aload_n 0, 1) := dk_42 (dk_at dksX9_doesOne_3 23 rfl rfl)
theorem dX9_doesOne_116 : decode cX9_doesOne 116 = .ok (.iload_n 2, 1) := dk_28 (dk_at dksX9_doesOne_4 0 rfl rfl)
theorem dX9_doesOne_117 : decode cX9_doesOne 117 = .ok (.invokevirtual 316, 3) := dk_182 1 60 (dk_at dksX9_doesOne_4 1 rfl rfl)
theorem dX9_doesOne_120 : decode cX9_doesOne 120 = .ok (.ireturn, 1) := dk_172 (dk_at dksX9_doesOne_4 4 rfl rfl)
abbrev cX9_passNow : ByteArray := prog_17_method_38_code
def yX9_passNow : MethodName := ⟨RX9, "passNow", "(I)Z"⟩
def dkwX9_passNow_0 : List UInt8 := [42, 182, 0, 149, 61, 42, 27, 182, 0, 152, 42, 42, 182, 0, 149, 28, 100, 181, 0, 155, 4, 172]
abbrev dktX9_passNow_0 : List UInt8 := dkwX9_passNow_0 ++ []
theorem dksX9_passNow_0 : cX9_passNow.data.toList.drop 0 = dktX9_passNow_0 := by decide +kernel
theorem dX9_passNow_0 : decode cX9_passNow 0 = .ok (.aload_n 0, 1) := dk_42 (dk_at dksX9_passNow_0 0 rfl rfl)
theorem dX9_passNow_1 : decode cX9_passNow 1 = .ok (.invokevirtual 149, 3) := dk_182 0 149 (dk_at dksX9_passNow_0 1 rfl rfl)
theorem dX9_passNow_4 : decode cX9_passNow 4 = .ok (.istore_n 2, 1) := dk_61 (dk_at dksX9_passNow_0 4 rfl rfl)
theorem dX9_passNow_5 : decode cX9_passNow 5 = .ok (.aload_n 0, 1) := dk_42 (dk_at dksX9_passNow_0 5 rfl rfl)
theorem dX9_passNow_6 : decode cX9_passNow 6 = .ok (.iload_n 1, 1) := dk_27 (dk_at dksX9_passNow_0 6 rfl rfl)
theorem dX9_passNow_7 : decode cX9_passNow 7 = .ok (.invokevirtual 152, 3) := dk_182 0 152 (dk_at dksX9_passNow_0 7 rfl rfl)
theorem dX9_passNow_10 : decode cX9_passNow 10 = .ok (.aload_n 0, 1) := dk_42 (dk_at dksX9_passNow_0 10 rfl rfl)
theorem dX9_passNow_11 : decode cX9_passNow 11 = .ok (.aload_n 0, 1) := dk_42 (dk_at dksX9_passNow_0 11 rfl rfl)
theorem dX9_passNow_12 : decode cX9_passNow 12 = .ok (.invokevirtual 149, 3) := dk_182 0 149 (dk_at dksX9_passNow_0 12 rfl rfl)
theorem dX9_passNow_15 : decode cX9_passNow 15 = .ok (.iload_n 2, 1) := dk_28 (dk_at dksX9_passNow_0 15 rfl rfl)
theorem dX9_passNow_16 : decode cX9_passNow 16 = .ok (.isub, 1) := dk_100 (dk_at dksX9_passNow_0 16 rfl rfl)
theorem dX9_passNow_17 : decode cX9_passNow 17 = .ok (.putfield 155, 3) := dk_181 0 155 (dk_at dksX9_passNow_0 17 rfl rfl)
theorem dX9_passNow_20 : decode cX9_passNow 20 = .ok (.iconst 1, 1) := dk_4 (dk_at dksX9_passNow_0 20 rfl rfl)
theorem dX9_passNow_21 : decode cX9_passNow 21 = .ok (.ireturn, 1) := dk_172 (dk_at dksX9_passNow_0 21 rfl rfl)
abbrev cX9_crossed : ByteArray := prog_17_method_37_code
def yX9_crossed : MethodName := ⟨RX9, "crossed", "()I"⟩
def dkwX9_crossed_0 : List UInt8 := [42, 180, 0, 7, 16, 15, 46, 42, 180, 0, 7, 16, 16, 46, 96, 172]
abbrev dktX9_crossed_0 : List UInt8 := dkwX9_crossed_0 ++ []
theorem dksX9_crossed_0 : cX9_crossed.data.toList.drop 0 = dktX9_crossed_0 := by decide +kernel
theorem dX9_crossed_0 : decode cX9_crossed 0 = .ok (.aload_n 0, 1) := dk_42 (dk_at dksX9_crossed_0 0 rfl rfl)
theorem dX9_crossed_1 : decode cX9_crossed 1 = .ok (.getfield 7, 3) := dk_180 0 7 (dk_at dksX9_crossed_0 1 rfl rfl)
theorem dX9_crossed_4 : decode cX9_crossed 4 = .ok (.bipush 15, 2) := dk_16 15 (dk_at dksX9_crossed_0 4 rfl rfl)
theorem dX9_crossed_6 : decode cX9_crossed 6 = .ok (.iaload, 1) := dk_46 (dk_at dksX9_crossed_0 6 rfl rfl)
theorem dX9_crossed_7 : decode cX9_crossed 7 = .ok (.aload_n 0, 1) := dk_42 (dk_at dksX9_crossed_0 7 rfl rfl)
theorem dX9_crossed_8 : decode cX9_crossed 8 = .ok (.getfield 7, 3) := dk_180 0 7 (dk_at dksX9_crossed_0 8 rfl rfl)
theorem dX9_crossed_11 : decode cX9_crossed 11 = .ok (.bipush 16, 2) := dk_16 16 (dk_at dksX9_crossed_0 11 rfl rfl)
theorem dX9_crossed_13 : decode cX9_crossed 13 = .ok (.iaload, 1) := dk_46 (dk_at dksX9_crossed_0 13 rfl rfl)
theorem dX9_crossed_14 : decode cX9_crossed 14 = .ok (.iadd, 1) := dk_96 (dk_at dksX9_crossed_0 14 rfl rfl)
theorem dX9_crossed_15 : decode cX9_crossed 15 = .ok (.ireturn, 1) := dk_172 (dk_at dksX9_crossed_0 15 rfl rfl)
abbrev cX9_goBy : ByteArray := prog_17_method_36_code
def yX9_goBy : MethodName := ⟨RX9, "goBy", "(I)V"⟩
def dkwX9_goBy_0 : List UInt8 := [3, 61, 28, 27, 162, 0, 13, 42, 182, 0, 146, 132, 2, 1, 167, 255, 244, 177]
abbrev dktX9_goBy_0 : List UInt8 := dkwX9_goBy_0 ++ []
theorem dksX9_goBy_0 : cX9_goBy.data.toList.drop 0 = dktX9_goBy_0 := by decide +kernel
theorem dX9_goBy_0 : decode cX9_goBy 0 = .ok (.iconst 0, 1) := dk_3 (dk_at dksX9_goBy_0 0 rfl rfl)
theorem dX9_goBy_1 : decode cX9_goBy 1 = .ok (.istore_n 2, 1) := dk_61 (dk_at dksX9_goBy_0 1 rfl rfl)
theorem dX9_goBy_2 : decode cX9_goBy 2 = .ok (.iload_n 2, 1) := dk_28 (dk_at dksX9_goBy_0 2 rfl rfl)
theorem dX9_goBy_3 : decode cX9_goBy 3 = .ok (.iload_n 1, 1) := dk_27 (dk_at dksX9_goBy_0 3 rfl rfl)
theorem dX9_goBy_4 : decode cX9_goBy 4 = .ok (.if_icmp .ge 13, 3) := dk_162 0 13 (dk_at dksX9_goBy_0 4 rfl rfl)
theorem dX9_goBy_7 : decode cX9_goBy 7 = .ok (.aload_n 0, 1) := dk_42 (dk_at dksX9_goBy_0 7 rfl rfl)
theorem dX9_goBy_8 : decode cX9_goBy 8 = .ok (.invokevirtual 146, 3) := dk_182 0 146 (dk_at dksX9_goBy_0 8 rfl rfl)
theorem dX9_goBy_11 : decode cX9_goBy 11 = .ok (.iinc 2 1, 3) := dk_132 2 1 (dk_at dksX9_goBy_0 11 rfl rfl)
theorem dX9_goBy_14 : decode cX9_goBy 14 = .ok (.goto (-12), 3) := dk_167 255 244 (dk_at dksX9_goBy_0 14 rfl rfl)
theorem dX9_goBy_17 : decode cX9_goBy 17 = .ok (.return_, 1) := dk_177 (dk_at dksX9_goBy_0 17 rfl rfl)
abbrev cX9_hourOnce : ByteArray := prog_17_method_35_code
def yX9_hourOnce : MethodName := ⟨RX9, "hourOnce", "()V"⟩
def dkwX9_hourOnce_4 : List UInt8 := [177]
abbrev dktX9_hourOnce_4 : List UInt8 := dkwX9_hourOnce_4 ++ []
def dkwX9_hourOnce_3 : List UInt8 := [182, 0, 140, 42, 3, 182, 0, 143, 42, 4, 182, 0, 143, 42, 180, 0, 7, 16, 7, 92, 46, 4, 96, 79]
abbrev dktX9_hourOnce_3 : List UInt8 := dkwX9_hourOnce_3 ++ dktX9_hourOnce_4
def dkwX9_hourOnce_2 : List UInt8 := [42, 182, 0, 120, 42, 180, 0, 7, 6, 46, 164, 0, 7, 42, 182, 0, 137, 42, 3, 182, 0, 140, 42, 4]
abbrev dktX9_hourOnce_2 : List UInt8 := dkwX9_hourOnce_2 ++ dktX9_hourOnce_3
def dkwX9_hourOnce_1 : List UInt8 := [182, 0, 131, 167, 0, 8, 42, 27, 182, 0, 134, 132, 1, 1, 167, 255, 221, 42, 182, 0, 95, 153, 0, 20]
abbrev dktX9_hourOnce_1 : List UInt8 := dkwX9_hourOnce_1 ++ dktX9_hourOnce_2
def dkwX9_hourOnce_0 : List UInt8 := [3, 60, 27, 42, 180, 0, 7, 3, 46, 162, 0, 31, 42, 27, 5, 182, 0, 66, 158, 0, 11, 42, 27]
abbrev dktX9_hourOnce_0 : List UInt8 := dkwX9_hourOnce_0 ++ dktX9_hourOnce_1
theorem dksX9_hourOnce_0 : cX9_hourOnce.data.toList.drop 0 = dktX9_hourOnce_0 := by decide +kernel
theorem dksX9_hourOnce_1 : cX9_hourOnce.data.toList.drop 23 = dktX9_hourOnce_1 := dk_seg dksX9_hourOnce_0 23 rfl rfl
theorem dksX9_hourOnce_2 : cX9_hourOnce.data.toList.drop 47 = dktX9_hourOnce_2 := dk_seg dksX9_hourOnce_1 24 rfl rfl
theorem dksX9_hourOnce_3 : cX9_hourOnce.data.toList.drop 71 = dktX9_hourOnce_3 := dk_seg dksX9_hourOnce_2 24 rfl rfl
theorem dksX9_hourOnce_4 : cX9_hourOnce.data.toList.drop 95 = dktX9_hourOnce_4 := dk_seg dksX9_hourOnce_3 24 rfl rfl
theorem dX9_hourOnce_0 : decode cX9_hourOnce 0 = .ok (.iconst 0, 1) := dk_3 (dk_at dksX9_hourOnce_0 0 rfl rfl)
theorem dX9_hourOnce_1 : decode cX9_hourOnce 1 = .ok (.istore_n 1, 1) := dk_60 (dk_at dksX9_hourOnce_0 1 rfl rfl)
theorem dX9_hourOnce_2 : decode cX9_hourOnce 2 = .ok (.iload_n 1, 1) := dk_27 (dk_at dksX9_hourOnce_0 2 rfl rfl)
theorem dX9_hourOnce_3 : decode cX9_hourOnce 3 = .ok (.aload_n 0, 1) := dk_42 (dk_at dksX9_hourOnce_0 3 rfl rfl)
theorem dX9_hourOnce_4 : decode cX9_hourOnce 4 = .ok (.getfield 7, 3) := dk_180 0 7 (dk_at dksX9_hourOnce_0 4 rfl rfl)
theorem dX9_hourOnce_7 : decode cX9_hourOnce 7 = .ok (.iconst 0, 1) := dk_3 (dk_at dksX9_hourOnce_0 7 rfl rfl)
theorem dX9_hourOnce_8 : decode cX9_hourOnce 8 = .ok (.iaload, 1) := dk_46 (dk_at dksX9_hourOnce_0 8 rfl rfl)
theorem dX9_hourOnce_9 : decode cX9_hourOnce 9 = .ok (.if_icmp .ge 31, 3) := dk_162 0 31 (dk_at dksX9_hourOnce_0 9 rfl rfl)
theorem dX9_hourOnce_12 : decode cX9_hourOnce 12 = .ok (.aload_n 0, 1) := dk_42 (dk_at dksX9_hourOnce_0 12 rfl rfl)
theorem dX9_hourOnce_13 : decode cX9_hourOnce 13 = .ok (.iload_n 1, 1) := dk_27 (dk_at dksX9_hourOnce_0 13 rfl rfl)
theorem dX9_hourOnce_14 : decode cX9_hourOnce 14 = .ok (.iconst 2, 1) := dk_5 (dk_at dksX9_hourOnce_0 14 rfl rfl)
theorem dX9_hourOnce_15 : decode cX9_hourOnce 15 = .ok (.invokevirtual 66, 3) := dk_182 0 66 (dk_at dksX9_hourOnce_0 15 rfl rfl)
theorem dX9_hourOnce_18 : decode cX9_hourOnce 18 = .ok (.ifCond .le 11, 3) := dk_158 0 11 (dk_at dksX9_hourOnce_0 18 rfl rfl)
theorem dX9_hourOnce_21 : decode cX9_hourOnce 21 = .ok (.aload_n 0, 1) := dk_42 (dk_at dksX9_hourOnce_0 21 rfl rfl)
theorem dX9_hourOnce_22 : decode cX9_hourOnce 22 = .ok (.iload_n 1, 1) := dk_27 (dk_at dksX9_hourOnce_0 22 rfl rfl)
theorem dX9_hourOnce_23 : decode cX9_hourOnce 23 = .ok (.invokevirtual 131, 3) := dk_182 0 131 (dk_at dksX9_hourOnce_1 0 rfl rfl)
theorem dX9_hourOnce_26 : decode cX9_hourOnce 26 = .ok (.goto 8, 3) := dk_167 0 8 (dk_at dksX9_hourOnce_1 3 rfl rfl)
theorem dX9_hourOnce_29 : decode cX9_hourOnce 29 = .ok (.aload_n 0, 1) := dk_42 (dk_at dksX9_hourOnce_1 6 rfl rfl)
theorem dX9_hourOnce_30 : decode cX9_hourOnce 30 = .ok (.iload_n 1, 1) := dk_27 (dk_at dksX9_hourOnce_1 7 rfl rfl)
theorem dX9_hourOnce_31 : decode cX9_hourOnce 31 = .ok (.invokevirtual 134, 3) := dk_182 0 134 (dk_at dksX9_hourOnce_1 8 rfl rfl)
theorem dX9_hourOnce_34 : decode cX9_hourOnce 34 = .ok (.iinc 1 1, 3) := dk_132 1 1 (dk_at dksX9_hourOnce_1 11 rfl rfl)
theorem dX9_hourOnce_37 : decode cX9_hourOnce 37 = .ok (.goto (-35), 3) := dk_167 255 221 (dk_at dksX9_hourOnce_1 14 rfl rfl)
theorem dX9_hourOnce_40 : decode cX9_hourOnce 40 = .ok (.aload_n 0, 1) := dk_42 (dk_at dksX9_hourOnce_1 17 rfl rfl)
theorem dX9_hourOnce_41 : decode cX9_hourOnce 41 = .ok (.invokevirtual 95, 3) := dk_182 0 95 (dk_at dksX9_hourOnce_1 18 rfl rfl)
theorem dX9_hourOnce_44 : decode cX9_hourOnce 44 = .ok (.ifCond .eq 20, 3) := dk_153 0 20 (dk_at dksX9_hourOnce_1 21 rfl rfl)
theorem dX9_hourOnce_47 : decode cX9_hourOnce 47 = .ok (.aload_n 0, 1) := dk_42 (dk_at dksX9_hourOnce_2 0 rfl rfl)
theorem dX9_hourOnce_48 : decode cX9_hourOnce 48 = .ok (.invokevirtual 120, 3) := dk_182 0 120 (dk_at dksX9_hourOnce_2 1 rfl rfl)
theorem dX9_hourOnce_51 : decode cX9_hourOnce 51 = .ok (.aload_n 0, 1) := dk_42 (dk_at dksX9_hourOnce_2 4 rfl rfl)
theorem dX9_hourOnce_52 : decode cX9_hourOnce 52 = .ok (.getfield 7, 3) := dk_180 0 7 (dk_at dksX9_hourOnce_2 5 rfl rfl)
theorem dX9_hourOnce_55 : decode cX9_hourOnce 55 = .ok (.iconst 3, 1) := dk_6 (dk_at dksX9_hourOnce_2 8 rfl rfl)
theorem dX9_hourOnce_56 : decode cX9_hourOnce 56 = .ok (.iaload, 1) := dk_46 (dk_at dksX9_hourOnce_2 9 rfl rfl)
theorem dX9_hourOnce_57 : decode cX9_hourOnce 57 = .ok (.if_icmp .le 7, 3) := dk_164 0 7 (dk_at dksX9_hourOnce_2 10 rfl rfl)
theorem dX9_hourOnce_60 : decode cX9_hourOnce 60 = .ok (.aload_n 0, 1) := dk_42 (dk_at dksX9_hourOnce_2 13 rfl rfl)
theorem dX9_hourOnce_61 : decode cX9_hourOnce 61 = .ok (.invokevirtual 137, 3) := dk_182 0 137 (dk_at dksX9_hourOnce_2 14 rfl rfl)
theorem dX9_hourOnce_64 : decode cX9_hourOnce 64 = .ok (.aload_n 0, 1) := dk_42 (dk_at dksX9_hourOnce_2 17 rfl rfl)
theorem dX9_hourOnce_65 : decode cX9_hourOnce 65 = .ok (.iconst 0, 1) := dk_3 (dk_at dksX9_hourOnce_2 18 rfl rfl)
theorem dX9_hourOnce_66 : decode cX9_hourOnce 66 = .ok (.invokevirtual 140, 3) := dk_182 0 140 (dk_at dksX9_hourOnce_2 19 rfl rfl)
theorem dX9_hourOnce_69 : decode cX9_hourOnce 69 = .ok (.aload_n 0, 1) := dk_42 (dk_at dksX9_hourOnce_2 22 rfl rfl)
theorem dX9_hourOnce_70 : decode cX9_hourOnce 70 = .ok (.iconst 1, 1) := dk_4 (dk_at dksX9_hourOnce_2 23 rfl rfl)
theorem dX9_hourOnce_71 : decode cX9_hourOnce 71 = .ok (.invokevirtual 140, 3) := dk_182 0 140 (dk_at dksX9_hourOnce_3 0 rfl rfl)
theorem dX9_hourOnce_74 : decode cX9_hourOnce 74 = .ok (.aload_n 0, 1) := dk_42 (dk_at dksX9_hourOnce_3 3 rfl rfl)
theorem dX9_hourOnce_75 : decode cX9_hourOnce 75 = .ok (.iconst 0, 1) := dk_3 (dk_at dksX9_hourOnce_3 4 rfl rfl)
theorem dX9_hourOnce_76 : decode cX9_hourOnce 76 = .ok (.invokevirtual 143, 3) := dk_182 0 143 (dk_at dksX9_hourOnce_3 5 rfl rfl)
theorem dX9_hourOnce_79 : decode cX9_hourOnce 79 = .ok (.aload_n 0, 1) := dk_42 (dk_at dksX9_hourOnce_3 8 rfl rfl)
theorem dX9_hourOnce_80 : decode cX9_hourOnce 80 = .ok (.iconst 1, 1) := dk_4 (dk_at dksX9_hourOnce_3 9 rfl rfl)
theorem dX9_hourOnce_81 : decode cX9_hourOnce 81 = .ok (.invokevirtual 143, 3) := dk_182 0 143 (dk_at dksX9_hourOnce_3 10 rfl rfl)
theorem dX9_hourOnce_84 : decode cX9_hourOnce 84 = .ok (.aload_n 0, 1) := dk_42 (dk_at dksX9_hourOnce_3 13 rfl rfl)
theorem dX9_hourOnce_85 : decode cX9_hourOnce 85 = .ok (.getfield 7, 3) := dk_180 0 7 (dk_at dksX9_hourOnce_3 14 rfl rfl)
theorem dX9_hourOnce_88 : decode cX9_hourOnce 88 = .ok (.bipush 7, 2) := dk_16 7 (dk_at dksX9_hourOnce_3 17 rfl rfl)
theorem dX9_hourOnce_90 : decode cX9_hourOnce 90 = .ok (.dup2, 1) := dk_92 (dk_at dksX9_hourOnce_3 19 rfl rfl)
theorem dX9_hourOnce_91 : decode cX9_hourOnce 91 = .ok (.iaload, 1) := dk_46 (dk_at dksX9_hourOnce_3 20 rfl rfl)
theorem dX9_hourOnce_92 : decode cX9_hourOnce 92 = .ok (.iconst 1, 1) := dk_4 (dk_at dksX9_hourOnce_3 21 rfl rfl)
theorem dX9_hourOnce_93 : decode cX9_hourOnce 93 = .ok (.iadd, 1) := dk_96 (dk_at dksX9_hourOnce_3 22 rfl rfl)
theorem dX9_hourOnce_94 : decode cX9_hourOnce 94 = .ok (.iastore, 1) := dk_79 (dk_at dksX9_hourOnce_3 23 rfl rfl)
theorem dX9_hourOnce_95 : decode cX9_hourOnce 95 = .ok (.return_, 1) := dk_177 (dk_at dksX9_hourOnce_4 0 rfl rfl)
abbrev cX9_melts : ByteArray := prog_17_method_30_code
def yX9_melts : MethodName := ⟨RX9, "melts", "(I)V"⟩
def dkwX9_melts_2 : List UInt8 := [46, 28, 96, 79, 177]
abbrev dktX9_melts_2 : List UInt8 := dkwX9_melts_2 ++ []
def dkwX9_melts_1 : List UInt8 := [182, 0, 104, 42, 27, 5, 42, 27, 5, 182, 0, 66, 4, 100, 182, 0, 104, 42, 180, 0, 7, 16, 12, 92]
abbrev dktX9_melts_1 : List UInt8 := dkwX9_melts_1 ++ dktX9_melts_2
def dkwX9_melts_0 : List UInt8 := [5, 42, 27, 3, 182, 0, 66, 184, 0, 99, 61, 42, 27, 3, 42, 27, 3, 182, 0, 66, 28, 100]
abbrev dktX9_melts_0 : List UInt8 := dkwX9_melts_0 ++ dktX9_melts_1
theorem dksX9_melts_0 : cX9_melts.data.toList.drop 0 = dktX9_melts_0 := by decide +kernel
theorem dksX9_melts_1 : cX9_melts.data.toList.drop 22 = dktX9_melts_1 := dk_seg dksX9_melts_0 22 rfl rfl
theorem dksX9_melts_2 : cX9_melts.data.toList.drop 46 = dktX9_melts_2 := dk_seg dksX9_melts_1 24 rfl rfl
theorem dX9_melts_0 : decode cX9_melts 0 = .ok (.iconst 2, 1) := dk_5 (dk_at dksX9_melts_0 0 rfl rfl)
theorem dX9_melts_1 : decode cX9_melts 1 = .ok (.aload_n 0, 1) := dk_42 (dk_at dksX9_melts_0 1 rfl rfl)
theorem dX9_melts_2 : decode cX9_melts 2 = .ok (.iload_n 1, 1) := dk_27 (dk_at dksX9_melts_0 2 rfl rfl)
theorem dX9_melts_3 : decode cX9_melts 3 = .ok (.iconst 0, 1) := dk_3 (dk_at dksX9_melts_0 3 rfl rfl)
theorem dX9_melts_4 : decode cX9_melts 4 = .ok (.invokevirtual 66, 3) := dk_182 0 66 (dk_at dksX9_melts_0 4 rfl rfl)
theorem dX9_melts_7 : decode cX9_melts 7 = .ok (.invokestatic 99, 3) := dk_184 0 99 (dk_at dksX9_melts_0 7 rfl rfl)
theorem dX9_melts_10 : decode cX9_melts 10 = .ok (.istore_n 2, 1) := dk_61 (dk_at dksX9_melts_0 10 rfl rfl)
theorem dX9_melts_11 : decode cX9_melts 11 = .ok (.aload_n 0, 1) := dk_42 (dk_at dksX9_melts_0 11 rfl rfl)
theorem dX9_melts_12 : decode cX9_melts 12 = .ok (.iload_n 1, 1) := dk_27 (dk_at dksX9_melts_0 12 rfl rfl)
theorem dX9_melts_13 : decode cX9_melts 13 = .ok (.iconst 0, 1) := dk_3 (dk_at dksX9_melts_0 13 rfl rfl)
theorem dX9_melts_14 : decode cX9_melts 14 = .ok (.aload_n 0, 1) := dk_42 (dk_at dksX9_melts_0 14 rfl rfl)
theorem dX9_melts_15 : decode cX9_melts 15 = .ok (.iload_n 1, 1) := dk_27 (dk_at dksX9_melts_0 15 rfl rfl)
theorem dX9_melts_16 : decode cX9_melts 16 = .ok (.iconst 0, 1) := dk_3 (dk_at dksX9_melts_0 16 rfl rfl)
theorem dX9_melts_17 : decode cX9_melts 17 = .ok (.invokevirtual 66, 3) := dk_182 0 66 (dk_at dksX9_melts_0 17 rfl rfl)
theorem dX9_melts_20 : decode cX9_melts 20 = .ok (.iload_n 2, 1) := dk_28 (dk_at dksX9_melts_0 20 rfl rfl)
theorem dX9_melts_21 : decode cX9_melts 21 = .ok (.isub, 1) := dk_100 (dk_at dksX9_melts_0 21 rfl rfl)
theorem dX9_melts_22 : decode cX9_melts 22 = .ok (.invokevirtual 104, 3) := dk_182 0 104 (dk_at dksX9_melts_1 0 rfl rfl)
theorem dX9_melts_25 : decode cX9_melts 25 = .ok (.aload_n 0, 1) := dk_42 (dk_at dksX9_melts_1 3 rfl rfl)
theorem dX9_melts_26 : decode cX9_melts 26 = .ok (.iload_n 1, 1) := dk_27 (dk_at dksX9_melts_1 4 rfl rfl)
theorem dX9_melts_27 : decode cX9_melts 27 = .ok (.iconst 2, 1) := dk_5 (dk_at dksX9_melts_1 5 rfl rfl)
theorem dX9_melts_28 : decode cX9_melts 28 = .ok (.aload_n 0, 1) := dk_42 (dk_at dksX9_melts_1 6 rfl rfl)
theorem dX9_melts_29 : decode cX9_melts 29 = .ok (.iload_n 1, 1) := dk_27 (dk_at dksX9_melts_1 7 rfl rfl)
theorem dX9_melts_30 : decode cX9_melts 30 = .ok (.iconst 2, 1) := dk_5 (dk_at dksX9_melts_1 8 rfl rfl)
theorem dX9_melts_31 : decode cX9_melts 31 = .ok (.invokevirtual 66, 3) := dk_182 0 66 (dk_at dksX9_melts_1 9 rfl rfl)
theorem dX9_melts_34 : decode cX9_melts 34 = .ok (.iconst 1, 1) := dk_4 (dk_at dksX9_melts_1 12 rfl rfl)
theorem dX9_melts_35 : decode cX9_melts 35 = .ok (.isub, 1) := dk_100 (dk_at dksX9_melts_1 13 rfl rfl)
theorem dX9_melts_36 : decode cX9_melts 36 = .ok (.invokevirtual 104, 3) := dk_182 0 104 (dk_at dksX9_melts_1 14 rfl rfl)
theorem dX9_melts_39 : decode cX9_melts 39 = .ok (.aload_n 0, 1) := dk_42 (dk_at dksX9_melts_1 17 rfl rfl)
theorem dX9_melts_40 : decode cX9_melts 40 = .ok (.getfield 7, 3) := dk_180 0 7 (dk_at dksX9_melts_1 18 rfl rfl)
theorem dX9_melts_43 : decode cX9_melts 43 = .ok (.bipush 12, 2) := dk_16 12 (dk_at dksX9_melts_1 21 rfl rfl)
theorem dX9_melts_45 : decode cX9_melts 45 = .ok (.dup2, 1) := dk_92 (dk_at dksX9_melts_1 23 rfl rfl)
theorem dX9_melts_46 : decode cX9_melts 46 = .ok (.iaload, 1) := dk_46 (dk_at dksX9_melts_2 0 rfl rfl)
theorem dX9_melts_47 : decode cX9_melts 47 = .ok (.iload_n 2, 1) := dk_28 (dk_at dksX9_melts_2 1 rfl rfl)
theorem dX9_melts_48 : decode cX9_melts 48 = .ok (.iadd, 1) := dk_96 (dk_at dksX9_melts_2 2 rfl rfl)
theorem dX9_melts_49 : decode cX9_melts 49 = .ok (.iastore, 1) := dk_79 (dk_at dksX9_melts_2 3 rfl rfl)
theorem dX9_melts_50 : decode cX9_melts 50 = .ok (.return_, 1) := dk_177 (dk_at dksX9_melts_2 4 rfl rfl)
abbrev cX9_snows : ByteArray := prog_17_method_29_code
def yX9_snows : MethodName := ⟨RX9, "snows", "(I)V"⟩
def dkwX9_snows_3 : List UInt8 := [96, 79, 177]
abbrev dktX9_snows_3 : List UInt8 := dkwX9_snows_3 ++ []
def dkwX9_snows_2 : List UInt8 := [61, 42, 27, 3, 42, 27, 3, 182, 0, 66, 28, 96, 182, 0, 104, 42, 180, 0, 7, 16, 10, 92, 46, 28]
abbrev dktX9_snows_2 : List UInt8 := dkwX9_snows_2 ++ dktX9_snows_3
def dkwX9_snows_1 : List UInt8 := [182, 0, 66, 104, 167, 0, 4, 3, 96, 61, 28, 17, 3, 231, 42, 27, 3, 182, 0, 66, 100, 184, 0, 99]
abbrev dktX9_snows_1 : List UInt8 := dkwX9_snows_1 ++ dktX9_snows_2
def dkwX9_snows_0 : List UInt8 := [42, 180, 0, 7, 8, 46, 42, 182, 0, 110, 153, 0, 20, 42, 180, 0, 7, 16, 6, 46, 42, 27, 4]
abbrev dktX9_snows_0 : List UInt8 := dkwX9_snows_0 ++ dktX9_snows_1
theorem dksX9_snows_0 : cX9_snows.data.toList.drop 0 = dktX9_snows_0 := by decide +kernel
theorem dksX9_snows_1 : cX9_snows.data.toList.drop 23 = dktX9_snows_1 := dk_seg dksX9_snows_0 23 rfl rfl
theorem dksX9_snows_2 : cX9_snows.data.toList.drop 47 = dktX9_snows_2 := dk_seg dksX9_snows_1 24 rfl rfl
theorem dksX9_snows_3 : cX9_snows.data.toList.drop 71 = dktX9_snows_3 := dk_seg dksX9_snows_2 24 rfl rfl
theorem dX9_snows_0 : decode cX9_snows 0 = .ok (.aload_n 0, 1) := dk_42 (dk_at dksX9_snows_0 0 rfl rfl)
theorem dX9_snows_1 : decode cX9_snows 1 = .ok (.getfield 7, 3) := dk_180 0 7 (dk_at dksX9_snows_0 1 rfl rfl)
theorem dX9_snows_4 : decode cX9_snows 4 = .ok (.iconst 5, 1) := dk_8 (dk_at dksX9_snows_0 4 rfl rfl)
theorem dX9_snows_5 : decode cX9_snows 5 = .ok (.iaload, 1) := dk_46 (dk_at dksX9_snows_0 5 rfl rfl)
theorem dX9_snows_6 : decode cX9_snows 6 = .ok (.aload_n 0, 1) := dk_42 (dk_at dksX9_snows_0 6 rfl rfl)
theorem dX9_snows_7 : decode cX9_snows 7 = .ok (.invokevirtual 110, 3) := dk_182 0 110 (dk_at dksX9_snows_0 7 rfl rfl)
theorem dX9_snows_10 : decode cX9_snows 10 = .ok (.ifCond .eq 20, 3) := dk_153 0 20 (dk_at dksX9_snows_0 10 rfl rfl)
theorem dX9_snows_13 : decode cX9_snows 13 = .ok (.aload_n 0, 1) := dk_42 (dk_at dksX9_snows_0 13 rfl rfl)
theorem dX9_snows_14 : decode cX9_snows 14 = .ok (.getfield 7, 3) := dk_180 0 7 (dk_at dksX9_snows_0 14 rfl rfl)
theorem dX9_snows_17 : decode cX9_snows 17 = .ok (.bipush 6, 2) := dk_16 6 (dk_at dksX9_snows_0 17 rfl rfl)
theorem dX9_snows_19 : decode cX9_snows 19 = .ok (.iaload, 1) := dk_46 (dk_at dksX9_snows_0 19 rfl rfl)
theorem dX9_snows_20 : decode cX9_snows 20 = .ok (.aload_n 0, 1) := dk_42 (dk_at dksX9_snows_0 20 rfl rfl)
theorem dX9_snows_21 : decode cX9_snows 21 = .ok (.iload_n 1, 1) := dk_27 (dk_at dksX9_snows_0 21 rfl rfl)
theorem dX9_snows_22 : decode cX9_snows 22 = .ok (.iconst 1, 1) := dk_4 (dk_at dksX9_snows_0 22 rfl rfl)
theorem dX9_snows_23 : decode cX9_snows 23 = .ok (.invokevirtual 66, 3) := dk_182 0 66 (dk_at dksX9_snows_1 0 rfl rfl)
theorem dX9_snows_26 : decode cX9_snows 26 = .ok (.imul, 1) := dk_104 (dk_at dksX9_snows_1 3 rfl rfl)
theorem dX9_snows_27 : decode cX9_snows 27 = .ok (.goto 4, 3) := dk_167 0 4 (dk_at dksX9_snows_1 4 rfl rfl)
theorem dX9_snows_30 : decode cX9_snows 30 = .ok (.iconst 0, 1) := dk_3 (dk_at dksX9_snows_1 7 rfl rfl)
theorem dX9_snows_31 : decode cX9_snows 31 = .ok (.iadd, 1) := dk_96 (dk_at dksX9_snows_1 8 rfl rfl)
theorem dX9_snows_32 : decode cX9_snows 32 = .ok (.istore_n 2, 1) := dk_61 (dk_at dksX9_snows_1 9 rfl rfl)
theorem dX9_snows_33 : decode cX9_snows 33 = .ok (.iload_n 2, 1) := dk_28 (dk_at dksX9_snows_1 10 rfl rfl)
theorem dX9_snows_34 : decode cX9_snows 34 = .ok (.sipush 999, 3) := dk_17 3 231 (dk_at dksX9_snows_1 11 rfl rfl)
theorem dX9_snows_37 : decode cX9_snows 37 = .ok (.aload_n 0, 1) := dk_42 (dk_at dksX9_snows_1 14 rfl rfl)
theorem dX9_snows_38 : decode cX9_snows 38 = .ok (.iload_n 1, 1) := dk_27 (dk_at dksX9_snows_1 15 rfl rfl)
theorem dX9_snows_39 : decode cX9_snows 39 = .ok (.iconst 0, 1) := dk_3 (dk_at dksX9_snows_1 16 rfl rfl)
theorem dX9_snows_40 : decode cX9_snows 40 = .ok (.invokevirtual 66, 3) := dk_182 0 66 (dk_at dksX9_snows_1 17 rfl rfl)
theorem dX9_snows_43 : decode cX9_snows 43 = .ok (.isub, 1) := dk_100 (dk_at dksX9_snows_1 20 rfl rfl)
theorem dX9_snows_44 : decode cX9_snows 44 = .ok (.invokestatic 99, 3) := dk_184 0 99 (dk_at dksX9_snows_1 21 rfl rfl)
theorem dX9_snows_47 : decode cX9_snows 47 = .ok (.istore_n 2, 1) := dk_61 (dk_at dksX9_snows_2 0 rfl rfl)
theorem dX9_snows_48 : decode cX9_snows 48 = .ok (.aload_n 0, 1) := dk_42 (dk_at dksX9_snows_2 1 rfl rfl)
theorem dX9_snows_49 : decode cX9_snows 49 = .ok (.iload_n 1, 1) := dk_27 (dk_at dksX9_snows_2 2 rfl rfl)
theorem dX9_snows_50 : decode cX9_snows 50 = .ok (.iconst 0, 1) := dk_3 (dk_at dksX9_snows_2 3 rfl rfl)
theorem dX9_snows_51 : decode cX9_snows 51 = .ok (.aload_n 0, 1) := dk_42 (dk_at dksX9_snows_2 4 rfl rfl)
theorem dX9_snows_52 : decode cX9_snows 52 = .ok (.iload_n 1, 1) := dk_27 (dk_at dksX9_snows_2 5 rfl rfl)
theorem dX9_snows_53 : decode cX9_snows 53 = .ok (.iconst 0, 1) := dk_3 (dk_at dksX9_snows_2 6 rfl rfl)
theorem dX9_snows_54 : decode cX9_snows 54 = .ok (.invokevirtual 66, 3) := dk_182 0 66 (dk_at dksX9_snows_2 7 rfl rfl)
theorem dX9_snows_57 : decode cX9_snows 57 = .ok (.iload_n 2, 1) := dk_28 (dk_at dksX9_snows_2 10 rfl rfl)
theorem dX9_snows_58 : decode cX9_snows 58 = .ok (.iadd, 1) := dk_96 (dk_at dksX9_snows_2 11 rfl rfl)
theorem dX9_snows_59 : decode cX9_snows 59 = .ok (.invokevirtual 104, 3) := dk_182 0 104 (dk_at dksX9_snows_2 12 rfl rfl)
theorem dX9_snows_62 : decode cX9_snows 62 = .ok (.aload_n 0, 1) := dk_42 (dk_at dksX9_snows_2 15 rfl rfl)
theorem dX9_snows_63 : decode cX9_snows 63 = .ok (.getfield 7, 3) := dk_180 0 7 (dk_at dksX9_snows_2 16 rfl rfl)
theorem dX9_snows_66 : decode cX9_snows 66 = .ok (.bipush 10, 2) := dk_16 10 (dk_at dksX9_snows_2 19 rfl rfl)
theorem dX9_snows_68 : decode cX9_snows 68 = .ok (.dup2, 1) := dk_92 (dk_at dksX9_snows_2 21 rfl rfl)
theorem dX9_snows_69 : decode cX9_snows 69 = .ok (.iaload, 1) := dk_46 (dk_at dksX9_snows_2 22 rfl rfl)
theorem dX9_snows_70 : decode cX9_snows 70 = .ok (.iload_n 2, 1) := dk_28 (dk_at dksX9_snows_2 23 rfl rfl)
theorem dX9_snows_71 : decode cX9_snows 71 = .ok (.iadd, 1) := dk_96 (dk_at dksX9_snows_3 0 rfl rfl)
theorem dX9_snows_72 : decode cX9_snows 72 = .ok (.iastore, 1) := dk_79 (dk_at dksX9_snows_3 1 rfl rfl)
theorem dX9_snows_73 : decode cX9_snows 73 = .ok (.return_, 1) := dk_177 (dk_at dksX9_snows_3 2 rfl rfl)
abbrev cX9_isNightNow : ByteArray := prog_17_method_18_code
def yX9_isNightNow : MethodName := ⟨RX9, "isNightNow", "()Z"⟩
def dkwX9_isNightNow_1 : List UInt8 := [167, 0, 4, 3, 172]
abbrev dktX9_isNightNow_1 : List UInt8 := dkwX9_isNightNow_1 ++ []
def dkwX9_isNightNow_0 : List UInt8 := [42, 180, 0, 7, 16, 7, 46, 16, 24, 112, 60, 27, 16, 18, 162, 0, 8, 27, 8, 163, 0, 7, 4]
abbrev dktX9_isNightNow_0 : List UInt8 := dkwX9_isNightNow_0 ++ dktX9_isNightNow_1
theorem dksX9_isNightNow_0 : cX9_isNightNow.data.toList.drop 0 = dktX9_isNightNow_0 := by decide +kernel
theorem dksX9_isNightNow_1 : cX9_isNightNow.data.toList.drop 23 = dktX9_isNightNow_1 := dk_seg dksX9_isNightNow_0 23 rfl rfl
theorem dX9_isNightNow_0 : decode cX9_isNightNow 0 = .ok (.aload_n 0, 1) := dk_42 (dk_at dksX9_isNightNow_0 0 rfl rfl)
theorem dX9_isNightNow_1 : decode cX9_isNightNow 1 = .ok (.getfield 7, 3) := dk_180 0 7 (dk_at dksX9_isNightNow_0 1 rfl rfl)
theorem dX9_isNightNow_4 : decode cX9_isNightNow 4 = .ok (.bipush 7, 2) := dk_16 7 (dk_at dksX9_isNightNow_0 4 rfl rfl)
theorem dX9_isNightNow_6 : decode cX9_isNightNow 6 = .ok (.iaload, 1) := dk_46 (dk_at dksX9_isNightNow_0 6 rfl rfl)
theorem dX9_isNightNow_7 : decode cX9_isNightNow 7 = .ok (.bipush 24, 2) := dk_16 24 (dk_at dksX9_isNightNow_0 7 rfl rfl)
theorem dX9_isNightNow_9 : decode cX9_isNightNow 9 = .ok (.irem, 1) := dk_112 (dk_at dksX9_isNightNow_0 9 rfl rfl)
theorem dX9_isNightNow_10 : decode cX9_isNightNow 10 = .ok (.istore_n 1, 1) := dk_60 (dk_at dksX9_isNightNow_0 10 rfl rfl)
theorem dX9_isNightNow_11 : decode cX9_isNightNow 11 = .ok (.iload_n 1, 1) := dk_27 (dk_at dksX9_isNightNow_0 11 rfl rfl)
theorem dX9_isNightNow_12 : decode cX9_isNightNow 12 = .ok (.bipush 18, 2) := dk_16 18 (dk_at dksX9_isNightNow_0 12 rfl rfl)
theorem dX9_isNightNow_14 : decode cX9_isNightNow 14 = .ok (.if_icmp .ge 8, 3) := dk_162 0 8 (dk_at dksX9_isNightNow_0 14 rfl rfl)
theorem dX9_isNightNow_17 : decode cX9_isNightNow 17 = .ok (.iload_n 1, 1) := dk_27 (dk_at dksX9_isNightNow_0 17 rfl rfl)
theorem dX9_isNightNow_18 : decode cX9_isNightNow 18 = .ok (.iconst 5, 1) := dk_8 (dk_at dksX9_isNightNow_0 18 rfl rfl)
theorem dX9_isNightNow_19 : decode cX9_isNightNow 19 = .ok (.if_icmp .gt 7, 3) := dk_163 0 7 (dk_at dksX9_isNightNow_0 19 rfl rfl)
theorem dX9_isNightNow_22 : decode cX9_isNightNow 22 = .ok (.iconst 1, 1) := dk_4 (dk_at dksX9_isNightNow_0 22 rfl rfl)
theorem dX9_isNightNow_23 : decode cX9_isNightNow 23 = .ok (.goto 4, 3) := dk_167 0 4 (dk_at dksX9_isNightNow_1 0 rfl rfl)
theorem dX9_isNightNow_26 : decode cX9_isNightNow 26 = .ok (.iconst 0, 1) := dk_3 (dk_at dksX9_isNightNow_1 3 rfl rfl)
theorem dX9_isNightNow_27 : decode cX9_isNightNow 27 = .ok (.ireturn, 1) := dk_172 (dk_at dksX9_isNightNow_1 4 rfl rfl)
abbrev cX9_isOpenNow : ByteArray := prog_17_method_19_code
def yX9_isOpenNow : MethodName := ⟨RX9, "isOpenNow", "()Z"⟩
def dkwX9_isOpenNow_1 : List UInt8 := [3, 172]
abbrev dktX9_isOpenNow_1 : List UInt8 := dkwX9_isOpenNow_1 ++ []
def dkwX9_isOpenNow_0 : List UInt8 := [42, 3, 6, 182, 0, 70, 4, 160, 0, 17, 42, 4, 6, 182, 0, 70, 4, 160, 0, 7, 4, 167, 0, 4]
abbrev dktX9_isOpenNow_0 : List UInt8 := dkwX9_isOpenNow_0 ++ dktX9_isOpenNow_1
theorem dksX9_isOpenNow_0 : cX9_isOpenNow.data.toList.drop 0 = dktX9_isOpenNow_0 := by decide +kernel
theorem dksX9_isOpenNow_1 : cX9_isOpenNow.data.toList.drop 24 = dktX9_isOpenNow_1 := dk_seg dksX9_isOpenNow_0 24 rfl rfl
theorem dX9_isOpenNow_0 : decode cX9_isOpenNow 0 = .ok (.aload_n 0, 1) := dk_42 (dk_at dksX9_isOpenNow_0 0 rfl rfl)
theorem dX9_isOpenNow_1 : decode cX9_isOpenNow 1 = .ok (.iconst 0, 1) := dk_3 (dk_at dksX9_isOpenNow_0 1 rfl rfl)
theorem dX9_isOpenNow_2 : decode cX9_isOpenNow 2 = .ok (.iconst 3, 1) := dk_6 (dk_at dksX9_isOpenNow_0 2 rfl rfl)
theorem dX9_isOpenNow_3 : decode cX9_isOpenNow 3 = .ok (.invokevirtual 70, 3) := dk_182 0 70 (dk_at dksX9_isOpenNow_0 3 rfl rfl)
theorem dX9_isOpenNow_6 : decode cX9_isOpenNow 6 = .ok (.iconst 1, 1) := dk_4 (dk_at dksX9_isOpenNow_0 6 rfl rfl)
theorem dX9_isOpenNow_7 : decode cX9_isOpenNow 7 = .ok (.if_icmp .ne 17, 3) := dk_160 0 17 (dk_at dksX9_isOpenNow_0 7 rfl rfl)
theorem dX9_isOpenNow_10 : decode cX9_isOpenNow 10 = .ok (.aload_n 0, 1) := dk_42 (dk_at dksX9_isOpenNow_0 10 rfl rfl)
theorem dX9_isOpenNow_11 : decode cX9_isOpenNow 11 = .ok (.iconst 1, 1) := dk_4 (dk_at dksX9_isOpenNow_0 11 rfl rfl)
theorem dX9_isOpenNow_12 : decode cX9_isOpenNow 12 = .ok (.iconst 3, 1) := dk_6 (dk_at dksX9_isOpenNow_0 12 rfl rfl)
theorem dX9_isOpenNow_13 : decode cX9_isOpenNow 13 = .ok (.invokevirtual 70, 3) := dk_182 0 70 (dk_at dksX9_isOpenNow_0 13 rfl rfl)
theorem dX9_isOpenNow_16 : decode cX9_isOpenNow 16 = .ok (.iconst 1, 1) := dk_4 (dk_at dksX9_isOpenNow_0 16 rfl rfl)
theorem dX9_isOpenNow_17 : decode cX9_isOpenNow 17 = .ok (.if_icmp .ne 7, 3) := dk_160 0 7 (dk_at dksX9_isOpenNow_0 17 rfl rfl)
theorem dX9_isOpenNow_20 : decode cX9_isOpenNow 20 = .ok (.iconst 1, 1) := dk_4 (dk_at dksX9_isOpenNow_0 20 rfl rfl)
theorem dX9_isOpenNow_21 : decode cX9_isOpenNow 21 = .ok (.goto 4, 3) := dk_167 0 4 (dk_at dksX9_isOpenNow_0 21 rfl rfl)
theorem dX9_isOpenNow_24 : decode cX9_isOpenNow 24 = .ok (.iconst 0, 1) := dk_3 (dk_at dksX9_isOpenNow_1 0 rfl rfl)
theorem dX9_isOpenNow_25 : decode cX9_isOpenNow 25 = .ok (.ireturn, 1) := dk_172 (dk_at dksX9_isOpenNow_1 1 rfl rfl)
abbrev cX9_ofPlough : ByteArray := prog_17_method_12_code
def yX9_ofPlough : MethodName := ⟨RX9, "ofPlough", "(II)I"⟩
def dkwX9_ofPlough_0 : List UInt8 := [42, 180, 0, 7, 16, 17, 7, 27, 104, 96, 28, 96, 46, 172]
abbrev dktX9_ofPlough_0 : List UInt8 := dkwX9_ofPlough_0 ++ []
theorem dksX9_ofPlough_0 : cX9_ofPlough.data.toList.drop 0 = dktX9_ofPlough_0 := by decide +kernel
theorem dX9_ofPlough_0 : decode cX9_ofPlough 0 = .ok (.aload_n 0, 1) := dk_42 (dk_at dksX9_ofPlough_0 0 rfl rfl)
theorem dX9_ofPlough_1 : decode cX9_ofPlough 1 = .ok (.getfield 7, 3) := dk_180 0 7 (dk_at dksX9_ofPlough_0 1 rfl rfl)
theorem dX9_ofPlough_4 : decode cX9_ofPlough 4 = .ok (.bipush 17, 2) := dk_16 17 (dk_at dksX9_ofPlough_0 4 rfl rfl)
theorem dX9_ofPlough_6 : decode cX9_ofPlough 6 = .ok (.iconst 4, 1) := dk_7 (dk_at dksX9_ofPlough_0 6 rfl rfl)
theorem dX9_ofPlough_7 : decode cX9_ofPlough 7 = .ok (.iload_n 1, 1) := dk_27 (dk_at dksX9_ofPlough_0 7 rfl rfl)
theorem dX9_ofPlough_8 : decode cX9_ofPlough 8 = .ok (.imul, 1) := dk_104 (dk_at dksX9_ofPlough_0 8 rfl rfl)
theorem dX9_ofPlough_9 : decode cX9_ofPlough 9 = .ok (.iadd, 1) := dk_96 (dk_at dksX9_ofPlough_0 9 rfl rfl)
theorem dX9_ofPlough_10 : decode cX9_ofPlough 10 = .ok (.iload_n 2, 1) := dk_28 (dk_at dksX9_ofPlough_0 10 rfl rfl)
theorem dX9_ofPlough_11 : decode cX9_ofPlough 11 = .ok (.iadd, 1) := dk_96 (dk_at dksX9_ofPlough_0 11 rfl rfl)
theorem dX9_ofPlough_12 : decode cX9_ofPlough 12 = .ok (.iaload, 1) := dk_46 (dk_at dksX9_ofPlough_0 12 rfl rfl)
theorem dX9_ofPlough_13 : decode cX9_ofPlough 13 = .ok (.ireturn, 1) := dk_172 (dk_at dksX9_ofPlough_0 13 rfl rfl)
abbrev cX9_depthNow : ByteArray := prog_17_method_21_code
def yX9_depthNow : MethodName := ⟨RX9, "depthNow", "()I"⟩
def dkwX9_depthNow_0 : List UInt8 := [42, 42, 182, 0, 73, 3, 182, 0, 66, 172]
abbrev dktX9_depthNow_0 : List UInt8 := dkwX9_depthNow_0 ++ []
theorem dksX9_depthNow_0 : cX9_depthNow.data.toList.drop 0 = dktX9_depthNow_0 := by decide +kernel
theorem dX9_depthNow_0 : decode cX9_depthNow 0 = .ok (.aload_n 0, 1) := dk_42 (dk_at dksX9_depthNow_0 0 rfl rfl)
theorem dX9_depthNow_1 : decode cX9_depthNow 1 = .ok (.aload_n 0, 1) := dk_42 (dk_at dksX9_depthNow_0 1 rfl rfl)
theorem dX9_depthNow_2 : decode cX9_depthNow 2 = .ok (.invokevirtual 73, 3) := dk_182 0 73 (dk_at dksX9_depthNow_0 2 rfl rfl)
theorem dX9_depthNow_5 : decode cX9_depthNow 5 = .ok (.iconst 0, 1) := dk_3 (dk_at dksX9_depthNow_0 5 rfl rfl)
theorem dX9_depthNow_6 : decode cX9_depthNow 6 = .ok (.invokevirtual 66, 3) := dk_182 0 66 (dk_at dksX9_depthNow_0 6 rfl rfl)
theorem dX9_depthNow_9 : decode cX9_depthNow 9 = .ok (.ireturn, 1) := dk_172 (dk_at dksX9_depthNow_0 9 rfl rfl)
abbrev cX9_deepest : ByteArray := prog_17_method_20_code
def yX9_deepest : MethodName := ⟨RX9, "deepest", "()I"⟩
def dkwX9_deepest_1 : List UInt8 := [182, 0, 66, 164, 0, 7, 28, 167, 0, 4, 27, 60, 132, 2, 1, 167, 255, 222, 27, 172]
abbrev dktX9_deepest_1 : List UInt8 := dkwX9_deepest_1 ++ []
def dkwX9_deepest_0 : List UInt8 := [3, 60, 4, 61, 28, 42, 180, 0, 7, 3, 46, 162, 0, 30, 42, 28, 3, 182, 0, 66, 42, 27, 3]
abbrev dktX9_deepest_0 : List UInt8 := dkwX9_deepest_0 ++ dktX9_deepest_1
theorem dksX9_deepest_0 : cX9_deepest.data.toList.drop 0 = dktX9_deepest_0 := by decide +kernel
theorem dksX9_deepest_1 : cX9_deepest.data.toList.drop 23 = dktX9_deepest_1 := dk_seg dksX9_deepest_0 23 rfl rfl
theorem dX9_deepest_0 : decode cX9_deepest 0 = .ok (.iconst 0, 1) := dk_3 (dk_at dksX9_deepest_0 0 rfl rfl)
theorem dX9_deepest_1 : decode cX9_deepest 1 = .ok (.istore_n 1, 1) := dk_60 (dk_at dksX9_deepest_0 1 rfl rfl)
theorem dX9_deepest_2 : decode cX9_deepest 2 = .ok (.iconst 1, 1) := dk_4 (dk_at dksX9_deepest_0 2 rfl rfl)
theorem dX9_deepest_3 : decode cX9_deepest 3 = .ok (.istore_n 2, 1) := dk_61 (dk_at dksX9_deepest_0 3 rfl rfl)
theorem dX9_deepest_4 : decode cX9_deepest 4 = .ok (.iload_n 2, 1) := dk_28 (dk_at dksX9_deepest_0 4 rfl rfl)
theorem dX9_deepest_5 : decode cX9_deepest 5 = .ok (.aload_n 0, 1) := dk_42 (dk_at dksX9_deepest_0 5 rfl rfl)
theorem dX9_deepest_6 : decode cX9_deepest 6 = .ok (.getfield 7, 3) := dk_180 0 7 (dk_at dksX9_deepest_0 6 rfl rfl)
theorem dX9_deepest_9 : decode cX9_deepest 9 = .ok (.iconst 0, 1) := dk_3 (dk_at dksX9_deepest_0 9 rfl rfl)
theorem dX9_deepest_10 : decode cX9_deepest 10 = .ok (.iaload, 1) := dk_46 (dk_at dksX9_deepest_0 10 rfl rfl)
theorem dX9_deepest_11 : decode cX9_deepest 11 = .ok (.if_icmp .ge 30, 3) := dk_162 0 30 (dk_at dksX9_deepest_0 11 rfl rfl)
theorem dX9_deepest_14 : decode cX9_deepest 14 = .ok (.aload_n 0, 1) := dk_42 (dk_at dksX9_deepest_0 14 rfl rfl)
theorem dX9_deepest_15 : decode cX9_deepest 15 = .ok (.iload_n 2, 1) := dk_28 (dk_at dksX9_deepest_0 15 rfl rfl)
theorem dX9_deepest_16 : decode cX9_deepest 16 = .ok (.iconst 0, 1) := dk_3 (dk_at dksX9_deepest_0 16 rfl rfl)
theorem dX9_deepest_17 : decode cX9_deepest 17 = .ok (.invokevirtual 66, 3) := dk_182 0 66 (dk_at dksX9_deepest_0 17 rfl rfl)
theorem dX9_deepest_20 : decode cX9_deepest 20 = .ok (.aload_n 0, 1) := dk_42 (dk_at dksX9_deepest_0 20 rfl rfl)
theorem dX9_deepest_21 : decode cX9_deepest 21 = .ok (.iload_n 1, 1) := dk_27 (dk_at dksX9_deepest_0 21 rfl rfl)
theorem dX9_deepest_22 : decode cX9_deepest 22 = .ok (.iconst 0, 1) := dk_3 (dk_at dksX9_deepest_0 22 rfl rfl)
theorem dX9_deepest_23 : decode cX9_deepest 23 = .ok (.invokevirtual 66, 3) := dk_182 0 66 (dk_at dksX9_deepest_1 0 rfl rfl)
theorem dX9_deepest_26 : decode cX9_deepest 26 = .ok (.if_icmp .le 7, 3) := dk_164 0 7 (dk_at dksX9_deepest_1 3 rfl rfl)
theorem dX9_deepest_29 : decode cX9_deepest 29 = .ok (.iload_n 2, 1) := dk_28 (dk_at dksX9_deepest_1 6 rfl rfl)
theorem dX9_deepest_30 : decode cX9_deepest 30 = .ok (.goto 4, 3) := dk_167 0 4 (dk_at dksX9_deepest_1 7 rfl rfl)
theorem dX9_deepest_33 : decode cX9_deepest 33 = .ok (.iload_n 1, 1) := dk_27 (dk_at dksX9_deepest_1 10 rfl rfl)
theorem dX9_deepest_34 : decode cX9_deepest 34 = .ok (.istore_n 1, 1) := dk_60 (dk_at dksX9_deepest_1 11 rfl rfl)
theorem dX9_deepest_35 : decode cX9_deepest 35 = .ok (.iinc 2 1, 3) := dk_132 2 1 (dk_at dksX9_deepest_1 12 rfl rfl)
theorem dX9_deepest_38 : decode cX9_deepest 38 = .ok (.goto (-34), 3) := dk_167 255 222 (dk_at dksX9_deepest_1 15 rfl rfl)
theorem dX9_deepest_41 : decode cX9_deepest 41 = .ok (.iload_n 1, 1) := dk_27 (dk_at dksX9_deepest_1 18 rfl rfl)
theorem dX9_deepest_42 : decode cX9_deepest 42 = .ok (.ireturn, 1) := dk_172 (dk_at dksX9_deepest_1 19 rfl rfl)
abbrev cX9_closes : ByteArray := prog_17_method_31_code
def yX9_closes : MethodName := ⟨RX9, "closes", "()V"⟩
def dkwX9_closes_1 : List UInt8 := [42, 4, 182, 0, 113, 177]
abbrev dktX9_closes_1 : List UInt8 := dkwX9_closes_1 ++ []
def dkwX9_closes_0 : List UInt8 := [42, 3, 6, 3, 182, 0, 87, 42, 4, 6, 3, 182, 0, 87, 42, 6, 182, 0, 91, 42, 3, 182, 0, 113]
abbrev dktX9_closes_0 : List UInt8 := dkwX9_closes_0 ++ dktX9_closes_1
theorem dksX9_closes_0 : cX9_closes.data.toList.drop 0 = dktX9_closes_0 := by decide +kernel
theorem dksX9_closes_1 : cX9_closes.data.toList.drop 24 = dktX9_closes_1 := dk_seg dksX9_closes_0 24 rfl rfl
theorem dX9_closes_0 : decode cX9_closes 0 = .ok (.aload_n 0, 1) := dk_42 (dk_at dksX9_closes_0 0 rfl rfl)
theorem dX9_closes_1 : decode cX9_closes 1 = .ok (.iconst 0, 1) := dk_3 (dk_at dksX9_closes_0 1 rfl rfl)
theorem dX9_closes_2 : decode cX9_closes 2 = .ok (.iconst 3, 1) := dk_6 (dk_at dksX9_closes_0 2 rfl rfl)
theorem dX9_closes_3 : decode cX9_closes 3 = .ok (.iconst 0, 1) := dk_3 (dk_at dksX9_closes_0 3 rfl rfl)
theorem dX9_closes_4 : decode cX9_closes 4 = .ok (.invokevirtual 87, 3) := dk_182 0 87 (dk_at dksX9_closes_0 4 rfl rfl)
theorem dX9_closes_7 : decode cX9_closes 7 = .ok (.aload_n 0, 1) := dk_42 (dk_at dksX9_closes_0 7 rfl rfl)
theorem dX9_closes_8 : decode cX9_closes 8 = .ok (.iconst 1, 1) := dk_4 (dk_at dksX9_closes_0 8 rfl rfl)
theorem dX9_closes_9 : decode cX9_closes 9 = .ok (.iconst 3, 1) := dk_6 (dk_at dksX9_closes_0 9 rfl rfl)
theorem dX9_closes_10 : decode cX9_closes 10 = .ok (.iconst 0, 1) := dk_3 (dk_at dksX9_closes_0 10 rfl rfl)
theorem dX9_closes_11 : decode cX9_closes 11 = .ok (.invokevirtual 87, 3) := dk_182 0 87 (dk_at dksX9_closes_0 11 rfl rfl)
theorem dX9_closes_14 : decode cX9_closes 14 = .ok (.aload_n 0, 1) := dk_42 (dk_at dksX9_closes_0 14 rfl rfl)
theorem dX9_closes_15 : decode cX9_closes 15 = .ok (.iconst 3, 1) := dk_6 (dk_at dksX9_closes_0 15 rfl rfl)
theorem dX9_closes_16 : decode cX9_closes 16 = .ok (.invokevirtual 91, 3) := dk_182 0 91 (dk_at dksX9_closes_0 16 rfl rfl)
theorem dX9_closes_19 : decode cX9_closes 19 = .ok (.aload_n 0, 1) := dk_42 (dk_at dksX9_closes_0 19 rfl rfl)
theorem dX9_closes_20 : decode cX9_closes 20 = .ok (.iconst 0, 1) := dk_3 (dk_at dksX9_closes_0 20 rfl rfl)
theorem dX9_closes_21 : decode cX9_closes 21 = .ok (.invokevirtual 113, 3) := dk_182 0 113 (dk_at dksX9_closes_0 21 rfl rfl)
theorem dX9_closes_24 : decode cX9_closes 24 = .ok (.aload_n 0, 1) := dk_42 (dk_at dksX9_closes_1 0 rfl rfl)
theorem dX9_closes_25 : decode cX9_closes 25 = .ok (.iconst 1, 1) := dk_4 (dk_at dksX9_closes_1 1 rfl rfl)
theorem dX9_closes_26 : decode cX9_closes 26 = .ok (.invokevirtual 113, 3) := dk_182 0 113 (dk_at dksX9_closes_1 2 rfl rfl)
theorem dX9_closes_29 : decode cX9_closes 29 = .ok (.return_, 1) := dk_177 (dk_at dksX9_closes_1 5 rfl rfl)
abbrev cX9_enters : ByteArray := prog_17_method_25_code
def yX9_enters : MethodName := ⟨RX9, "enters", "(I)V"⟩
def dkwX9_enters_4 : List UInt8 := [16, 7, 46, 79, 42, 180, 0, 7, 16, 9, 92, 46, 4, 96, 79, 177]
abbrev dktX9_enters_4 : List UInt8 := dkwX9_enters_4 ++ []
def dkwX9_enters_3 : List UInt8 := [79, 42, 180, 0, 7, 16, 85, 5, 42, 180, 0, 7, 16, 9, 46, 104, 96, 4, 96, 42, 180, 0, 7]
abbrev dktX9_enters_3 : List UInt8 := dkwX9_enters_3 ++ dktX9_enters_4
def dkwX9_enters_2 : List UInt8 := [16, 9, 92, 46, 4, 100, 79, 42, 180, 0, 7, 16, 85, 5, 42, 180, 0, 7, 16, 9, 46, 104, 96, 27]
abbrev dktX9_enters_2 : List UInt8 := dkwX9_enters_2 ++ dktX9_enters_3
def dkwX9_enters_1 : List UInt8 := [180, 0, 7, 28, 42, 180, 0, 7, 28, 5, 96, 46, 79, 132, 2, 1, 167, 255, 233, 42, 180, 0, 7]
abbrev dktX9_enters_1 : List UInt8 := dkwX9_enters_1 ++ dktX9_enters_2
def dkwX9_enters_0 : List UInt8 := [42, 180, 0, 7, 16, 9, 46, 16, 20, 160, 0, 43, 16, 85, 61, 28, 16, 123, 162, 0, 23, 42]
abbrev dktX9_enters_0 : List UInt8 := dkwX9_enters_0 ++ dktX9_enters_1
theorem dksX9_enters_0 : cX9_enters.data.toList.drop 0 = dktX9_enters_0 := by decide +kernel
theorem dksX9_enters_1 : cX9_enters.data.toList.drop 22 = dktX9_enters_1 := dk_seg dksX9_enters_0 22 rfl rfl
theorem dksX9_enters_2 : cX9_enters.data.toList.drop 45 = dktX9_enters_2 := dk_seg dksX9_enters_1 23 rfl rfl
theorem dksX9_enters_3 : cX9_enters.data.toList.drop 69 = dktX9_enters_3 := dk_seg dksX9_enters_2 24 rfl rfl
theorem dksX9_enters_4 : cX9_enters.data.toList.drop 92 = dktX9_enters_4 := dk_seg dksX9_enters_3 23 rfl rfl
theorem dX9_enters_0 : decode cX9_enters 0 = .ok (.aload_n 0, 1) := dk_42 (dk_at dksX9_enters_0 0 rfl rfl)
theorem dX9_enters_1 : decode cX9_enters 1 = .ok (.getfield 7, 3) := dk_180 0 7 (dk_at dksX9_enters_0 1 rfl rfl)
theorem dX9_enters_4 : decode cX9_enters 4 = .ok (.bipush 9, 2) := dk_16 9 (dk_at dksX9_enters_0 4 rfl rfl)
theorem dX9_enters_6 : decode cX9_enters 6 = .ok (.iaload, 1) := dk_46 (dk_at dksX9_enters_0 6 rfl rfl)
theorem dX9_enters_7 : decode cX9_enters 7 = .ok (.bipush 20, 2) := dk_16 20 (dk_at dksX9_enters_0 7 rfl rfl)
theorem dX9_enters_9 : decode cX9_enters 9 = .ok (.if_icmp .ne 43, 3) := dk_160 0 43 (dk_at dksX9_enters_0 9 rfl rfl)
theorem dX9_enters_12 : decode cX9_enters 12 = .ok (.bipush 85, 2) := dk_16 85 (dk_at dksX9_enters_0 12 rfl rfl)
theorem dX9_enters_14 : decode cX9_enters 14 = .ok (.istore_n 2, 1) := dk_61 (dk_at dksX9_enters_0 14 rfl rfl)
theorem dX9_enters_15 : decode cX9_enters 15 = .ok (.iload_n 2, 1) := dk_28 (dk_at dksX9_enters_0 15 rfl rfl)
theorem dX9_enters_16 : decode cX9_enters 16 = .ok (.bipush 123, 2) := dk_16 123 (dk_at dksX9_enters_0 16 rfl rfl)
theorem dX9_enters_18 : decode cX9_enters 18 = .ok (.if_icmp .ge 23, 3) := dk_162 0 23 (dk_at dksX9_enters_0 18 rfl rfl)
theorem dX9_enters_21 : decode cX9_enters 21 = .ok (.aload_n 0, 1) := dk_42 (dk_at dksX9_enters_0 21 rfl rfl)
theorem dX9_enters_22 : decode cX9_enters 22 = .ok (.getfield 7, 3) := dk_180 0 7 (dk_at dksX9_enters_1 0 rfl rfl)
theorem dX9_enters_25 : decode cX9_enters 25 = .ok (.iload_n 2, 1) := dk_28 (dk_at dksX9_enters_1 3 rfl rfl)
theorem dX9_enters_26 : decode cX9_enters 26 = .ok (.aload_n 0, 1) := dk_42 (dk_at dksX9_enters_1 4 rfl rfl)
theorem dX9_enters_27 : decode cX9_enters 27 = .ok (.getfield 7, 3) := dk_180 0 7 (dk_at dksX9_enters_1 5 rfl rfl)
theorem dX9_enters_30 : decode cX9_enters 30 = .ok (.iload_n 2, 1) := dk_28 (dk_at dksX9_enters_1 8 rfl rfl)
theorem dX9_enters_31 : decode cX9_enters 31 = .ok (.iconst 2, 1) := dk_5 (dk_at dksX9_enters_1 9 rfl rfl)
theorem dX9_enters_32 : decode cX9_enters 32 = .ok (.iadd, 1) := dk_96 (dk_at dksX9_enters_1 10 rfl rfl)
theorem dX9_enters_33 : decode cX9_enters 33 = .ok (.iaload, 1) := dk_46 (dk_at dksX9_enters_1 11 rfl rfl)
theorem dX9_enters_34 : decode cX9_enters 34 = .ok (.iastore, 1) := dk_79 (dk_at dksX9_enters_1 12 rfl rfl)
theorem dX9_enters_35 : decode cX9_enters 35 = .ok (.iinc 2 1, 3) := dk_132 2 1 (dk_at dksX9_enters_1 13 rfl rfl)
theorem dX9_enters_38 : decode cX9_enters 38 = .ok (.goto (-23), 3) := dk_167 255 233 (dk_at dksX9_enters_1 16 rfl rfl)
theorem dX9_enters_41 : decode cX9_enters 41 = .ok (.aload_n 0, 1) := dk_42 (dk_at dksX9_enters_1 19 rfl rfl)
theorem dX9_enters_42 : decode cX9_enters 42 = .ok (.getfield 7, 3) := dk_180 0 7 (dk_at dksX9_enters_1 20 rfl rfl)
theorem dX9_enters_45 : decode cX9_enters 45 = .ok (.bipush 9, 2) := dk_16 9 (dk_at dksX9_enters_2 0 rfl rfl)
theorem dX9_enters_47 : decode cX9_enters 47 = .ok (.dup2, 1) := dk_92 (dk_at dksX9_enters_2 2 rfl rfl)
theorem dX9_enters_48 : decode cX9_enters 48 = .ok (.iaload, 1) := dk_46 (dk_at dksX9_enters_2 3 rfl rfl)
theorem dX9_enters_49 : decode cX9_enters 49 = .ok (.iconst 1, 1) := dk_4 (dk_at dksX9_enters_2 4 rfl rfl)
theorem dX9_enters_50 : decode cX9_enters 50 = .ok (.isub, 1) := dk_100 (dk_at dksX9_enters_2 5 rfl rfl)
theorem dX9_enters_51 : decode cX9_enters 51 = .ok (.iastore, 1) := dk_79 (dk_at dksX9_enters_2 6 rfl rfl)
theorem dX9_enters_52 : decode cX9_enters 52 = .ok (.aload_n 0, 1) := dk_42 (dk_at dksX9_enters_2 7 rfl rfl)
theorem dX9_enters_53 : decode cX9_enters 53 = .ok (.getfield 7, 3) := dk_180 0 7 (dk_at dksX9_enters_2 8 rfl rfl)
theorem dX9_enters_56 : decode cX9_enters 56 = .ok (.bipush 85, 2) := dk_16 85 (dk_at dksX9_enters_2 11 rfl rfl)
theorem dX9_enters_58 : decode cX9_enters 58 = .ok (.iconst 2, 1) := dk_5 (dk_at dksX9_enters_2 13 rfl rfl)
theorem dX9_enters_59 : decode cX9_enters 59 = .ok (.aload_n 0, 1) := dk_42 (dk_at dksX9_enters_2 14 rfl rfl)
theorem dX9_enters_60 : decode cX9_enters 60 = .ok (.getfield 7, 3) := dk_180 0 7 (dk_at dksX9_enters_2 15 rfl rfl)
theorem dX9_enters_63 : decode cX9_enters 63 = .ok (.bipush 9, 2) := dk_16 9 (dk_at dksX9_enters_2 18 rfl rfl)
theorem dX9_enters_65 : decode cX9_enters 65 = .ok (.iaload, 1) := dk_46 (dk_at dksX9_enters_2 20 rfl rfl)
theorem dX9_enters_66 : decode cX9_enters 66 = .ok (.imul, 1) := dk_104 (dk_at dksX9_enters_2 21 rfl rfl)
theorem dX9_enters_67 : decode cX9_enters 67 = .ok (.iadd, 1) := dk_96 (dk_at dksX9_enters_2 22 rfl rfl)
theorem dX9_enters_68 : decode cX9_enters 68 = .ok (.iload_n 1, 1) := dk_27 (dk_at dksX9_enters_2 23 rfl rfl)
theorem dX9_enters_69 : decode cX9_enters 69 = .ok (.iastore, 1) := dk_79 (dk_at dksX9_enters_3 0 rfl rfl)
theorem dX9_enters_70 : decode cX9_enters 70 = .ok (.aload_n 0, 1) := dk_42 (dk_at dksX9_enters_3 1 rfl rfl)
theorem dX9_enters_71 : decode cX9_enters 71 = .ok (.getfield 7, 3) := dk_180 0 7 (dk_at dksX9_enters_3 2 rfl rfl)
theorem dX9_enters_74 : decode cX9_enters 74 = .ok (.bipush 85, 2) := dk_16 85 (dk_at dksX9_enters_3 5 rfl rfl)
theorem dX9_enters_76 : decode cX9_enters 76 = .ok (.iconst 2, 1) := dk_5 (dk_at dksX9_enters_3 7 rfl rfl)
theorem dX9_enters_77 : decode cX9_enters 77 = .ok (.aload_n 0, 1) := dk_42 (dk_at dksX9_enters_3 8 rfl rfl)
theorem dX9_enters_78 : decode cX9_enters 78 = .ok (.getfield 7, 3) := dk_180 0 7 (dk_at dksX9_enters_3 9 rfl rfl)
theorem dX9_enters_81 : decode cX9_enters 81 = .ok (.bipush 9, 2) := dk_16 9 (dk_at dksX9_enters_3 12 rfl rfl)
theorem dX9_enters_83 : decode cX9_enters 83 = .ok (.iaload, 1) := dk_46 (dk_at dksX9_enters_3 14 rfl rfl)
theorem dX9_enters_84 : decode cX9_enters 84 = .ok (.imul, 1) := dk_104 (dk_at dksX9_enters_3 15 rfl rfl)
theorem dX9_enters_85 : decode cX9_enters 85 = .ok (.iadd, 1) := dk_96 (dk_at dksX9_enters_3 16 rfl rfl)
theorem dX9_enters_86 : decode cX9_enters 86 = .ok (.iconst 1, 1) := dk_4 (dk_at dksX9_enters_3 17 rfl rfl)
theorem dX9_enters_87 : decode cX9_enters 87 = .ok (.iadd, 1) := dk_96 (dk_at dksX9_enters_3 18 rfl rfl)
theorem dX9_enters_88 : decode cX9_enters 88 = .ok (.aload_n 0, 1) := dk_42 (dk_at dksX9_enters_3 19 rfl rfl)
theorem dX9_enters_89 : decode cX9_enters 89 = .ok (.getfield 7, 3) := dk_180 0 7 (dk_at dksX9_enters_3 20 rfl rfl)
theorem dX9_enters_92 : decode cX9_enters 92 = .ok (.bipush 7, 2) := dk_16 7 (dk_at dksX9_enters_4 0 rfl rfl)
theorem dX9_enters_94 : decode cX9_enters 94 = .ok (.iaload, 1) := dk_46 (dk_at dksX9_enters_4 2 rfl rfl)
theorem dX9_enters_95 : decode cX9_enters 95 = .ok (.iastore, 1) := dk_79 (dk_at dksX9_enters_4 3 rfl rfl)
theorem dX9_enters_96 : decode cX9_enters 96 = .ok (.aload_n 0, 1) := dk_42 (dk_at dksX9_enters_4 4 rfl rfl)
theorem dX9_enters_97 : decode cX9_enters 97 = .ok (.getfield 7, 3) := dk_180 0 7 (dk_at dksX9_enters_4 5 rfl rfl)
theorem dX9_enters_100 : decode cX9_enters 100 = .ok (.bipush 9, 2) := dk_16 9 (dk_at dksX9_enters_4 8 rfl rfl)
theorem dX9_enters_102 : decode cX9_enters 102 = .ok (.dup2, 1) := dk_92 (dk_at dksX9_enters_4 10 rfl rfl)
theorem dX9_enters_103 : decode cX9_enters 103 = .ok (.iaload, 1) := dk_46 (dk_at dksX9_enters_4 11 rfl rfl)
theorem dX9_enters_104 : decode cX9_enters 104 = .ok (.iconst 1, 1) := dk_4 (dk_at dksX9_enters_4 12 rfl rfl)
theorem dX9_enters_105 : decode cX9_enters 105 = .ok (.iadd, 1) := dk_96 (dk_at dksX9_enters_4 13 rfl rfl)
theorem dX9_enters_106 : decode cX9_enters 106 = .ok (.iastore, 1) := dk_79 (dk_at dksX9_enters_4 14 rfl rfl)
theorem dX9_enters_107 : decode cX9_enters 107 = .ok (.return_, 1) := dk_177 (dk_at dksX9_enters_4 15 rfl rfl)
abbrev cX9_sendsBack : ByteArray := prog_17_method_26_code
def yX9_sendsBack : MethodName := ⟨RX9, "sendsBack", "(I)V"⟩
def dkwX9_sendsBack_1 : List UInt8 := [28, 27, 184, 0, 84, 96, 61, 167, 255, 231, 42, 27, 3, 28, 182, 0, 87, 177]
abbrev dktX9_sendsBack_1 : List UInt8 := dkwX9_sendsBack_1 ++ []
def dkwX9_sendsBack_0 : List UInt8 := [42, 27, 182, 0, 76, 61, 28, 42, 180, 0, 7, 4, 46, 159, 0, 21, 42, 28, 182, 0, 80, 153, 0, 13]
abbrev dktX9_sendsBack_0 : List UInt8 := dkwX9_sendsBack_0 ++ dktX9_sendsBack_1
theorem dksX9_sendsBack_0 : cX9_sendsBack.data.toList.drop 0 = dktX9_sendsBack_0 := by decide +kernel
theorem dksX9_sendsBack_1 : cX9_sendsBack.data.toList.drop 24 = dktX9_sendsBack_1 := dk_seg dksX9_sendsBack_0 24 rfl rfl
theorem dX9_sendsBack_0 : decode cX9_sendsBack 0 = .ok (.aload_n 0, 1) := dk_42 (dk_at dksX9_sendsBack_0 0 rfl rfl)
theorem dX9_sendsBack_1 : decode cX9_sendsBack 1 = .ok (.iload_n 1, 1) := dk_27 (dk_at dksX9_sendsBack_0 1 rfl rfl)
theorem dX9_sendsBack_2 : decode cX9_sendsBack 2 = .ok (.invokevirtual 76, 3) := dk_182 0 76 (dk_at dksX9_sendsBack_0 2 rfl rfl)
theorem dX9_sendsBack_5 : decode cX9_sendsBack 5 = .ok (.istore_n 2, 1) := dk_61 (dk_at dksX9_sendsBack_0 5 rfl rfl)
theorem dX9_sendsBack_6 : decode cX9_sendsBack 6 = .ok (.iload_n 2, 1) := dk_28 (dk_at dksX9_sendsBack_0 6 rfl rfl)
theorem dX9_sendsBack_7 : decode cX9_sendsBack 7 = .ok (.aload_n 0, 1) := dk_42 (dk_at dksX9_sendsBack_0 7 rfl rfl)
theorem dX9_sendsBack_8 : decode cX9_sendsBack 8 = .ok (.getfield 7, 3) := dk_180 0 7 (dk_at dksX9_sendsBack_0 8 rfl rfl)
theorem dX9_sendsBack_11 : decode cX9_sendsBack 11 = .ok (.iconst 1, 1) := dk_4 (dk_at dksX9_sendsBack_0 11 rfl rfl)
theorem dX9_sendsBack_12 : decode cX9_sendsBack 12 = .ok (.iaload, 1) := dk_46 (dk_at dksX9_sendsBack_0 12 rfl rfl)
theorem dX9_sendsBack_13 : decode cX9_sendsBack 13 = .ok (.if_icmp .eq 21, 3) := dk_159 0 21 (dk_at dksX9_sendsBack_0 13 rfl rfl)
theorem dX9_sendsBack_16 : decode cX9_sendsBack 16 = .ok (.aload_n 0, 1) := dk_42 (dk_at dksX9_sendsBack_0 16 rfl rfl)
theorem dX9_sendsBack_17 : decode cX9_sendsBack 17 = .ok (.iload_n 2, 1) := dk_28 (dk_at dksX9_sendsBack_0 17 rfl rfl)
theorem dX9_sendsBack_18 : decode cX9_sendsBack 18 = .ok (.invokevirtual 80, 3) := dk_182 0 80 (dk_at dksX9_sendsBack_0 18 rfl rfl)
theorem dX9_sendsBack_21 : decode cX9_sendsBack 21 = .ok (.ifCond .eq 13, 3) := dk_153 0 13 (dk_at dksX9_sendsBack_0 21 rfl rfl)
theorem dX9_sendsBack_24 : decode cX9_sendsBack 24 = .ok (.iload_n 2, 1) := dk_28 (dk_at dksX9_sendsBack_1 0 rfl rfl)
theorem dX9_sendsBack_25 : decode cX9_sendsBack 25 = .ok (.iload_n 1, 1) := dk_27 (dk_at dksX9_sendsBack_1 1 rfl rfl)
theorem dX9_sendsBack_26 : decode cX9_sendsBack 26 = .ok (.invokestatic 84, 3) := dk_184 0 84 (dk_at dksX9_sendsBack_1 2 rfl rfl)
theorem dX9_sendsBack_29 : decode cX9_sendsBack 29 = .ok (.iadd, 1) := dk_96 (dk_at dksX9_sendsBack_1 5 rfl rfl)
theorem dX9_sendsBack_30 : decode cX9_sendsBack 30 = .ok (.istore_n 2, 1) := dk_61 (dk_at dksX9_sendsBack_1 6 rfl rfl)
theorem dX9_sendsBack_31 : decode cX9_sendsBack 31 = .ok (.goto (-25), 3) := dk_167 255 231 (dk_at dksX9_sendsBack_1 7 rfl rfl)
theorem dX9_sendsBack_34 : decode cX9_sendsBack 34 = .ok (.aload_n 0, 1) := dk_42 (dk_at dksX9_sendsBack_1 10 rfl rfl)
theorem dX9_sendsBack_35 : decode cX9_sendsBack 35 = .ok (.iload_n 1, 1) := dk_27 (dk_at dksX9_sendsBack_1 11 rfl rfl)
theorem dX9_sendsBack_36 : decode cX9_sendsBack 36 = .ok (.iconst 0, 1) := dk_3 (dk_at dksX9_sendsBack_1 12 rfl rfl)
theorem dX9_sendsBack_37 : decode cX9_sendsBack 37 = .ok (.iload_n 2, 1) := dk_28 (dk_at dksX9_sendsBack_1 13 rfl rfl)
theorem dX9_sendsBack_38 : decode cX9_sendsBack 38 = .ok (.invokevirtual 87, 3) := dk_182 0 87 (dk_at dksX9_sendsBack_1 14 rfl rfl)
theorem dX9_sendsBack_41 : decode cX9_sendsBack 41 = .ok (.return_, 1) := dk_177 (dk_at dksX9_sendsBack_1 17 rfl rfl)
abbrev cX9_isClearNow : ByteArray := prog_17_method_17_code
def yX9_isClearNow : MethodName := ⟨RX9, "isClearNow", "(I)Z"⟩
def dkwX9_isClearNow_0 : List UInt8 := [42, 27, 3, 182, 0, 66, 42, 180, 0, 7, 5, 46, 163, 0, 7, 4, 167, 0, 4, 3, 172]
abbrev dktX9_isClearNow_0 : List UInt8 := dkwX9_isClearNow_0 ++ []
theorem dksX9_isClearNow_0 : cX9_isClearNow.data.toList.drop 0 = dktX9_isClearNow_0 := by decide +kernel
theorem dX9_isClearNow_0 : decode cX9_isClearNow 0 = .ok (.aload_n 0, 1) := dk_42 (dk_at dksX9_isClearNow_0 0 rfl rfl)
theorem dX9_isClearNow_1 : decode cX9_isClearNow 1 = .ok (.iload_n 1, 1) := dk_27 (dk_at dksX9_isClearNow_0 1 rfl rfl)
theorem dX9_isClearNow_2 : decode cX9_isClearNow 2 = .ok (.iconst 0, 1) := dk_3 (dk_at dksX9_isClearNow_0 2 rfl rfl)
theorem dX9_isClearNow_3 : decode cX9_isClearNow 3 = .ok (.invokevirtual 66, 3) := dk_182 0 66 (dk_at dksX9_isClearNow_0 3 rfl rfl)
theorem dX9_isClearNow_6 : decode cX9_isClearNow 6 = .ok (.aload_n 0, 1) := dk_42 (dk_at dksX9_isClearNow_0 6 rfl rfl)
theorem dX9_isClearNow_7 : decode cX9_isClearNow 7 = .ok (.getfield 7, 3) := dk_180 0 7 (dk_at dksX9_isClearNow_0 7 rfl rfl)
theorem dX9_isClearNow_10 : decode cX9_isClearNow 10 = .ok (.iconst 2, 1) := dk_5 (dk_at dksX9_isClearNow_0 10 rfl rfl)
theorem dX9_isClearNow_11 : decode cX9_isClearNow 11 = .ok (.iaload, 1) := dk_46 (dk_at dksX9_isClearNow_0 11 rfl rfl)
theorem dX9_isClearNow_12 : decode cX9_isClearNow 12 = .ok (.if_icmp .gt 7, 3) := dk_163 0 7 (dk_at dksX9_isClearNow_0 12 rfl rfl)
theorem dX9_isClearNow_15 : decode cX9_isClearNow 15 = .ok (.iconst 1, 1) := dk_4 (dk_at dksX9_isClearNow_0 15 rfl rfl)
theorem dX9_isClearNow_16 : decode cX9_isClearNow 16 = .ok (.goto 4, 3) := dk_167 0 4 (dk_at dksX9_isClearNow_0 16 rfl rfl)
theorem dX9_isClearNow_19 : decode cX9_isClearNow 19 = .ok (.iconst 0, 1) := dk_3 (dk_at dksX9_isClearNow_0 19 rfl rfl)
theorem dX9_isClearNow_20 : decode cX9_isClearNow 20 = .ok (.ireturn, 1) := dk_172 (dk_at dksX9_isClearNow_0 20 rfl rfl)
abbrev cX9_stepOf : ByteArray := prog_17_method_23_code
def yX9_stepOf : MethodName := ⟨RX9, "stepOf", "(I)I"⟩
def dkwX9_stepOf_0 : List UInt8 := [26, 154, 0, 7, 4, 167, 0, 4, 2, 172]
abbrev dktX9_stepOf_0 : List UInt8 := dkwX9_stepOf_0 ++ []
theorem dksX9_stepOf_0 : cX9_stepOf.data.toList.drop 0 = dktX9_stepOf_0 := by decide +kernel
theorem dX9_stepOf_0 : decode cX9_stepOf 0 = .ok (.iload_n 0, 1) := dk_26 (dk_at dksX9_stepOf_0 0 rfl rfl)
theorem dX9_stepOf_1 : decode cX9_stepOf 1 = .ok (.ifCond .ne 7, 3) := dk_154 0 7 (dk_at dksX9_stepOf_0 1 rfl rfl)
theorem dX9_stepOf_4 : decode cX9_stepOf 4 = .ok (.iconst 1, 1) := dk_4 (dk_at dksX9_stepOf_0 4 rfl rfl)
theorem dX9_stepOf_5 : decode cX9_stepOf 5 = .ok (.goto 4, 3) := dk_167 0 4 (dk_at dksX9_stepOf_0 5 rfl rfl)
theorem dX9_stepOf_8 : decode cX9_stepOf 8 = .ok (.iconst (-1), 1) := dk_2 (dk_at dksX9_stepOf_0 8 rfl rfl)
theorem dX9_stepOf_9 : decode cX9_stepOf 9 = .ok (.ireturn, 1) := dk_172 (dk_at dksX9_stepOf_0 9 rfl rfl)
abbrev cX9_works : ByteArray := prog_17_method_28_code
def yX9_works : MethodName := ⟨RX9, "works", "(I)V"⟩
def dkwX9_works_4 : List UInt8 := [167, 0, 15, 42, 27, 3, 28, 27, 184, 0, 84, 96, 182, 0, 87, 177]
abbrev dktX9_works_4 : List UInt8 := dkwX9_works_4 ++ []
def dkwX9_works_3 : List UInt8 := [182, 0, 80, 154, 0, 4, 177, 28, 42, 180, 0, 7, 4, 46, 160, 0, 11, 42, 27, 182, 0, 107]
abbrev dktX9_works_3 : List UInt8 := dkwX9_works_3 ++ dktX9_works_4
def dkwX9_works_2 : List UInt8 := [3, 182, 0, 66, 29, 100, 182, 0, 104, 42, 180, 0, 7, 16, 11, 92, 46, 29, 96, 79, 42, 28]
abbrev dktX9_works_2 : List UInt8 := dkwX9_works_2 ++ dktX9_works_3
def dkwX9_works_1 : List UInt8 := [154, 0, 44, 42, 27, 4, 182, 0, 70, 42, 28, 3, 182, 0, 66, 184, 0, 99, 62, 42, 28, 3, 42, 28]
abbrev dktX9_works_1 : List UInt8 := dkwX9_works_1 ++ dktX9_works_2
def dkwX9_works_0 : List UInt8 := [42, 27, 6, 182, 0, 70, 4, 160, 0, 4, 177, 42, 27, 3, 182, 0, 70, 61, 42, 28, 182, 0, 80]
abbrev dktX9_works_0 : List UInt8 := dkwX9_works_0 ++ dktX9_works_1
theorem dksX9_works_0 : cX9_works.data.toList.drop 0 = dktX9_works_0 := by decide +kernel
theorem dksX9_works_1 : cX9_works.data.toList.drop 23 = dktX9_works_1 := dk_seg dksX9_works_0 23 rfl rfl
theorem dksX9_works_2 : cX9_works.data.toList.drop 47 = dktX9_works_2 := dk_seg dksX9_works_1 24 rfl rfl
theorem dksX9_works_3 : cX9_works.data.toList.drop 69 = dktX9_works_3 := dk_seg dksX9_works_2 22 rfl rfl
theorem dksX9_works_4 : cX9_works.data.toList.drop 91 = dktX9_works_4 := dk_seg dksX9_works_3 22 rfl rfl
theorem dX9_works_0 : decode cX9_works 0 = .ok (.aload_n 0, 1) := dk_42 (dk_at dksX9_works_0 0 rfl rfl)
theorem dX9_works_1 : decode cX9_works 1 = .ok (.iload_n 1, 1) := dk_27 (dk_at dksX9_works_0 1 rfl rfl)
theorem dX9_works_2 : decode cX9_works 2 = .ok (.iconst 3, 1) := dk_6 (dk_at dksX9_works_0 2 rfl rfl)
theorem dX9_works_3 : decode cX9_works 3 = .ok (.invokevirtual 70, 3) := dk_182 0 70 (dk_at dksX9_works_0 3 rfl rfl)
theorem dX9_works_6 : decode cX9_works 6 = .ok (.iconst 1, 1) := dk_4 (dk_at dksX9_works_0 6 rfl rfl)
theorem dX9_works_7 : decode cX9_works 7 = .ok (.if_icmp .ne 4, 3) := dk_160 0 4 (dk_at dksX9_works_0 7 rfl rfl)
theorem dX9_works_10 : decode cX9_works 10 = .ok (.return_, 1) := dk_177 (dk_at dksX9_works_0 10 rfl rfl)
theorem dX9_works_11 : decode cX9_works 11 = .ok (.aload_n 0, 1) := dk_42 (dk_at dksX9_works_0 11 rfl rfl)
theorem dX9_works_12 : decode cX9_works 12 = .ok (.iload_n 1, 1) := dk_27 (dk_at dksX9_works_0 12 rfl rfl)
theorem dX9_works_13 : decode cX9_works 13 = .ok (.iconst 0, 1) := dk_3 (dk_at dksX9_works_0 13 rfl rfl)
theorem dX9_works_14 : decode cX9_works 14 = .ok (.invokevirtual 70, 3) := dk_182 0 70 (dk_at dksX9_works_0 14 rfl rfl)
theorem dX9_works_17 : decode cX9_works 17 = .ok (.istore_n 2, 1) := dk_61 (dk_at dksX9_works_0 17 rfl rfl)
theorem dX9_works_18 : decode cX9_works 18 = .ok (.aload_n 0, 1) := dk_42 (dk_at dksX9_works_0 18 rfl rfl)
theorem dX9_works_19 : decode cX9_works 19 = .ok (.iload_n 2, 1) := dk_28 (dk_at dksX9_works_0 19 rfl rfl)
theorem dX9_works_20 : decode cX9_works 20 = .ok (.invokevirtual 80, 3) := dk_182 0 80 (dk_at dksX9_works_0 20 rfl rfl)
theorem dX9_works_23 : decode cX9_works 23 = .ok (.ifCond .ne 44, 3) := dk_154 0 44 (dk_at dksX9_works_1 0 rfl rfl)
theorem dX9_works_26 : decode cX9_works 26 = .ok (.aload_n 0, 1) := dk_42 (dk_at dksX9_works_1 3 rfl rfl)
theorem dX9_works_27 : decode cX9_works 27 = .ok (.iload_n 1, 1) := dk_27 (dk_at dksX9_works_1 4 rfl rfl)
theorem dX9_works_28 : decode cX9_works 28 = .ok (.iconst 1, 1) := dk_4 (dk_at dksX9_works_1 5 rfl rfl)
theorem dX9_works_29 : decode cX9_works 29 = .ok (.invokevirtual 70, 3) := dk_182 0 70 (dk_at dksX9_works_1 6 rfl rfl)
theorem dX9_works_32 : decode cX9_works 32 = .ok (.aload_n 0, 1) := dk_42 (dk_at dksX9_works_1 9 rfl rfl)
theorem dX9_works_33 : decode cX9_works 33 = .ok (.iload_n 2, 1) := dk_28 (dk_at dksX9_works_1 10 rfl rfl)
theorem dX9_works_34 : decode cX9_works 34 = .ok (.iconst 0, 1) := dk_3 (dk_at dksX9_works_1 11 rfl rfl)
theorem dX9_works_35 : decode cX9_works 35 = .ok (.invokevirtual 66, 3) := dk_182 0 66 (dk_at dksX9_works_1 12 rfl rfl)
theorem dX9_works_38 : decode cX9_works 38 = .ok (.invokestatic 99, 3) := dk_184 0 99 (dk_at dksX9_works_1 15 rfl rfl)
theorem dX9_works_41 : decode cX9_works 41 = .ok (.istore_n 3, 1) := dk_62 (dk_at dksX9_works_1 18 rfl rfl)
theorem dX9_works_42 : decode cX9_works 42 = .ok (.aload_n 0, 1) := dk_42 (dk_at dksX9_works_1 19 rfl rfl)
theorem dX9_works_43 : decode cX9_works 43 = .ok (.iload_n 2, 1) := dk_28 (dk_at dksX9_works_1 20 rfl rfl)
theorem dX9_works_44 : decode cX9_works 44 = .ok (.iconst 0, 1) := dk_3 (dk_at dksX9_works_1 21 rfl rfl)
theorem dX9_works_45 : decode cX9_works 45 = .ok (.aload_n 0, 1) := dk_42 (dk_at dksX9_works_1 22 rfl rfl)
theorem dX9_works_46 : decode cX9_works 46 = .ok (.iload_n 2, 1) := dk_28 (dk_at dksX9_works_1 23 rfl rfl)
theorem dX9_works_47 : decode cX9_works 47 = .ok (.iconst 0, 1) := dk_3 (dk_at dksX9_works_2 0 rfl rfl)
theorem dX9_works_48 : decode cX9_works 48 = .ok (.invokevirtual 66, 3) := dk_182 0 66 (dk_at dksX9_works_2 1 rfl rfl)
theorem dX9_works_51 : decode cX9_works 51 = .ok (.iload_n 3, 1) := dk_29 (dk_at dksX9_works_2 4 rfl rfl)
theorem dX9_works_52 : decode cX9_works 52 = .ok (.isub, 1) := dk_100 (dk_at dksX9_works_2 5 rfl rfl)
theorem dX9_works_53 : decode cX9_works 53 = .ok (.invokevirtual 104, 3) := dk_182 0 104 (dk_at dksX9_works_2 6 rfl rfl)
theorem dX9_works_56 : decode cX9_works 56 = .ok (.aload_n 0, 1) := dk_42 (dk_at dksX9_works_2 9 rfl rfl)
theorem dX9_works_57 : decode cX9_works 57 = .ok (.getfield 7, 3) := dk_180 0 7 (dk_at dksX9_works_2 10 rfl rfl)
theorem dX9_works_60 : decode cX9_works 60 = .ok (.bipush 11, 2) := dk_16 11 (dk_at dksX9_works_2 13 rfl rfl)
theorem dX9_works_62 : decode cX9_works 62 = .ok (.dup2, 1) := dk_92 (dk_at dksX9_works_2 15 rfl rfl)
theorem dX9_works_63 : decode cX9_works 63 = .ok (.iaload, 1) := dk_46 (dk_at dksX9_works_2 16 rfl rfl)
theorem dX9_works_64 : decode cX9_works 64 = .ok (.iload_n 3, 1) := dk_29 (dk_at dksX9_works_2 17 rfl rfl)
theorem dX9_works_65 : decode cX9_works 65 = .ok (.iadd, 1) := dk_96 (dk_at dksX9_works_2 18 rfl rfl)
theorem dX9_works_66 : decode cX9_works 66 = .ok (.iastore, 1) := dk_79 (dk_at dksX9_works_2 19 rfl rfl)
theorem dX9_works_67 : decode cX9_works 67 = .ok (.aload_n 0, 1) := dk_42 (dk_at dksX9_works_2 20 rfl rfl)
theorem dX9_works_68 : decode cX9_works 68 = .ok (.iload_n 2, 1) := dk_28 (dk_at dksX9_works_2 21 rfl rfl)
theorem dX9_works_69 : decode cX9_works 69 = .ok (.invokevirtual 80, 3) := dk_182 0 80 (dk_at dksX9_works_3 0 rfl rfl)
theorem dX9_works_72 : decode cX9_works 72 = .ok (.ifCond .ne 4, 3) := dk_154 0 4 (dk_at dksX9_works_3 3 rfl rfl)
theorem dX9_works_75 : decode cX9_works 75 = .ok (.return_, 1) := dk_177 (dk_at dksX9_works_3 6 rfl rfl)
theorem dX9_works_76 : decode cX9_works 76 = .ok (.iload_n 2, 1) := dk_28 (dk_at dksX9_works_3 7 rfl rfl)
theorem dX9_works_77 : decode cX9_works 77 = .ok (.aload_n 0, 1) := dk_42 (dk_at dksX9_works_3 8 rfl rfl)
theorem dX9_works_78 : decode cX9_works 78 = .ok (.getfield 7, 3) := dk_180 0 7 (dk_at dksX9_works_3 9 rfl rfl)
theorem dX9_works_81 : decode cX9_works 81 = .ok (.iconst 1, 1) := dk_4 (dk_at dksX9_works_3 12 rfl rfl)
theorem dX9_works_82 : decode cX9_works 82 = .ok (.iaload, 1) := dk_46 (dk_at dksX9_works_3 13 rfl rfl)
theorem dX9_works_83 : decode cX9_works 83 = .ok (.if_icmp .ne 11, 3) := dk_160 0 11 (dk_at dksX9_works_3 14 rfl rfl)
theorem dX9_works_86 : decode cX9_works 86 = .ok (.aload_n 0, 1) := dk_42 (dk_at dksX9_works_3 17 rfl rfl)
theorem dX9_works_87 : decode cX9_works 87 = .ok (.iload_n 1, 1) := dk_27 (dk_at dksX9_works_3 18 rfl rfl)
theorem dX9_works_88 : decode cX9_works 88 = .ok (.invokevirtual 107, 3) := dk_182 0 107 (dk_at dksX9_works_3 19 rfl rfl)
theorem dX9_works_91 : decode cX9_works 91 = .ok (.goto 15, 3) := dk_167 0 15 (dk_at dksX9_works_4 0 rfl rfl)
theorem dX9_works_94 : decode cX9_works 94 = .ok (.aload_n 0, 1) := dk_42 (dk_at dksX9_works_4 3 rfl rfl)
theorem dX9_works_95 : decode cX9_works 95 = .ok (.iload_n 1, 1) := dk_27 (dk_at dksX9_works_4 4 rfl rfl)
theorem dX9_works_96 : decode cX9_works 96 = .ok (.iconst 0, 1) := dk_3 (dk_at dksX9_works_4 5 rfl rfl)
theorem dX9_works_97 : decode cX9_works 97 = .ok (.iload_n 2, 1) := dk_28 (dk_at dksX9_works_4 6 rfl rfl)
theorem dX9_works_98 : decode cX9_works 98 = .ok (.iload_n 1, 1) := dk_27 (dk_at dksX9_works_4 7 rfl rfl)
theorem dX9_works_99 : decode cX9_works 99 = .ok (.invokestatic 84, 3) := dk_184 0 84 (dk_at dksX9_works_4 8 rfl rfl)
theorem dX9_works_102 : decode cX9_works 102 = .ok (.iadd, 1) := dk_96 (dk_at dksX9_works_4 11 rfl rfl)
theorem dX9_works_103 : decode cX9_works 103 = .ok (.invokevirtual 87, 3) := dk_182 0 87 (dk_at dksX9_works_4 12 rfl rfl)
theorem dX9_works_106 : decode cX9_works 106 = .ok (.return_, 1) := dk_177 (dk_at dksX9_works_4 15 rfl rfl)
abbrev cX9_signs : ByteArray := prog_17_method_27_code
def yX9_signs : MethodName := ⟨RX9, "signs", "(I)V"⟩
def dkwX9_signs_1 : List UInt8 := [153, 0, 8, 42, 5, 182, 0, 91, 177]
abbrev dktX9_signs_1 : List UInt8 := dkwX9_signs_1 ++ []
def dkwX9_signs_0 : List UInt8 := [42, 27, 6, 4, 182, 0, 87, 42, 27, 154, 0, 7, 3, 167, 0, 4, 4, 182, 0, 91, 42, 182, 0, 95]
abbrev dktX9_signs_0 : List UInt8 := dkwX9_signs_0 ++ dktX9_signs_1
theorem dksX9_signs_0 : cX9_signs.data.toList.drop 0 = dktX9_signs_0 := by decide +kernel
theorem dksX9_signs_1 : cX9_signs.data.toList.drop 24 = dktX9_signs_1 := dk_seg dksX9_signs_0 24 rfl rfl
theorem dX9_signs_0 : decode cX9_signs 0 = .ok (.aload_n 0, 1) := dk_42 (dk_at dksX9_signs_0 0 rfl rfl)
theorem dX9_signs_1 : decode cX9_signs 1 = .ok (.iload_n 1, 1) := dk_27 (dk_at dksX9_signs_0 1 rfl rfl)
theorem dX9_signs_2 : decode cX9_signs 2 = .ok (.iconst 3, 1) := dk_6 (dk_at dksX9_signs_0 2 rfl rfl)
theorem dX9_signs_3 : decode cX9_signs 3 = .ok (.iconst 1, 1) := dk_4 (dk_at dksX9_signs_0 3 rfl rfl)
theorem dX9_signs_4 : decode cX9_signs 4 = .ok (.invokevirtual 87, 3) := dk_182 0 87 (dk_at dksX9_signs_0 4 rfl rfl)
theorem dX9_signs_7 : decode cX9_signs 7 = .ok (.aload_n 0, 1) := dk_42 (dk_at dksX9_signs_0 7 rfl rfl)
theorem dX9_signs_8 : decode cX9_signs 8 = .ok (.iload_n 1, 1) := dk_27 (dk_at dksX9_signs_0 8 rfl rfl)
theorem dX9_signs_9 : decode cX9_signs 9 = .ok (.ifCond .ne 7, 3) := dk_154 0 7 (dk_at dksX9_signs_0 9 rfl rfl)
theorem dX9_signs_12 : decode cX9_signs 12 = .ok (.iconst 0, 1) := dk_3 (dk_at dksX9_signs_0 12 rfl rfl)
theorem dX9_signs_13 : decode cX9_signs 13 = .ok (.goto 4, 3) := dk_167 0 4 (dk_at dksX9_signs_0 13 rfl rfl)
theorem dX9_signs_16 : decode cX9_signs 16 = .ok (.iconst 1, 1) := dk_4 (dk_at dksX9_signs_0 16 rfl rfl)
theorem dX9_signs_17 : decode cX9_signs 17 = .ok (.invokevirtual 91, 3) := dk_182 0 91 (dk_at dksX9_signs_0 17 rfl rfl)
theorem dX9_signs_20 : decode cX9_signs 20 = .ok (.aload_n 0, 1) := dk_42 (dk_at dksX9_signs_0 20 rfl rfl)
theorem dX9_signs_21 : decode cX9_signs 21 = .ok (.invokevirtual 95, 3) := dk_182 0 95 (dk_at dksX9_signs_0 21 rfl rfl)
theorem dX9_signs_24 : decode cX9_signs 24 = .ok (.ifCond .eq 8, 3) := dk_153 0 8 (dk_at dksX9_signs_1 0 rfl rfl)
theorem dX9_signs_27 : decode cX9_signs 27 = .ok (.aload_n 0, 1) := dk_42 (dk_at dksX9_signs_1 3 rfl rfl)
theorem dX9_signs_28 : decode cX9_signs 28 = .ok (.iconst 2, 1) := dk_5 (dk_at dksX9_signs_1 4 rfl rfl)
theorem dX9_signs_29 : decode cX9_signs 29 = .ok (.invokevirtual 91, 3) := dk_182 0 91 (dk_at dksX9_signs_1 5 rfl rfl)
theorem dX9_signs_32 : decode cX9_signs 32 = .ok (.return_, 1) := dk_177 (dk_at dksX9_signs_1 8 rfl rfl)
abbrev cX9_crosses : ByteArray := prog_17_method_34_code
def yX9_crosses : MethodName := ⟨RX9, "crosses", "(I)V"⟩
def dkwX9_crosses_1 : List UInt8 := [3, 182, 0, 127, 42, 180, 0, 7, 16, 15, 27, 96, 92, 46, 4, 96, 79, 177]
abbrev dktX9_crosses_1 : List UInt8 := dkwX9_crosses_1 ++ []
def dkwX9_crosses_0 : List UInt8 := [42, 180, 0, 7, 16, 125, 27, 96, 46, 153, 0, 12, 42, 27, 3, 182, 0, 123, 154, 0, 4, 177, 42, 27]
abbrev dktX9_crosses_0 : List UInt8 := dkwX9_crosses_0 ++ dktX9_crosses_1
theorem dksX9_crosses_0 : cX9_crosses.data.toList.drop 0 = dktX9_crosses_0 := by decide +kernel
theorem dksX9_crosses_1 : cX9_crosses.data.toList.drop 24 = dktX9_crosses_1 := dk_seg dksX9_crosses_0 24 rfl rfl
theorem dX9_crosses_0 : decode cX9_crosses 0 = .ok (.aload_n 0, 1) := dk_42 (dk_at dksX9_crosses_0 0 rfl rfl)
theorem dX9_crosses_1 : decode cX9_crosses 1 = .ok (.getfield 7, 3) := dk_180 0 7 (dk_at dksX9_crosses_0 1 rfl rfl)
theorem dX9_crosses_4 : decode cX9_crosses 4 = .ok (.bipush 125, 2) := dk_16 125 (dk_at dksX9_crosses_0 4 rfl rfl)
theorem dX9_crosses_6 : decode cX9_crosses 6 = .ok (.iload_n 1, 1) := dk_27 (dk_at dksX9_crosses_0 6 rfl rfl)
theorem dX9_crosses_7 : decode cX9_crosses 7 = .ok (.iadd, 1) := dk_96 (dk_at dksX9_crosses_0 7 rfl rfl)
theorem dX9_crosses_8 : decode cX9_crosses 8 = .ok (.iaload, 1) := dk_46 (dk_at dksX9_crosses_0 8 rfl rfl)
theorem dX9_crosses_9 : decode cX9_crosses 9 = .ok (.ifCond .eq 12, 3) := dk_153 0 12 (dk_at dksX9_crosses_0 9 rfl rfl)
theorem dX9_crosses_12 : decode cX9_crosses 12 = .ok (.aload_n 0, 1) := dk_42 (dk_at dksX9_crosses_0 12 rfl rfl)
theorem dX9_crosses_13 : decode cX9_crosses 13 = .ok (.iload_n 1, 1) := dk_27 (dk_at dksX9_crosses_0 13 rfl rfl)
theorem dX9_crosses_14 : decode cX9_crosses 14 = .ok (.iconst 0, 1) := dk_3 (dk_at dksX9_crosses_0 14 rfl rfl)
theorem dX9_crosses_15 : decode cX9_crosses 15 = .ok (.invokevirtual 123, 3) := dk_182 0 123 (dk_at dksX9_crosses_0 15 rfl rfl)
theorem dX9_crosses_18 : decode cX9_crosses 18 = .ok (.ifCond .ne 4, 3) := dk_154 0 4 (dk_at dksX9_crosses_0 18 rfl rfl)
theorem dX9_crosses_21 : decode cX9_crosses 21 = .ok (.return_, 1) := dk_177 (dk_at dksX9_crosses_0 21 rfl rfl)
theorem dX9_crosses_22 : decode cX9_crosses 22 = .ok (.aload_n 0, 1) := dk_42 (dk_at dksX9_crosses_0 22 rfl rfl)
theorem dX9_crosses_23 : decode cX9_crosses 23 = .ok (.iload_n 1, 1) := dk_27 (dk_at dksX9_crosses_0 23 rfl rfl)
theorem dX9_crosses_24 : decode cX9_crosses 24 = .ok (.iconst 0, 1) := dk_3 (dk_at dksX9_crosses_1 0 rfl rfl)
theorem dX9_crosses_25 : decode cX9_crosses 25 = .ok (.invokevirtual 127, 3) := dk_182 0 127 (dk_at dksX9_crosses_1 1 rfl rfl)
theorem dX9_crosses_28 : decode cX9_crosses 28 = .ok (.aload_n 0, 1) := dk_42 (dk_at dksX9_crosses_1 4 rfl rfl)
theorem dX9_crosses_29 : decode cX9_crosses 29 = .ok (.getfield 7, 3) := dk_180 0 7 (dk_at dksX9_crosses_1 5 rfl rfl)
theorem dX9_crosses_32 : decode cX9_crosses 32 = .ok (.bipush 15, 2) := dk_16 15 (dk_at dksX9_crosses_1 8 rfl rfl)
theorem dX9_crosses_34 : decode cX9_crosses 34 = .ok (.iload_n 1, 1) := dk_27 (dk_at dksX9_crosses_1 10 rfl rfl)
theorem dX9_crosses_35 : decode cX9_crosses 35 = .ok (.iadd, 1) := dk_96 (dk_at dksX9_crosses_1 11 rfl rfl)
theorem dX9_crosses_36 : decode cX9_crosses 36 = .ok (.dup2, 1) := dk_92 (dk_at dksX9_crosses_1 12 rfl rfl)
theorem dX9_crosses_37 : decode cX9_crosses 37 = .ok (.iaload, 1) := dk_46 (dk_at dksX9_crosses_1 13 rfl rfl)
theorem dX9_crosses_38 : decode cX9_crosses 38 = .ok (.iconst 1, 1) := dk_4 (dk_at dksX9_crosses_1 14 rfl rfl)
theorem dX9_crosses_39 : decode cX9_crosses 39 = .ok (.iadd, 1) := dk_96 (dk_at dksX9_crosses_1 15 rfl rfl)
theorem dX9_crosses_40 : decode cX9_crosses 40 = .ok (.iastore, 1) := dk_79 (dk_at dksX9_crosses_1 16 rfl rfl)
theorem dX9_crosses_41 : decode cX9_crosses 41 = .ok (.return_, 1) := dk_177 (dk_at dksX9_crosses_1 17 rfl rfl)
abbrev cX9_mayCross : ByteArray := prog_17_method_32_code
def yX9_mayCross : MethodName := ⟨RX9, "mayCross", "(II)Z"⟩
def dkwX9_mayCross_1 : List UInt8 := [4, 167, 0, 11, 3, 167, 0, 7, 42, 182, 0, 95, 172]
abbrev dktX9_mayCross_1 : List UInt8 := dkwX9_mayCross_1 ++ []
def dkwX9_mayCross_0 : List UInt8 := [42, 27, 28, 4, 182, 0, 116, 4, 160, 0, 24, 42, 182, 0, 120, 42, 180, 0, 7, 7, 46, 163, 0, 7]
abbrev dktX9_mayCross_0 : List UInt8 := dkwX9_mayCross_0 ++ dktX9_mayCross_1
theorem dksX9_mayCross_0 : cX9_mayCross.data.toList.drop 0 = dktX9_mayCross_0 := by decide +kernel
theorem dksX9_mayCross_1 : cX9_mayCross.data.toList.drop 24 = dktX9_mayCross_1 := dk_seg dksX9_mayCross_0 24 rfl rfl
theorem dX9_mayCross_0 : decode cX9_mayCross 0 = .ok (.aload_n 0, 1) := dk_42 (dk_at dksX9_mayCross_0 0 rfl rfl)
theorem dX9_mayCross_1 : decode cX9_mayCross 1 = .ok (.iload_n 1, 1) := dk_27 (dk_at dksX9_mayCross_0 1 rfl rfl)
theorem dX9_mayCross_2 : decode cX9_mayCross 2 = .ok (.iload_n 2, 1) := dk_28 (dk_at dksX9_mayCross_0 2 rfl rfl)
theorem dX9_mayCross_3 : decode cX9_mayCross 3 = .ok (.iconst 1, 1) := dk_4 (dk_at dksX9_mayCross_0 3 rfl rfl)
theorem dX9_mayCross_4 : decode cX9_mayCross 4 = .ok (.invokevirtual 116, 3) := dk_182 0 116 (dk_at dksX9_mayCross_0 4 rfl rfl)
theorem dX9_mayCross_7 : decode cX9_mayCross 7 = .ok (.iconst 1, 1) := dk_4 (dk_at dksX9_mayCross_0 7 rfl rfl)
theorem dX9_mayCross_8 : decode cX9_mayCross 8 = .ok (.if_icmp .ne 24, 3) := dk_160 0 24 (dk_at dksX9_mayCross_0 8 rfl rfl)
theorem dX9_mayCross_11 : decode cX9_mayCross 11 = .ok (.aload_n 0, 1) := dk_42 (dk_at dksX9_mayCross_0 11 rfl rfl)
theorem dX9_mayCross_12 : decode cX9_mayCross 12 = .ok (.invokevirtual 120, 3) := dk_182 0 120 (dk_at dksX9_mayCross_0 12 rfl rfl)
theorem dX9_mayCross_15 : decode cX9_mayCross 15 = .ok (.aload_n 0, 1) := dk_42 (dk_at dksX9_mayCross_0 15 rfl rfl)
theorem dX9_mayCross_16 : decode cX9_mayCross 16 = .ok (.getfield 7, 3) := dk_180 0 7 (dk_at dksX9_mayCross_0 16 rfl rfl)
theorem dX9_mayCross_19 : decode cX9_mayCross 19 = .ok (.iconst 4, 1) := dk_7 (dk_at dksX9_mayCross_0 19 rfl rfl)
theorem dX9_mayCross_20 : decode cX9_mayCross 20 = .ok (.iaload, 1) := dk_46 (dk_at dksX9_mayCross_0 20 rfl rfl)
theorem dX9_mayCross_21 : decode cX9_mayCross 21 = .ok (.if_icmp .gt 7, 3) := dk_163 0 7 (dk_at dksX9_mayCross_0 21 rfl rfl)
theorem dX9_mayCross_24 : decode cX9_mayCross 24 = .ok (.iconst 1, 1) := dk_4 (dk_at dksX9_mayCross_1 0 rfl rfl)
theorem dX9_mayCross_25 : decode cX9_mayCross 25 = .ok (.goto 11, 3) := dk_167 0 11 (dk_at dksX9_mayCross_1 1 rfl rfl)
theorem dX9_mayCross_28 : decode cX9_mayCross 28 = .ok (.iconst 0, 1) := dk_3 (dk_at dksX9_mayCross_1 4 rfl rfl)
theorem dX9_mayCross_29 : decode cX9_mayCross 29 = .ok (.goto 7, 3) := dk_167 0 7 (dk_at dksX9_mayCross_1 5 rfl rfl)
theorem dX9_mayCross_32 : decode cX9_mayCross 32 = .ok (.aload_n 0, 1) := dk_42 (dk_at dksX9_mayCross_1 8 rfl rfl)
theorem dX9_mayCross_33 : decode cX9_mayCross 33 = .ok (.invokevirtual 95, 3) := dk_182 0 95 (dk_at dksX9_mayCross_1 9 rfl rfl)
theorem dX9_mayCross_36 : decode cX9_mayCross 36 = .ok (.ireturn, 1) := dk_172 (dk_at dksX9_mayCross_1 12 rfl rfl)
abbrev cX9_cartAt : ByteArray := prog_17_method_14_code
def yX9_cartAt : MethodName := ⟨RX9, "cartAt", "(III)I"⟩
def dkwX9_cartAt_0 : List UInt8 := [42, 180, 0, 7, 16, 127, 5, 16, 10, 27, 104, 28, 96, 104, 96, 29, 96, 46, 172]
abbrev dktX9_cartAt_0 : List UInt8 := dkwX9_cartAt_0 ++ []
theorem dksX9_cartAt_0 : cX9_cartAt.data.toList.drop 0 = dktX9_cartAt_0 := by decide +kernel
theorem dX9_cartAt_0 : decode cX9_cartAt 0 = .ok (.aload_n 0, 1) := dk_42 (dk_at dksX9_cartAt_0 0 rfl rfl)
theorem dX9_cartAt_1 : decode cX9_cartAt 1 = .ok (.getfield 7, 3) := dk_180 0 7 (dk_at dksX9_cartAt_0 1 rfl rfl)
theorem dX9_cartAt_4 : decode cX9_cartAt 4 = .ok (.bipush 127, 2) := dk_16 127 (dk_at dksX9_cartAt_0 4 rfl rfl)
theorem dX9_cartAt_6 : decode cX9_cartAt 6 = .ok (.iconst 2, 1) := dk_5 (dk_at dksX9_cartAt_0 6 rfl rfl)
theorem dX9_cartAt_7 : decode cX9_cartAt 7 = .ok (.bipush 10, 2) := dk_16 10 (dk_at dksX9_cartAt_0 7 rfl rfl)
theorem dX9_cartAt_9 : decode cX9_cartAt 9 = .ok (.iload_n 1, 1) := dk_27 (dk_at dksX9_cartAt_0 9 rfl rfl)
theorem dX9_cartAt_10 : decode cX9_cartAt 10 = .ok (.imul, 1) := dk_104 (dk_at dksX9_cartAt_0 10 rfl rfl)
theorem dX9_cartAt_11 : decode cX9_cartAt 11 = .ok (.iload_n 2, 1) := dk_28 (dk_at dksX9_cartAt_0 11 rfl rfl)
theorem dX9_cartAt_12 : decode cX9_cartAt 12 = .ok (.iadd, 1) := dk_96 (dk_at dksX9_cartAt_0 12 rfl rfl)
theorem dX9_cartAt_13 : decode cX9_cartAt 13 = .ok (.imul, 1) := dk_104 (dk_at dksX9_cartAt_0 13 rfl rfl)
theorem dX9_cartAt_14 : decode cX9_cartAt 14 = .ok (.iadd, 1) := dk_96 (dk_at dksX9_cartAt_0 14 rfl rfl)
theorem dX9_cartAt_15 : decode cX9_cartAt 15 = .ok (.iload_n 3, 1) := dk_29 (dk_at dksX9_cartAt_0 15 rfl rfl)
theorem dX9_cartAt_16 : decode cX9_cartAt 16 = .ok (.iadd, 1) := dk_96 (dk_at dksX9_cartAt_0 16 rfl rfl)
theorem dX9_cartAt_17 : decode cX9_cartAt 17 = .ok (.iaload, 1) := dk_46 (dk_at dksX9_cartAt_0 17 rfl rfl)
theorem dX9_cartAt_18 : decode cX9_cartAt 18 = .ok (.ireturn, 1) := dk_172 (dk_at dksX9_cartAt_0 18 rfl rfl)
abbrev cX9_cartGoes : ByteArray := prog_17_method_33_code
def yX9_cartGoes : MethodName := ⟨RX9, "cartGoes", "(II)V"⟩
def dkwX9_cartGoes_3 : List UInt8 := [167, 255, 231, 177]
abbrev dktX9_cartGoes_3 : List UInt8 := dkwX9_cartGoes_3 ++ []
def dkwX9_cartGoes_2 : List UInt8 := [29, 162, 0, 25, 42, 180, 0, 7, 21, 4, 42, 180, 0, 7, 21, 4, 5, 96, 46, 79, 132, 4, 1]
abbrev dktX9_cartGoes_2 : List UInt8 := dkwX9_cartGoes_2 ++ dktX9_cartGoes_3
def dkwX9_cartGoes_1 : List UInt8 := [16, 125, 27, 96, 46, 96, 104, 96, 62, 16, 127, 5, 16, 10, 27, 104, 28, 96, 104, 96, 54, 4, 21, 4]
abbrev dktX9_cartGoes_1 : List UInt8 := dkwX9_cartGoes_1 ++ dktX9_cartGoes_2
def dkwX9_cartGoes_0 : List UInt8 := [42, 180, 0, 7, 16, 125, 27, 96, 92, 46, 4, 100, 79, 16, 127, 5, 16, 10, 27, 104, 42, 180, 0, 7]
abbrev dktX9_cartGoes_0 : List UInt8 := dkwX9_cartGoes_0 ++ dktX9_cartGoes_1
theorem dksX9_cartGoes_0 : cX9_cartGoes.data.toList.drop 0 = dktX9_cartGoes_0 := by decide +kernel
theorem dksX9_cartGoes_1 : cX9_cartGoes.data.toList.drop 24 = dktX9_cartGoes_1 := dk_seg dksX9_cartGoes_0 24 rfl rfl
theorem dksX9_cartGoes_2 : cX9_cartGoes.data.toList.drop 48 = dktX9_cartGoes_2 := dk_seg dksX9_cartGoes_1 24 rfl rfl
theorem dksX9_cartGoes_3 : cX9_cartGoes.data.toList.drop 71 = dktX9_cartGoes_3 := dk_seg dksX9_cartGoes_2 23 rfl rfl
theorem dX9_cartGoes_0 : decode cX9_cartGoes 0 = .ok (.aload_n 0, 1) := dk_42 (dk_at dksX9_cartGoes_0 0 rfl rfl)
theorem dX9_cartGoes_1 : decode cX9_cartGoes 1 = .ok (.getfield 7, 3) := dk_180 0 7 (dk_at dksX9_cartGoes_0 1 rfl rfl)
theorem dX9_cartGoes_4 : decode cX9_cartGoes 4 = .ok (.bipush 125, 2) := dk_16 125 (dk_at dksX9_cartGoes_0 4 rfl rfl)
theorem dX9_cartGoes_6 : decode cX9_cartGoes 6 = .ok (.iload_n 1, 1) := dk_27 (dk_at dksX9_cartGoes_0 6 rfl rfl)
theorem dX9_cartGoes_7 : decode cX9_cartGoes 7 = .ok (.iadd, 1) := dk_96 (dk_at dksX9_cartGoes_0 7 rfl rfl)
theorem dX9_cartGoes_8 : decode cX9_cartGoes 8 = .ok (.dup2, 1) := dk_92 (dk_at dksX9_cartGoes_0 8 rfl rfl)
theorem dX9_cartGoes_9 : decode cX9_cartGoes 9 = .ok (.iaload, 1) := dk_46 (dk_at dksX9_cartGoes_0 9 rfl rfl)
theorem dX9_cartGoes_10 : decode cX9_cartGoes 10 = .ok (.iconst 1, 1) := dk_4 (dk_at dksX9_cartGoes_0 10 rfl rfl)
theorem dX9_cartGoes_11 : decode cX9_cartGoes 11 = .ok (.isub, 1) := dk_100 (dk_at dksX9_cartGoes_0 11 rfl rfl)
theorem dX9_cartGoes_12 : decode cX9_cartGoes 12 = .ok (.iastore, 1) := dk_79 (dk_at dksX9_cartGoes_0 12 rfl rfl)
theorem dX9_cartGoes_13 : decode cX9_cartGoes 13 = .ok (.bipush 127, 2) := dk_16 127 (dk_at dksX9_cartGoes_0 13 rfl rfl)
theorem dX9_cartGoes_15 : decode cX9_cartGoes 15 = .ok (.iconst 2, 1) := dk_5 (dk_at dksX9_cartGoes_0 15 rfl rfl)
theorem dX9_cartGoes_16 : decode cX9_cartGoes 16 = .ok (.bipush 10, 2) := dk_16 10 (dk_at dksX9_cartGoes_0 16 rfl rfl)
theorem dX9_cartGoes_18 : decode cX9_cartGoes 18 = .ok (.iload_n 1, 1) := dk_27 (dk_at dksX9_cartGoes_0 18 rfl rfl)
theorem dX9_cartGoes_19 : decode cX9_cartGoes 19 = .ok (.imul, 1) := dk_104 (dk_at dksX9_cartGoes_0 19 rfl rfl)
theorem dX9_cartGoes_20 : decode cX9_cartGoes 20 = .ok (.aload_n 0, 1) := dk_42 (dk_at dksX9_cartGoes_0 20 rfl rfl)
theorem dX9_cartGoes_21 : decode cX9_cartGoes 21 = .ok (.getfield 7, 3) := dk_180 0 7 (dk_at dksX9_cartGoes_0 21 rfl rfl)
theorem dX9_cartGoes_24 : decode cX9_cartGoes 24 = .ok (.bipush 125, 2) := dk_16 125 (dk_at dksX9_cartGoes_1 0 rfl rfl)
theorem dX9_cartGoes_26 : decode cX9_cartGoes 26 = .ok (.iload_n 1, 1) := dk_27 (dk_at dksX9_cartGoes_1 2 rfl rfl)
theorem dX9_cartGoes_27 : decode cX9_cartGoes 27 = .ok (.iadd, 1) := dk_96 (dk_at dksX9_cartGoes_1 3 rfl rfl)
theorem dX9_cartGoes_28 : decode cX9_cartGoes 28 = .ok (.iaload, 1) := dk_46 (dk_at dksX9_cartGoes_1 4 rfl rfl)
theorem dX9_cartGoes_29 : decode cX9_cartGoes 29 = .ok (.iadd, 1) := dk_96 (dk_at dksX9_cartGoes_1 5 rfl rfl)
theorem dX9_cartGoes_30 : decode cX9_cartGoes 30 = .ok (.imul, 1) := dk_104 (dk_at dksX9_cartGoes_1 6 rfl rfl)
theorem dX9_cartGoes_31 : decode cX9_cartGoes 31 = .ok (.iadd, 1) := dk_96 (dk_at dksX9_cartGoes_1 7 rfl rfl)
theorem dX9_cartGoes_32 : decode cX9_cartGoes 32 = .ok (.istore_n 3, 1) := dk_62 (dk_at dksX9_cartGoes_1 8 rfl rfl)
theorem dX9_cartGoes_33 : decode cX9_cartGoes 33 = .ok (.bipush 127, 2) := dk_16 127 (dk_at dksX9_cartGoes_1 9 rfl rfl)
theorem dX9_cartGoes_35 : decode cX9_cartGoes 35 = .ok (.iconst 2, 1) := dk_5 (dk_at dksX9_cartGoes_1 11 rfl rfl)
theorem dX9_cartGoes_36 : decode cX9_cartGoes 36 = .ok (.bipush 10, 2) := dk_16 10 (dk_at dksX9_cartGoes_1 12 rfl rfl)
theorem dX9_cartGoes_38 : decode cX9_cartGoes 38 = .ok (.iload_n 1, 1) := dk_27 (dk_at dksX9_cartGoes_1 14 rfl rfl)
theorem dX9_cartGoes_39 : decode cX9_cartGoes 39 = .ok (.imul, 1) := dk_104 (dk_at dksX9_cartGoes_1 15 rfl rfl)
theorem dX9_cartGoes_40 : decode cX9_cartGoes 40 = .ok (.iload_n 2, 1) := dk_28 (dk_at dksX9_cartGoes_1 16 rfl rfl)
theorem dX9_cartGoes_41 : decode cX9_cartGoes 41 = .ok (.iadd, 1) := dk_96 (dk_at dksX9_cartGoes_1 17 rfl rfl)
theorem dX9_cartGoes_42 : decode cX9_cartGoes 42 = .ok (.imul, 1) := dk_104 (dk_at dksX9_cartGoes_1 18 rfl rfl)
theorem dX9_cartGoes_43 : decode cX9_cartGoes 43 = .ok (.iadd, 1) := dk_96 (dk_at dksX9_cartGoes_1 19 rfl rfl)
theorem dX9_cartGoes_44 : decode cX9_cartGoes 44 = .ok (.istore 4, 2) := dk_54 4 (dk_at dksX9_cartGoes_1 20 rfl rfl)
theorem dX9_cartGoes_46 : decode cX9_cartGoes 46 = .ok (.iload 4, 2) := dk_21 4 (dk_at dksX9_cartGoes_1 22 rfl rfl)
theorem dX9_cartGoes_48 : decode cX9_cartGoes 48 = .ok (.iload_n 3, 1) := dk_29 (dk_at dksX9_cartGoes_2 0 rfl rfl)
theorem dX9_cartGoes_49 : decode cX9_cartGoes 49 = .ok (.if_icmp .ge 25, 3) := dk_162 0 25 (dk_at dksX9_cartGoes_2 1 rfl rfl)
theorem dX9_cartGoes_52 : decode cX9_cartGoes 52 = .ok (.aload_n 0, 1) := dk_42 (dk_at dksX9_cartGoes_2 4 rfl rfl)
theorem dX9_cartGoes_53 : decode cX9_cartGoes 53 = .ok (.getfield 7, 3) := dk_180 0 7 (dk_at dksX9_cartGoes_2 5 rfl rfl)
theorem dX9_cartGoes_56 : decode cX9_cartGoes 56 = .ok (.iload 4, 2) := dk_21 4 (dk_at dksX9_cartGoes_2 8 rfl rfl)
theorem dX9_cartGoes_58 : decode cX9_cartGoes 58 = .ok (.aload_n 0, 1) := dk_42 (dk_at dksX9_cartGoes_2 10 rfl rfl)
theorem dX9_cartGoes_59 : decode cX9_cartGoes 59 = .ok (.getfield 7, 3) := dk_180 0 7 (dk_at dksX9_cartGoes_2 11 rfl rfl)
theorem dX9_cartGoes_62 : decode cX9_cartGoes 62 = .ok (.iload 4, 2) := dk_21 4 (dk_at dksX9_cartGoes_2 14 rfl rfl)
theorem dX9_cartGoes_64 : decode cX9_cartGoes 64 = .ok (.iconst 2, 1) := dk_5 (dk_at dksX9_cartGoes_2 16 rfl rfl)
theorem dX9_cartGoes_65 : decode cX9_cartGoes 65 = .ok (.iadd, 1) := dk_96 (dk_at dksX9_cartGoes_2 17 rfl rfl)
theorem dX9_cartGoes_66 : decode cX9_cartGoes 66 = .ok (.iaload, 1) := dk_46 (dk_at dksX9_cartGoes_2 18 rfl rfl)
theorem dX9_cartGoes_67 : decode cX9_cartGoes 67 = .ok (.iastore, 1) := dk_79 (dk_at dksX9_cartGoes_2 19 rfl rfl)
theorem dX9_cartGoes_68 : decode cX9_cartGoes 68 = .ok (.iinc 4 1, 3) := dk_132 4 1 (dk_at dksX9_cartGoes_2 20 rfl rfl)
theorem dX9_cartGoes_71 : decode cX9_cartGoes 71 = .ok (.goto (-25), 3) := dk_167 255 231 (dk_at dksX9_cartGoes_3 0 rfl rfl)
theorem dX9_cartGoes_74 : decode cX9_cartGoes 74 = .ok (.return_, 1) := dk_177 (dk_at dksX9_cartGoes_3 3 rfl rfl)
abbrev cX9_saltNow : ByteArray := prog_17_method_39_code
def yX9_saltNow : MethodName := ⟨RX9, "saltNow", "(I)Z"⟩
def dkwX9_saltNow_2 : List UInt8 := [4, 100, 181, 0, 155, 4, 172]
abbrev dktX9_saltNow_2 : List UInt8 := dkwX9_saltNow_2 ++ []
def dkwX9_saltNow_1 : List UInt8 := [27, 3, 182, 0, 70, 5, 16, 6, 182, 0, 104, 42, 180, 0, 7, 16, 14, 92, 46, 4, 96, 79, 42, 28]
abbrev dktX9_saltNow_1 : List UInt8 := dkwX9_saltNow_1 ++ dktX9_saltNow_2
def dkwX9_saltNow_0 : List UInt8 := [42, 27, 5, 182, 0, 70, 61, 28, 154, 0, 5, 3, 172, 42, 27, 5, 28, 4, 100, 182, 0, 87, 42, 42]
abbrev dktX9_saltNow_0 : List UInt8 := dkwX9_saltNow_0 ++ dktX9_saltNow_1
theorem dksX9_saltNow_0 : cX9_saltNow.data.toList.drop 0 = dktX9_saltNow_0 := by decide +kernel
theorem dksX9_saltNow_1 : cX9_saltNow.data.toList.drop 24 = dktX9_saltNow_1 := dk_seg dksX9_saltNow_0 24 rfl rfl
theorem dksX9_saltNow_2 : cX9_saltNow.data.toList.drop 48 = dktX9_saltNow_2 := dk_seg dksX9_saltNow_1 24 rfl rfl
theorem dX9_saltNow_0 : decode cX9_saltNow 0 = .ok (.aload_n 0, 1) := dk_42 (dk_at dksX9_saltNow_0 0 rfl rfl)
theorem dX9_saltNow_1 : decode cX9_saltNow 1 = .ok (.iload_n 1, 1) := dk_27 (dk_at dksX9_saltNow_0 1 rfl rfl)
theorem dX9_saltNow_2 : decode cX9_saltNow 2 = .ok (.iconst 2, 1) := dk_5 (dk_at dksX9_saltNow_0 2 rfl rfl)
theorem dX9_saltNow_3 : decode cX9_saltNow 3 = .ok (.invokevirtual 70, 3) := dk_182 0 70 (dk_at dksX9_saltNow_0 3 rfl rfl)
theorem dX9_saltNow_6 : decode cX9_saltNow 6 = .ok (.istore_n 2, 1) := dk_61 (dk_at dksX9_saltNow_0 6 rfl rfl)
theorem dX9_saltNow_7 : decode cX9_saltNow 7 = .ok (.iload_n 2, 1) := dk_28 (dk_at dksX9_saltNow_0 7 rfl rfl)
theorem dX9_saltNow_8 : decode cX9_saltNow 8 = .ok (.ifCond .ne 5, 3) := dk_154 0 5 (dk_at dksX9_saltNow_0 8 rfl rfl)
theorem dX9_saltNow_11 : decode cX9_saltNow 11 = .ok (.iconst 0, 1) := dk_3 (dk_at dksX9_saltNow_0 11 rfl rfl)
theorem dX9_saltNow_12 : decode cX9_saltNow 12 = .ok (.ireturn, 1) := dk_172 (dk_at dksX9_saltNow_0 12 rfl rfl)
theorem dX9_saltNow_13 : decode cX9_saltNow 13 = .ok (.aload_n 0, 1) := dk_42 (dk_at dksX9_saltNow_0 13 rfl rfl)
theorem dX9_saltNow_14 : decode cX9_saltNow 14 = .ok (.iload_n 1, 1) := dk_27 (dk_at dksX9_saltNow_0 14 rfl rfl)
theorem dX9_saltNow_15 : decode cX9_saltNow 15 = .ok (.iconst 2, 1) := dk_5 (dk_at dksX9_saltNow_0 15 rfl rfl)
theorem dX9_saltNow_16 : decode cX9_saltNow 16 = .ok (.iload_n 2, 1) := dk_28 (dk_at dksX9_saltNow_0 16 rfl rfl)
theorem dX9_saltNow_17 : decode cX9_saltNow 17 = .ok (.iconst 1, 1) := dk_4 (dk_at dksX9_saltNow_0 17 rfl rfl)
theorem dX9_saltNow_18 : decode cX9_saltNow 18 = .ok (.isub, 1) := dk_100 (dk_at dksX9_saltNow_0 18 rfl rfl)
theorem dX9_saltNow_19 : decode cX9_saltNow 19 = .ok (.invokevirtual 87, 3) := dk_182 0 87 (dk_at dksX9_saltNow_0 19 rfl rfl)
theorem dX9_saltNow_22 : decode cX9_saltNow 22 = .ok (.aload_n 0, 1) := dk_42 (dk_at dksX9_saltNow_0 22 rfl rfl)
theorem dX9_saltNow_23 : decode cX9_saltNow 23 = .ok (.aload_n 0, 1) := dk_42 (dk_at dksX9_saltNow_0 23 rfl rfl)
theorem dX9_saltNow_24 : decode cX9_saltNow 24 = .ok (.iload_n 1, 1) := dk_27 (dk_at dksX9_saltNow_1 0 rfl rfl)
theorem dX9_saltNow_25 : decode cX9_saltNow 25 = .ok (.iconst 0, 1) := dk_3 (dk_at dksX9_saltNow_1 1 rfl rfl)
theorem dX9_saltNow_26 : decode cX9_saltNow 26 = .ok (.invokevirtual 70, 3) := dk_182 0 70 (dk_at dksX9_saltNow_1 2 rfl rfl)
theorem dX9_saltNow_29 : decode cX9_saltNow 29 = .ok (.iconst 2, 1) := dk_5 (dk_at dksX9_saltNow_1 5 rfl rfl)
theorem dX9_saltNow_30 : decode cX9_saltNow 30 = .ok (.bipush 6, 2) := dk_16 6 (dk_at dksX9_saltNow_1 6 rfl rfl)
theorem dX9_saltNow_32 : decode cX9_saltNow 32 = .ok (.invokevirtual 104, 3) := dk_182 0 104 (dk_at dksX9_saltNow_1 8 rfl rfl)
theorem dX9_saltNow_35 : decode cX9_saltNow 35 = .ok (.aload_n 0, 1) := dk_42 (dk_at dksX9_saltNow_1 11 rfl rfl)
theorem dX9_saltNow_36 : decode cX9_saltNow 36 = .ok (.getfield 7, 3) := dk_180 0 7 (dk_at dksX9_saltNow_1 12 rfl rfl)
theorem dX9_saltNow_39 : decode cX9_saltNow 39 = .ok (.bipush 14, 2) := dk_16 14 (dk_at dksX9_saltNow_1 15 rfl rfl)
theorem dX9_saltNow_41 : decode cX9_saltNow 41 = .ok (.dup2, 1) := dk_92 (dk_at dksX9_saltNow_1 17 rfl rfl)
theorem dX9_saltNow_42 : decode cX9_saltNow 42 = .ok (.iaload, 1) := dk_46 (dk_at dksX9_saltNow_1 18 rfl rfl)
theorem dX9_saltNow_43 : decode cX9_saltNow 43 = .ok (.iconst 1, 1) := dk_4 (dk_at dksX9_saltNow_1 19 rfl rfl)
theorem dX9_saltNow_44 : decode cX9_saltNow 44 = .ok (.iadd, 1) := dk_96 (dk_at dksX9_saltNow_1 20 rfl rfl)
theorem dX9_saltNow_45 : decode cX9_saltNow 45 = .ok (.iastore, 1) := dk_79 (dk_at dksX9_saltNow_1 21 rfl rfl)
theorem dX9_saltNow_46 : decode cX9_saltNow 46 = .ok (.aload_n 0, 1) := dk_42 (dk_at dksX9_saltNow_1 22 rfl rfl)
theorem dX9_saltNow_47 : decode cX9_saltNow 47 = .ok (.iload_n 2, 1) := dk_28 (dk_at dksX9_saltNow_1 23 rfl rfl)
theorem dX9_saltNow_48 : decode cX9_saltNow 48 = .ok (.iconst 1, 1) := dk_4 (dk_at dksX9_saltNow_2 0 rfl rfl)
theorem dX9_saltNow_49 : decode cX9_saltNow 49 = .ok (.isub, 1) := dk_100 (dk_at dksX9_saltNow_2 1 rfl rfl)
theorem dX9_saltNow_50 : decode cX9_saltNow 50 = .ok (.putfield 155, 3) := dk_181 0 155 (dk_at dksX9_saltNow_2 2 rfl rfl)
theorem dX9_saltNow_53 : decode cX9_saltNow 53 = .ok (.iconst 1, 1) := dk_4 (dk_at dksX9_saltNow_2 5 rfl rfl)
theorem dX9_saltNow_54 : decode cX9_saltNow 54 = .ok (.ireturn, 1) := dk_172 (dk_at dksX9_saltNow_2 6 rfl rfl)
abbrev cX9_recallNow : ByteArray := prog_17_method_40_code
def yX9_recallNow : MethodName := ⟨RX9, "recallNow", "(I)Z"⟩
def dkwX9_recallNow_1 : List UInt8 := [182, 0, 113, 42, 42, 27, 3, 182, 0, 70, 181, 0, 155, 4, 172]
abbrev dktX9_recallNow_1 : List UInt8 := dkwX9_recallNow_1 ++ []
def dkwX9_recallNow_0 : List UInt8 := [42, 27, 6, 182, 0, 70, 4, 160, 0, 15, 42, 27, 6, 3, 182, 0, 87, 42, 6, 182, 0, 91, 42, 27]
abbrev dktX9_recallNow_0 : List UInt8 := dkwX9_recallNow_0 ++ dktX9_recallNow_1
theorem dksX9_recallNow_0 : cX9_recallNow.data.toList.drop 0 = dktX9_recallNow_0 := by decide +kernel
theorem dksX9_recallNow_1 : cX9_recallNow.data.toList.drop 24 = dktX9_recallNow_1 := dk_seg dksX9_recallNow_0 24 rfl rfl
theorem dX9_recallNow_0 : decode cX9_recallNow 0 = .ok (.aload_n 0, 1) := dk_42 (dk_at dksX9_recallNow_0 0 rfl rfl)
theorem dX9_recallNow_1 : decode cX9_recallNow 1 = .ok (.iload_n 1, 1) := dk_27 (dk_at dksX9_recallNow_0 1 rfl rfl)
theorem dX9_recallNow_2 : decode cX9_recallNow 2 = .ok (.iconst 3, 1) := dk_6 (dk_at dksX9_recallNow_0 2 rfl rfl)
theorem dX9_recallNow_3 : decode cX9_recallNow 3 = .ok (.invokevirtual 70, 3) := dk_182 0 70 (dk_at dksX9_recallNow_0 3 rfl rfl)
theorem dX9_recallNow_6 : decode cX9_recallNow 6 = .ok (.iconst 1, 1) := dk_4 (dk_at dksX9_recallNow_0 6 rfl rfl)
theorem dX9_recallNow_7 : decode cX9_recallNow 7 = .ok (.if_icmp .ne 15, 3) := dk_160 0 15 (dk_at dksX9_recallNow_0 7 rfl rfl)
theorem dX9_recallNow_10 : decode cX9_recallNow 10 = .ok (.aload_n 0, 1) := dk_42 (dk_at dksX9_recallNow_0 10 rfl rfl)
theorem dX9_recallNow_11 : decode cX9_recallNow 11 = .ok (.iload_n 1, 1) := dk_27 (dk_at dksX9_recallNow_0 11 rfl rfl)
theorem dX9_recallNow_12 : decode cX9_recallNow 12 = .ok (.iconst 3, 1) := dk_6 (dk_at dksX9_recallNow_0 12 rfl rfl)
theorem dX9_recallNow_13 : decode cX9_recallNow 13 = .ok (.iconst 0, 1) := dk_3 (dk_at dksX9_recallNow_0 13 rfl rfl)
theorem dX9_recallNow_14 : decode cX9_recallNow 14 = .ok (.invokevirtual 87, 3) := dk_182 0 87 (dk_at dksX9_recallNow_0 14 rfl rfl)
theorem dX9_recallNow_17 : decode cX9_recallNow 17 = .ok (.aload_n 0, 1) := dk_42 (dk_at dksX9_recallNow_0 17 rfl rfl)
theorem dX9_recallNow_18 : decode cX9_recallNow 18 = .ok (.iconst 3, 1) := dk_6 (dk_at dksX9_recallNow_0 18 rfl rfl)
theorem dX9_recallNow_19 : decode cX9_recallNow 19 = .ok (.invokevirtual 91, 3) := dk_182 0 91 (dk_at dksX9_recallNow_0 19 rfl rfl)
theorem dX9_recallNow_22 : decode cX9_recallNow 22 = .ok (.aload_n 0, 1) := dk_42 (dk_at dksX9_recallNow_0 22 rfl rfl)
theorem dX9_recallNow_23 : decode cX9_recallNow 23 = .ok (.iload_n 1, 1) := dk_27 (dk_at dksX9_recallNow_0 23 rfl rfl)
theorem dX9_recallNow_24 : decode cX9_recallNow 24 = .ok (.invokevirtual 113, 3) := dk_182 0 113 (dk_at dksX9_recallNow_1 0 rfl rfl)
theorem dX9_recallNow_27 : decode cX9_recallNow 27 = .ok (.aload_n 0, 1) := dk_42 (dk_at dksX9_recallNow_1 3 rfl rfl)
theorem dX9_recallNow_28 : decode cX9_recallNow 28 = .ok (.aload_n 0, 1) := dk_42 (dk_at dksX9_recallNow_1 4 rfl rfl)
theorem dX9_recallNow_29 : decode cX9_recallNow 29 = .ok (.iload_n 1, 1) := dk_27 (dk_at dksX9_recallNow_1 5 rfl rfl)
theorem dX9_recallNow_30 : decode cX9_recallNow 30 = .ok (.iconst 0, 1) := dk_3 (dk_at dksX9_recallNow_1 6 rfl rfl)
theorem dX9_recallNow_31 : decode cX9_recallNow 31 = .ok (.invokevirtual 70, 3) := dk_182 0 70 (dk_at dksX9_recallNow_1 7 rfl rfl)
theorem dX9_recallNow_34 : decode cX9_recallNow 34 = .ok (.putfield 155, 3) := dk_181 0 155 (dk_at dksX9_recallNow_1 10 rfl rfl)
theorem dX9_recallNow_37 : decode cX9_recallNow 37 = .ok (.iconst 1, 1) := dk_4 (dk_at dksX9_recallNow_1 13 rfl rfl)
theorem dX9_recallNow_38 : decode cX9_recallNow 38 = .ok (.ireturn, 1) := dk_172 (dk_at dksX9_recallNow_1 14 rfl rfl)
abbrev cX9_sacksNow : ByteArray := prog_17_method_41_code
def yX9_sacksNow : MethodName := ⟨RX9, "sacksNow", "(II)Z"⟩
def dkwX9_sacksNow_1 : List UInt8 := [182, 0, 70, 181, 0, 155, 4, 172]
abbrev dktX9_sacksNow_1 : List UInt8 := dkwX9_sacksNow_1 ++ []
def dkwX9_sacksNow_0 : List UInt8 := [42, 27, 5, 16, 99, 42, 27, 5, 182, 0, 70, 28, 96, 184, 0, 99, 182, 0, 87, 42, 42, 27, 5]
abbrev dktX9_sacksNow_0 : List UInt8 := dkwX9_sacksNow_0 ++ dktX9_sacksNow_1
theorem dksX9_sacksNow_0 : cX9_sacksNow.data.toList.drop 0 = dktX9_sacksNow_0 := by decide +kernel
theorem dksX9_sacksNow_1 : cX9_sacksNow.data.toList.drop 23 = dktX9_sacksNow_1 := dk_seg dksX9_sacksNow_0 23 rfl rfl
theorem dX9_sacksNow_0 : decode cX9_sacksNow 0 = .ok (.aload_n 0, 1) := dk_42 (dk_at dksX9_sacksNow_0 0 rfl rfl)
theorem dX9_sacksNow_1 : decode cX9_sacksNow 1 = .ok (.iload_n 1, 1) := dk_27 (dk_at dksX9_sacksNow_0 1 rfl rfl)
theorem dX9_sacksNow_2 : decode cX9_sacksNow 2 = .ok (.iconst 2, 1) := dk_5 (dk_at dksX9_sacksNow_0 2 rfl rfl)
theorem dX9_sacksNow_3 : decode cX9_sacksNow 3 = .ok (.bipush 99, 2) := dk_16 99 (dk_at dksX9_sacksNow_0 3 rfl rfl)
theorem dX9_sacksNow_5 : decode cX9_sacksNow 5 = .ok (.aload_n 0, 1) := dk_42 (dk_at dksX9_sacksNow_0 5 rfl rfl)
theorem dX9_sacksNow_6 : decode cX9_sacksNow 6 = .ok (.iload_n 1, 1) := dk_27 (dk_at dksX9_sacksNow_0 6 rfl rfl)
theorem dX9_sacksNow_7 : decode cX9_sacksNow 7 = .ok (.iconst 2, 1) := dk_5 (dk_at dksX9_sacksNow_0 7 rfl rfl)
theorem dX9_sacksNow_8 : decode cX9_sacksNow 8 = .ok (.invokevirtual 70, 3) := dk_182 0 70 (dk_at dksX9_sacksNow_0 8 rfl rfl)
theorem dX9_sacksNow_11 : decode cX9_sacksNow 11 = .ok (.iload_n 2, 1) := dk_28 (dk_at dksX9_sacksNow_0 11 rfl rfl)
theorem dX9_sacksNow_12 : decode cX9_sacksNow 12 = .ok (.iadd, 1) := dk_96 (dk_at dksX9_sacksNow_0 12 rfl rfl)
theorem dX9_sacksNow_13 : decode cX9_sacksNow 13 = .ok (.invokestatic 99, 3) := dk_184 0 99 (dk_at dksX9_sacksNow_0 13 rfl rfl)
theorem dX9_sacksNow_16 : decode cX9_sacksNow 16 = .ok (.invokevirtual 87, 3) := dk_182 0 87 (dk_at dksX9_sacksNow_0 16 rfl rfl)
theorem dX9_sacksNow_19 : decode cX9_sacksNow 19 = .ok (.aload_n 0, 1) := dk_42 (dk_at dksX9_sacksNow_0 19 rfl rfl)
theorem dX9_sacksNow_20 : decode cX9_sacksNow 20 = .ok (.aload_n 0, 1) := dk_42 (dk_at dksX9_sacksNow_0 20 rfl rfl)
theorem dX9_sacksNow_21 : decode cX9_sacksNow 21 = .ok (.iload_n 1, 1) := dk_27 (dk_at dksX9_sacksNow_0 21 rfl rfl)
theorem dX9_sacksNow_22 : decode cX9_sacksNow 22 = .ok (.iconst 2, 1) := dk_5 (dk_at dksX9_sacksNow_0 22 rfl rfl)
theorem dX9_sacksNow_23 : decode cX9_sacksNow 23 = .ok (.invokevirtual 70, 3) := dk_182 0 70 (dk_at dksX9_sacksNow_1 0 rfl rfl)
theorem dX9_sacksNow_26 : decode cX9_sacksNow 26 = .ok (.putfield 155, 3) := dk_181 0 155 (dk_at dksX9_sacksNow_1 3 rfl rfl)
theorem dX9_sacksNow_29 : decode cX9_sacksNow 29 = .ok (.iconst 1, 1) := dk_4 (dk_at dksX9_sacksNow_1 6 rfl rfl)
theorem dX9_sacksNow_30 : decode cX9_sacksNow 30 = .ok (.ireturn, 1) := dk_172 (dk_at dksX9_sacksNow_1 7 rfl rfl)
abbrev cX9_setNow : ByteArray := prog_17_method_42_code
def yX9_setNow : MethodName := ⟨RX9, "setNow", "(II)Z"⟩
def dkwX9_setNow_0 : List UInt8 := [42, 42, 180, 0, 7, 27, 46, 181, 0, 155, 42, 180, 0, 7, 27, 28, 79, 4, 172]
abbrev dktX9_setNow_0 : List UInt8 := dkwX9_setNow_0 ++ []
theorem dksX9_setNow_0 : cX9_setNow.data.toList.drop 0 = dktX9_setNow_0 := by decide +kernel
theorem dX9_setNow_0 : decode cX9_setNow 0 = .ok (.aload_n 0, 1) := dk_42 (dk_at dksX9_setNow_0 0 rfl rfl)
theorem dX9_setNow_1 : decode cX9_setNow 1 = .ok (.aload_n 0, 1) := dk_42 (dk_at dksX9_setNow_0 1 rfl rfl)
theorem dX9_setNow_2 : decode cX9_setNow 2 = .ok (.getfield 7, 3) := dk_180 0 7 (dk_at dksX9_setNow_0 2 rfl rfl)
theorem dX9_setNow_5 : decode cX9_setNow 5 = .ok (.iload_n 1, 1) := dk_27 (dk_at dksX9_setNow_0 5 rfl rfl)
theorem dX9_setNow_6 : decode cX9_setNow 6 = .ok (.iaload, 1) := dk_46 (dk_at dksX9_setNow_0 6 rfl rfl)
theorem dX9_setNow_7 : decode cX9_setNow 7 = .ok (.putfield 155, 3) := dk_181 0 155 (dk_at dksX9_setNow_0 7 rfl rfl)
theorem dX9_setNow_10 : decode cX9_setNow 10 = .ok (.aload_n 0, 1) := dk_42 (dk_at dksX9_setNow_0 10 rfl rfl)
theorem dX9_setNow_11 : decode cX9_setNow 11 = .ok (.getfield 7, 3) := dk_180 0 7 (dk_at dksX9_setNow_0 11 rfl rfl)
theorem dX9_setNow_14 : decode cX9_setNow 14 = .ok (.iload_n 1, 1) := dk_27 (dk_at dksX9_setNow_0 14 rfl rfl)
theorem dX9_setNow_15 : decode cX9_setNow 15 = .ok (.iload_n 2, 1) := dk_28 (dk_at dksX9_setNow_0 15 rfl rfl)
theorem dX9_setNow_16 : decode cX9_setNow 16 = .ok (.iastore, 1) := dk_79 (dk_at dksX9_setNow_0 16 rfl rfl)
theorem dX9_setNow_17 : decode cX9_setNow 17 = .ok (.iconst 1, 1) := dk_4 (dk_at dksX9_setNow_0 17 rfl rfl)
theorem dX9_setNow_18 : decode cX9_setNow 18 = .ok (.ireturn, 1) := dk_172 (dk_at dksX9_setNow_0 18 rfl rfl)
abbrev cX9_cancelNow : ByteArray := prog_17_method_47_code
def yX9_cancelNow : MethodName := ⟨RX9, "cancelNow", "(I)Z"⟩
def dkwX9_cancelNow_2 : List UInt8 := [4, 172]
abbrev dktX9_cancelNow_2 : List UInt8 := dkwX9_cancelNow_2 ++ []
def dkwX9_cancelNow_1 : List UInt8 := [42, 180, 0, 7, 16, 13, 92, 46, 4, 96, 79, 42, 42, 180, 0, 7, 16, 125, 28, 96, 46, 181, 0, 155]
abbrev dktX9_cancelNow_1 : List UInt8 := dkwX9_cancelNow_1 ++ dktX9_cancelNow_2
def dkwX9_cancelNow_0 : List UInt8 := [42, 27, 182, 0, 161, 61, 28, 2, 160, 0, 5, 3, 172, 42, 28, 42, 28, 27, 182, 0, 158, 182, 0, 127]
abbrev dktX9_cancelNow_0 : List UInt8 := dkwX9_cancelNow_0 ++ dktX9_cancelNow_1
theorem dksX9_cancelNow_0 : cX9_cancelNow.data.toList.drop 0 = dktX9_cancelNow_0 := by decide +kernel
theorem dksX9_cancelNow_1 : cX9_cancelNow.data.toList.drop 24 = dktX9_cancelNow_1 := dk_seg dksX9_cancelNow_0 24 rfl rfl
theorem dksX9_cancelNow_2 : cX9_cancelNow.data.toList.drop 48 = dktX9_cancelNow_2 := dk_seg dksX9_cancelNow_1 24 rfl rfl
theorem dX9_cancelNow_0 : decode cX9_cancelNow 0 = .ok (.aload_n 0, 1) := dk_42 (dk_at dksX9_cancelNow_0 0 rfl rfl)
theorem dX9_cancelNow_1 : decode cX9_cancelNow 1 = .ok (.iload_n 1, 1) := dk_27 (dk_at dksX9_cancelNow_0 1 rfl rfl)
theorem dX9_cancelNow_2 : decode cX9_cancelNow 2 = .ok (.invokevirtual 161, 3) := dk_182 0 161 (dk_at dksX9_cancelNow_0 2 rfl rfl)
theorem dX9_cancelNow_5 : decode cX9_cancelNow 5 = .ok (.istore_n 2, 1) := dk_61 (dk_at dksX9_cancelNow_0 5 rfl rfl)
theorem dX9_cancelNow_6 : decode cX9_cancelNow 6 = .ok (.iload_n 2, 1) := dk_28 (dk_at dksX9_cancelNow_0 6 rfl rfl)
theorem dX9_cancelNow_7 : decode cX9_cancelNow 7 = .ok (.iconst (-1), 1) := dk_2 (dk_at dksX9_cancelNow_0 7 rfl rfl)
theorem dX9_cancelNow_8 : decode cX9_cancelNow 8 = .ok (.if_icmp .ne 5, 3) := dk_160 0 5 (dk_at dksX9_cancelNow_0 8 rfl rfl)
theorem dX9_cancelNow_11 : decode cX9_cancelNow 11 = .ok (.iconst 0, 1) := dk_3 (dk_at dksX9_cancelNow_0 11 rfl rfl)
theorem dX9_cancelNow_12 : decode cX9_cancelNow 12 = .ok (.ireturn, 1) := dk_172 (dk_at dksX9_cancelNow_0 12 rfl rfl)
theorem dX9_cancelNow_13 : decode cX9_cancelNow 13 = .ok (.aload_n 0, 1) := dk_42 (dk_at dksX9_cancelNow_0 13 rfl rfl)
theorem dX9_cancelNow_14 : decode cX9_cancelNow 14 = .ok (.iload_n 2, 1) := dk_28 (dk_at dksX9_cancelNow_0 14 rfl rfl)
theorem dX9_cancelNow_15 : decode cX9_cancelNow 15 = .ok (.aload_n 0, 1) := dk_42 (dk_at dksX9_cancelNow_0 15 rfl rfl)
theorem dX9_cancelNow_16 : decode cX9_cancelNow 16 = .ok (.iload_n 2, 1) := dk_28 (dk_at dksX9_cancelNow_0 16 rfl rfl)
theorem dX9_cancelNow_17 : decode cX9_cancelNow 17 = .ok (.iload_n 1, 1) := dk_27 (dk_at dksX9_cancelNow_0 17 rfl rfl)
theorem dX9_cancelNow_18 : decode cX9_cancelNow 18 = .ok (.invokevirtual 158, 3) := dk_182 0 158 (dk_at dksX9_cancelNow_0 18 rfl rfl)
theorem dX9_cancelNow_21 : decode cX9_cancelNow 21 = .ok (.invokevirtual 127, 3) := dk_182 0 127 (dk_at dksX9_cancelNow_0 21 rfl rfl)
theorem dX9_cancelNow_24 : decode cX9_cancelNow 24 = .ok (.aload_n 0, 1) := dk_42 (dk_at dksX9_cancelNow_1 0 rfl rfl)
theorem dX9_cancelNow_25 : decode cX9_cancelNow 25 = .ok (.getfield 7, 3) := dk_180 0 7 (dk_at dksX9_cancelNow_1 1 rfl rfl)
theorem dX9_cancelNow_28 : decode cX9_cancelNow 28 = .ok (.bipush 13, 2) := dk_16 13 (dk_at dksX9_cancelNow_1 4 rfl rfl)
theorem dX9_cancelNow_30 : decode cX9_cancelNow 30 = .ok (.dup2, 1) := dk_92 (dk_at dksX9_cancelNow_1 6 rfl rfl)
theorem dX9_cancelNow_31 : decode cX9_cancelNow 31 = .ok (.iaload, 1) := dk_46 (dk_at dksX9_cancelNow_1 7 rfl rfl)
theorem dX9_cancelNow_32 : decode cX9_cancelNow 32 = .ok (.iconst 1, 1) := dk_4 (dk_at dksX9_cancelNow_1 8 rfl rfl)
theorem dX9_cancelNow_33 : decode cX9_cancelNow 33 = .ok (.iadd, 1) := dk_96 (dk_at dksX9_cancelNow_1 9 rfl rfl)
theorem dX9_cancelNow_34 : decode cX9_cancelNow 34 = .ok (.iastore, 1) := dk_79 (dk_at dksX9_cancelNow_1 10 rfl rfl)
theorem dX9_cancelNow_35 : decode cX9_cancelNow 35 = .ok (.aload_n 0, 1) := dk_42 (dk_at dksX9_cancelNow_1 11 rfl rfl)
theorem dX9_cancelNow_36 : decode cX9_cancelNow 36 = .ok (.aload_n 0, 1) := dk_42 (dk_at dksX9_cancelNow_1 12 rfl rfl)
theorem dX9_cancelNow_37 : decode cX9_cancelNow 37 = .ok (.getfield 7, 3) := dk_180 0 7 (dk_at dksX9_cancelNow_1 13 rfl rfl)
theorem dX9_cancelNow_40 : decode cX9_cancelNow 40 = .ok (.bipush 125, 2) := dk_16 125 (dk_at dksX9_cancelNow_1 16 rfl rfl)
theorem dX9_cancelNow_42 : decode cX9_cancelNow 42 = .ok (.iload_n 2, 1) := dk_28 (dk_at dksX9_cancelNow_1 18 rfl rfl)
theorem dX9_cancelNow_43 : decode cX9_cancelNow 43 = .ok (.iadd, 1) := dk_96 (dk_at dksX9_cancelNow_1 19 rfl rfl)
theorem dX9_cancelNow_44 : decode cX9_cancelNow 44 = .ok (.iaload, 1) := dk_46 (dk_at dksX9_cancelNow_1 20 rfl rfl)
theorem dX9_cancelNow_45 : decode cX9_cancelNow 45 = .ok (.putfield 155, 3) := dk_181 0 155 (dk_at dksX9_cancelNow_1 21 rfl rfl)
theorem dX9_cancelNow_48 : decode cX9_cancelNow 48 = .ok (.iconst 1, 1) := dk_4 (dk_at dksX9_cancelNow_2 0 rfl rfl)
theorem dX9_cancelNow_49 : decode cX9_cancelNow 49 = .ok (.ireturn, 1) := dk_172 (dk_at dksX9_cancelNow_2 1 rfl rfl)
abbrev cX9_sideOf : ByteArray := prog_17_method_45_code
def yX9_sideOf : MethodName := ⟨RX9, "sideOf", "(I)I"⟩
def dkwX9_sideOf_1 : List UInt8 := [4, 167, 0, 4, 2, 172]
abbrev dktX9_sideOf_1 : List UInt8 := dkwX9_sideOf_1 ++ []
def dkwX9_sideOf_0 : List UInt8 := [42, 3, 27, 182, 0, 158, 2, 159, 0, 7, 3, 167, 0, 18, 42, 4, 27, 182, 0, 158, 2, 159, 0, 7]
abbrev dktX9_sideOf_0 : List UInt8 := dkwX9_sideOf_0 ++ dktX9_sideOf_1
theorem dksX9_sideOf_0 : cX9_sideOf.data.toList.drop 0 = dktX9_sideOf_0 := by decide +kernel
theorem dksX9_sideOf_1 : cX9_sideOf.data.toList.drop 24 = dktX9_sideOf_1 := dk_seg dksX9_sideOf_0 24 rfl rfl
theorem dX9_sideOf_0 : decode cX9_sideOf 0 = .ok (.aload_n 0, 1) := dk_42 (dk_at dksX9_sideOf_0 0 rfl rfl)
theorem dX9_sideOf_1 : decode cX9_sideOf 1 = .ok (.iconst 0, 1) := dk_3 (dk_at dksX9_sideOf_0 1 rfl rfl)
theorem dX9_sideOf_2 : decode cX9_sideOf 2 = .ok (.iload_n 1, 1) := dk_27 (dk_at dksX9_sideOf_0 2 rfl rfl)
theorem dX9_sideOf_3 : decode cX9_sideOf 3 = .ok (.invokevirtual 158, 3) := dk_182 0 158 (dk_at dksX9_sideOf_0 3 rfl rfl)
theorem dX9_sideOf_6 : decode cX9_sideOf 6 = .ok (.iconst (-1), 1) := dk_2 (dk_at dksX9_sideOf_0 6 rfl rfl)
theorem dX9_sideOf_7 : decode cX9_sideOf 7 = .ok (.if_icmp .eq 7, 3) := dk_159 0 7 (dk_at dksX9_sideOf_0 7 rfl rfl)
theorem dX9_sideOf_10 : decode cX9_sideOf 10 = .ok (.iconst 0, 1) := dk_3 (dk_at dksX9_sideOf_0 10 rfl rfl)
theorem dX9_sideOf_11 : decode cX9_sideOf 11 = .ok (.goto 18, 3) := dk_167 0 18 (dk_at dksX9_sideOf_0 11 rfl rfl)
theorem dX9_sideOf_14 : decode cX9_sideOf 14 = .ok (.aload_n 0, 1) := dk_42 (dk_at dksX9_sideOf_0 14 rfl rfl)
theorem dX9_sideOf_15 : decode cX9_sideOf 15 = .ok (.iconst 1, 1) := dk_4 (dk_at dksX9_sideOf_0 15 rfl rfl)
theorem dX9_sideOf_16 : decode cX9_sideOf 16 = .ok (.iload_n 1, 1) := dk_27 (dk_at dksX9_sideOf_0 16 rfl rfl)
theorem dX9_sideOf_17 : decode cX9_sideOf 17 = .ok (.invokevirtual 158, 3) := dk_182 0 158 (dk_at dksX9_sideOf_0 17 rfl rfl)
theorem dX9_sideOf_20 : decode cX9_sideOf 20 = .ok (.iconst (-1), 1) := dk_2 (dk_at dksX9_sideOf_0 20 rfl rfl)
theorem dX9_sideOf_21 : decode cX9_sideOf 21 = .ok (.if_icmp .eq 7, 3) := dk_159 0 7 (dk_at dksX9_sideOf_0 21 rfl rfl)
theorem dX9_sideOf_24 : decode cX9_sideOf 24 = .ok (.iconst 1, 1) := dk_4 (dk_at dksX9_sideOf_1 0 rfl rfl)
theorem dX9_sideOf_25 : decode cX9_sideOf 25 = .ok (.goto 4, 3) := dk_167 0 4 (dk_at dksX9_sideOf_1 1 rfl rfl)
theorem dX9_sideOf_28 : decode cX9_sideOf 28 = .ok (.iconst (-1), 1) := dk_2 (dk_at dksX9_sideOf_1 4 rfl rfl)
theorem dX9_sideOf_29 : decode cX9_sideOf 29 = .ok (.ireturn, 1) := dk_172 (dk_at dksX9_sideOf_1 5 rfl rfl)
abbrev cX9_placeOf : ByteArray := prog_17_method_44_code
def yX9_placeOf : MethodName := ⟨RX9, "placeOf", "(II)I"⟩
def dkwX9_placeOf_1 : List UInt8 := [160, 0, 5, 29, 172, 132, 3, 1, 167, 255, 227, 2, 172]
abbrev dktX9_placeOf_1 : List UInt8 := dkwX9_placeOf_1 ++ []
def dkwX9_placeOf_0 : List UInt8 := [3, 62, 29, 42, 180, 0, 7, 16, 125, 27, 96, 46, 162, 0, 22, 42, 27, 29, 3, 182, 0, 116, 28]
abbrev dktX9_placeOf_0 : List UInt8 := dkwX9_placeOf_0 ++ dktX9_placeOf_1
theorem dksX9_placeOf_0 : cX9_placeOf.data.toList.drop 0 = dktX9_placeOf_0 := by decide +kernel
theorem dksX9_placeOf_1 : cX9_placeOf.data.toList.drop 23 = dktX9_placeOf_1 := dk_seg dksX9_placeOf_0 23 rfl rfl
theorem dX9_placeOf_0 : decode cX9_placeOf 0 = .ok (.iconst 0, 1) := dk_3 (dk_at dksX9_placeOf_0 0 rfl rfl)
theorem dX9_placeOf_1 : decode cX9_placeOf 1 = .ok (.istore_n 3, 1) := dk_62 (dk_at dksX9_placeOf_0 1 rfl rfl)
theorem dX9_placeOf_2 : decode cX9_placeOf 2 = .ok (.iload_n 3, 1) := dk_29 (dk_at dksX9_placeOf_0 2 rfl rfl)
theorem dX9_placeOf_3 : decode cX9_placeOf 3 = .ok (.aload_n 0, 1) := dk_42 (dk_at dksX9_placeOf_0 3 rfl rfl)
theorem dX9_placeOf_4 : decode cX9_placeOf 4 = .ok (.getfield 7, 3) := dk_180 0 7 (dk_at dksX9_placeOf_0 4 rfl rfl)
theorem dX9_placeOf_7 : decode cX9_placeOf 7 = .ok (.bipush 125, 2) := dk_16 125 (dk_at dksX9_placeOf_0 7 rfl rfl)
theorem dX9_placeOf_9 : decode cX9_placeOf 9 = .ok (.iload_n 1, 1) := dk_27 (dk_at dksX9_placeOf_0 9 rfl rfl)
theorem dX9_placeOf_10 : decode cX9_placeOf 10 = .ok (.iadd, 1) := dk_96 (dk_at dksX9_placeOf_0 10 rfl rfl)
theorem dX9_placeOf_11 : decode cX9_placeOf 11 = .ok (.iaload, 1) := dk_46 (dk_at dksX9_placeOf_0 11 rfl rfl)
theorem dX9_placeOf_12 : decode cX9_placeOf 12 = .ok (.if_icmp .ge 22, 3) := dk_162 0 22 (dk_at dksX9_placeOf_0 12 rfl rfl)
theorem dX9_placeOf_15 : decode cX9_placeOf 15 = .ok (.aload_n 0, 1) := dk_42 (dk_at dksX9_placeOf_0 15 rfl rfl)
theorem dX9_placeOf_16 : decode cX9_placeOf 16 = .ok (.iload_n 1, 1) := dk_27 (dk_at dksX9_placeOf_0 16 rfl rfl)
theorem dX9_placeOf_17 : decode cX9_placeOf 17 = .ok (.iload_n 3, 1) := dk_29 (dk_at dksX9_placeOf_0 17 rfl rfl)
theorem dX9_placeOf_18 : decode cX9_placeOf 18 = .ok (.iconst 0, 1) := dk_3 (dk_at dksX9_placeOf_0 18 rfl rfl)
theorem dX9_placeOf_19 : decode cX9_placeOf 19 = .ok (.invokevirtual 116, 3) := dk_182 0 116 (dk_at dksX9_placeOf_0 19 rfl rfl)
theorem dX9_placeOf_22 : decode cX9_placeOf 22 = .ok (.iload_n 2, 1) := dk_28 (dk_at dksX9_placeOf_0 22 rfl rfl)
theorem dX9_placeOf_23 : decode cX9_placeOf 23 = .ok (.if_icmp .ne 5, 3) := dk_160 0 5 (dk_at dksX9_placeOf_1 0 rfl rfl)
theorem dX9_placeOf_26 : decode cX9_placeOf 26 = .ok (.iload_n 3, 1) := dk_29 (dk_at dksX9_placeOf_1 3 rfl rfl)
theorem dX9_placeOf_27 : decode cX9_placeOf 27 = .ok (.ireturn, 1) := dk_172 (dk_at dksX9_placeOf_1 4 rfl rfl)
theorem dX9_placeOf_28 : decode cX9_placeOf 28 = .ok (.iinc 3 1, 3) := dk_132 3 1 (dk_at dksX9_placeOf_1 5 rfl rfl)
theorem dX9_placeOf_31 : decode cX9_placeOf 31 = .ok (.goto (-29), 3) := dk_167 255 227 (dk_at dksX9_placeOf_1 8 rfl rfl)
theorem dX9_placeOf_34 : decode cX9_placeOf 34 = .ok (.iconst (-1), 1) := dk_2 (dk_at dksX9_placeOf_1 11 rfl rfl)
theorem dX9_placeOf_35 : decode cX9_placeOf 35 = .ok (.ireturn, 1) := dk_172 (dk_at dksX9_placeOf_1 12 rfl rfl)
abbrev cX9_segmentCount : ByteArray := prog_17_method_80_code
def yX9_segmentCount : MethodName := ⟨RX9, "segmentCount", "()I"⟩
def dkwX9_segmentCount_0 : List UInt8 := [42, 3, 182, 1, 73, 172]
abbrev dktX9_segmentCount_0 : List UInt8 := dkwX9_segmentCount_0 ++ []
theorem dksX9_segmentCount_0 : cX9_segmentCount.data.toList.drop 0 = dktX9_segmentCount_0 := by decide +kernel
theorem dX9_segmentCount_0 : decode cX9_segmentCount 0 = .ok (.aload_n 0, 1) := dk_42 (dk_at dksX9_segmentCount_0 0 rfl rfl)
theorem dX9_segmentCount_1 : decode cX9_segmentCount 1 = .ok (.iconst 0, 1) := dk_3 (dk_at dksX9_segmentCount_0 1 rfl rfl)
theorem dX9_segmentCount_2 : decode cX9_segmentCount 2 = .ok (.invokevirtual 329, 3) := dk_182 1 73 (dk_at dksX9_segmentCount_0 2 rfl rfl)
theorem dX9_segmentCount_5 : decode cX9_segmentCount 5 = .ok (.ireturn, 1) := dk_172 (dk_at dksX9_segmentCount_0 5 rfl rfl)
abbrev cX9_tells : ByteArray := prog_17_method_79_code
def yX9_tells : MethodName := ⟨RX9, "tells", "(I)I"⟩
def dkwX9_tells_0 : List UInt8 := [42, 3, 181, 0, 55, 42, 180, 0, 7, 27, 46, 172]
abbrev dktX9_tells_0 : List UInt8 := dkwX9_tells_0 ++ []
theorem dksX9_tells_0 : cX9_tells.data.toList.drop 0 = dktX9_tells_0 := by decide +kernel
theorem dX9_tells_0 : decode cX9_tells 0 = .ok (.aload_n 0, 1) := dk_42 (dk_at dksX9_tells_0 0 rfl rfl)
theorem dX9_tells_1 : decode cX9_tells 1 = .ok (.iconst 0, 1) := dk_3 (dk_at dksX9_tells_0 1 rfl rfl)
theorem dX9_tells_2 : decode cX9_tells 2 = .ok (.putfield 55, 3) := dk_181 0 55 (dk_at dksX9_tells_0 2 rfl rfl)
theorem dX9_tells_5 : decode cX9_tells 5 = .ok (.aload_n 0, 1) := dk_42 (dk_at dksX9_tells_0 5 rfl rfl)
theorem dX9_tells_6 : decode cX9_tells 6 = .ok (.getfield 7, 3) := dk_180 0 7 (dk_at dksX9_tells_0 6 rfl rfl)
theorem dX9_tells_9 : decode cX9_tells 9 = .ok (.iload_n 1, 1) := dk_27 (dk_at dksX9_tells_0 9 rfl rfl)
theorem dX9_tells_10 : decode cX9_tells 10 = .ok (.iaload, 1) := dk_46 (dk_at dksX9_tells_0 10 rfl rfl)
theorem dX9_tells_11 : decode cX9_tells 11 = .ok (.ireturn, 1) := dk_172 (dk_at dksX9_tells_0 11 rfl rfl)
abbrev cX9_summit : ByteArray := prog_17_method_81_code
def yX9_summit : MethodName := ⟨RX9, "summit", "()I"⟩
def dkwX9_summit_0 : List UInt8 := [42, 4, 182, 1, 73, 172]
abbrev dktX9_summit_0 : List UInt8 := dkwX9_summit_0 ++ []
theorem dksX9_summit_0 : cX9_summit.data.toList.drop 0 = dktX9_summit_0 := by decide +kernel
theorem dX9_summit_0 : decode cX9_summit 0 = .ok (.aload_n 0, 1) := dk_42 (dk_at dksX9_summit_0 0 rfl rfl)
theorem dX9_summit_1 : decode cX9_summit 1 = .ok (.iconst 1, 1) := dk_4 (dk_at dksX9_summit_0 1 rfl rfl)
theorem dX9_summit_2 : decode cX9_summit 2 = .ok (.invokevirtual 329, 3) := dk_182 1 73 (dk_at dksX9_summit_0 2 rfl rfl)
theorem dX9_summit_5 : decode cX9_summit 5 = .ok (.ireturn, 1) := dk_172 (dk_at dksX9_summit_0 5 rfl rfl)
abbrev cX9_clock : ByteArray := prog_17_method_82_code
def yX9_clock : MethodName := ⟨RX9, "clock", "()I"⟩
def dkwX9_clock_0 : List UInt8 := [42, 16, 7, 182, 1, 73, 172]
abbrev dktX9_clock_0 : List UInt8 := dkwX9_clock_0 ++ []
theorem dksX9_clock_0 : cX9_clock.data.toList.drop 0 = dktX9_clock_0 := by decide +kernel
theorem dX9_clock_0 : decode cX9_clock 0 = .ok (.aload_n 0, 1) := dk_42 (dk_at dksX9_clock_0 0 rfl rfl)
theorem dX9_clock_1 : decode cX9_clock 1 = .ok (.bipush 7, 2) := dk_16 7 (dk_at dksX9_clock_0 1 rfl rfl)
theorem dX9_clock_3 : decode cX9_clock 3 = .ok (.invokevirtual 329, 3) := dk_182 1 73 (dk_at dksX9_clock_0 3 rfl rfl)
theorem dX9_clock_6 : decode cX9_clock 6 = .ok (.ireturn, 1) := dk_172 (dk_at dksX9_clock_0 6 rfl rfl)
abbrev cX9_isNight : ByteArray := prog_17_method_83_code
def yX9_isNight : MethodName := ⟨RX9, "isNight", "()Z"⟩
def dkwX9_isNight_0 : List UInt8 := [42, 3, 181, 0, 55, 42, 182, 0, 110, 172]
abbrev dktX9_isNight_0 : List UInt8 := dkwX9_isNight_0 ++ []
theorem dksX9_isNight_0 : cX9_isNight.data.toList.drop 0 = dktX9_isNight_0 := by decide +kernel
theorem dX9_isNight_0 : decode cX9_isNight 0 = .ok (.aload_n 0, 1) := dk_42 (dk_at dksX9_isNight_0 0 rfl rfl)
theorem dX9_isNight_1 : decode cX9_isNight 1 = .ok (.iconst 0, 1) := dk_3 (dk_at dksX9_isNight_0 1 rfl rfl)
theorem dX9_isNight_2 : decode cX9_isNight 2 = .ok (.putfield 55, 3) := dk_181 0 55 (dk_at dksX9_isNight_0 2 rfl rfl)
theorem dX9_isNight_5 : decode cX9_isNight 5 = .ok (.aload_n 0, 1) := dk_42 (dk_at dksX9_isNight_0 5 rfl rfl)
theorem dX9_isNight_6 : decode cX9_isNight 6 = .ok (.invokevirtual 110, 3) := dk_182 0 110 (dk_at dksX9_isNight_0 6 rfl rfl)
theorem dX9_isNight_9 : decode cX9_isNight 9 = .ok (.ireturn, 1) := dk_172 (dk_at dksX9_isNight_0 9 rfl rfl)
abbrev cX9_depthOf : ByteArray := prog_17_method_84_code
def yX9_depthOf : MethodName := ⟨RX9, "depthOf", "(I)I"⟩
def dkwX9_depthOf_0 : List UInt8 := [42, 42, 27, 182, 1, 76, 182, 0, 164, 153, 0, 12, 42, 27, 3, 182, 0, 66, 167, 0, 4, 3, 172]
abbrev dktX9_depthOf_0 : List UInt8 := dkwX9_depthOf_0 ++ []
theorem dksX9_depthOf_0 : cX9_depthOf.data.toList.drop 0 = dktX9_depthOf_0 := by decide +kernel
theorem dX9_depthOf_0 : decode cX9_depthOf 0 = .ok (.aload_n 0, 1) := dk_42 (dk_at dksX9_depthOf_0 0 rfl rfl)
theorem dX9_depthOf_1 : decode cX9_depthOf 1 = .ok (.aload_n 0, 1) := dk_42 (dk_at dksX9_depthOf_0 1 rfl rfl)
theorem dX9_depthOf_2 : decode cX9_depthOf 2 = .ok (.iload_n 1, 1) := dk_27 (dk_at dksX9_depthOf_0 2 rfl rfl)
theorem dX9_depthOf_3 : decode cX9_depthOf 3 = .ok (.invokevirtual 332, 3) := dk_182 1 76 (dk_at dksX9_depthOf_0 3 rfl rfl)
theorem dX9_depthOf_6 : decode cX9_depthOf 6 = .ok (.invokevirtual 164, 3) := dk_182 0 164 (dk_at dksX9_depthOf_0 6 rfl rfl)
theorem dX9_depthOf_9 : decode cX9_depthOf 9 = .ok (.ifCond .eq 12, 3) := dk_153 0 12 (dk_at dksX9_depthOf_0 9 rfl rfl)
theorem dX9_depthOf_12 : decode cX9_depthOf 12 = .ok (.aload_n 0, 1) := dk_42 (dk_at dksX9_depthOf_0 12 rfl rfl)
theorem dX9_depthOf_13 : decode cX9_depthOf 13 = .ok (.iload_n 1, 1) := dk_27 (dk_at dksX9_depthOf_0 13 rfl rfl)
theorem dX9_depthOf_14 : decode cX9_depthOf 14 = .ok (.iconst 0, 1) := dk_3 (dk_at dksX9_depthOf_0 14 rfl rfl)
theorem dX9_depthOf_15 : decode cX9_depthOf 15 = .ok (.invokevirtual 66, 3) := dk_182 0 66 (dk_at dksX9_depthOf_0 15 rfl rfl)
theorem dX9_depthOf_18 : decode cX9_depthOf 18 = .ok (.goto 4, 3) := dk_167 0 4 (dk_at dksX9_depthOf_0 18 rfl rfl)
theorem dX9_depthOf_21 : decode cX9_depthOf 21 = .ok (.iconst 0, 1) := dk_3 (dk_at dksX9_depthOf_0 21 rfl rfl)
theorem dX9_depthOf_22 : decode cX9_depthOf 22 = .ok (.ireturn, 1) := dk_172 (dk_at dksX9_depthOf_0 22 rfl rfl)
abbrev cX9_isSegment : ByteArray := prog_17_method_15_code
def yX9_isSegment : MethodName := ⟨RX9, "isSegment", "(I)Z"⟩
def dkwX9_isSegment_0 : List UInt8 := [27, 133, 9, 42, 180, 0, 7, 3, 46, 4, 100, 133, 184, 0, 62, 172]
abbrev dktX9_isSegment_0 : List UInt8 := dkwX9_isSegment_0 ++ []
theorem dksX9_isSegment_0 : cX9_isSegment.data.toList.drop 0 = dktX9_isSegment_0 := by decide +kernel
theorem dX9_isSegment_0 : decode cX9_isSegment 0 = .ok (.iload_n 1, 1) := dk_27 (dk_at dksX9_isSegment_0 0 rfl rfl)
theorem dX9_isSegment_1 : decode cX9_isSegment 1 = .ok (.i2l, 1) := dk_133 (dk_at dksX9_isSegment_0 1 rfl rfl)
theorem dX9_isSegment_2 : decode cX9_isSegment 2 = .ok (.lconst 0, 1) := dk_9 (dk_at dksX9_isSegment_0 2 rfl rfl)
theorem dX9_isSegment_3 : decode cX9_isSegment 3 = .ok (.aload_n 0, 1) := dk_42 (dk_at dksX9_isSegment_0 3 rfl rfl)
theorem dX9_isSegment_4 : decode cX9_isSegment 4 = .ok (.getfield 7, 3) := dk_180 0 7 (dk_at dksX9_isSegment_0 4 rfl rfl)
theorem dX9_isSegment_7 : decode cX9_isSegment 7 = .ok (.iconst 0, 1) := dk_3 (dk_at dksX9_isSegment_0 7 rfl rfl)
theorem dX9_isSegment_8 : decode cX9_isSegment 8 = .ok (.iaload, 1) := dk_46 (dk_at dksX9_isSegment_0 8 rfl rfl)
theorem dX9_isSegment_9 : decode cX9_isSegment 9 = .ok (.iconst 1, 1) := dk_4 (dk_at dksX9_isSegment_0 9 rfl rfl)
theorem dX9_isSegment_10 : decode cX9_isSegment 10 = .ok (.isub, 1) := dk_100 (dk_at dksX9_isSegment_0 10 rfl rfl)
theorem dX9_isSegment_11 : decode cX9_isSegment 11 = .ok (.i2l, 1) := dk_133 (dk_at dksX9_isSegment_0 11 rfl rfl)
theorem dX9_isSegment_12 : decode cX9_isSegment 12 = .ok (.invokestatic 62, 3) := dk_184 0 62 (dk_at dksX9_isSegment_0 12 rfl rfl)
theorem dX9_isSegment_15 : decode cX9_isSegment 15 = .ok (.ireturn, 1) := dk_172 (dk_at dksX9_isSegment_0 15 rfl rfl)
abbrev cX9_exposureOf : ByteArray := prog_17_method_85_code
def yX9_exposureOf : MethodName := ⟨RX9, "exposureOf", "(I)I"⟩
def dkwX9_exposureOf_0 : List UInt8 := [42, 42, 27, 182, 1, 76, 182, 0, 164, 153, 0, 12, 42, 27, 4, 182, 0, 66, 167, 0, 4, 3, 172]
abbrev dktX9_exposureOf_0 : List UInt8 := dkwX9_exposureOf_0 ++ []
theorem dksX9_exposureOf_0 : cX9_exposureOf.data.toList.drop 0 = dktX9_exposureOf_0 := by decide +kernel
theorem dX9_exposureOf_0 : decode cX9_exposureOf 0 = .ok (.aload_n 0, 1) := dk_42 (dk_at dksX9_exposureOf_0 0 rfl rfl)
theorem dX9_exposureOf_1 : decode cX9_exposureOf 1 = .ok (.aload_n 0, 1) := dk_42 (dk_at dksX9_exposureOf_0 1 rfl rfl)
theorem dX9_exposureOf_2 : decode cX9_exposureOf 2 = .ok (.iload_n 1, 1) := dk_27 (dk_at dksX9_exposureOf_0 2 rfl rfl)
theorem dX9_exposureOf_3 : decode cX9_exposureOf 3 = .ok (.invokevirtual 332, 3) := dk_182 1 76 (dk_at dksX9_exposureOf_0 3 rfl rfl)
theorem dX9_exposureOf_6 : decode cX9_exposureOf 6 = .ok (.invokevirtual 164, 3) := dk_182 0 164 (dk_at dksX9_exposureOf_0 6 rfl rfl)
theorem dX9_exposureOf_9 : decode cX9_exposureOf 9 = .ok (.ifCond .eq 12, 3) := dk_153 0 12 (dk_at dksX9_exposureOf_0 9 rfl rfl)
theorem dX9_exposureOf_12 : decode cX9_exposureOf 12 = .ok (.aload_n 0, 1) := dk_42 (dk_at dksX9_exposureOf_0 12 rfl rfl)
theorem dX9_exposureOf_13 : decode cX9_exposureOf 13 = .ok (.iload_n 1, 1) := dk_27 (dk_at dksX9_exposureOf_0 13 rfl rfl)
theorem dX9_exposureOf_14 : decode cX9_exposureOf 14 = .ok (.iconst 1, 1) := dk_4 (dk_at dksX9_exposureOf_0 14 rfl rfl)
theorem dX9_exposureOf_15 : decode cX9_exposureOf 15 = .ok (.invokevirtual 66, 3) := dk_182 0 66 (dk_at dksX9_exposureOf_0 15 rfl rfl)
theorem dX9_exposureOf_18 : decode cX9_exposureOf 18 = .ok (.goto 4, 3) := dk_167 0 4 (dk_at dksX9_exposureOf_0 18 rfl rfl)
theorem dX9_exposureOf_21 : decode cX9_exposureOf 21 = .ok (.iconst 0, 1) := dk_3 (dk_at dksX9_exposureOf_0 21 rfl rfl)
theorem dX9_exposureOf_22 : decode cX9_exposureOf 22 = .ok (.ireturn, 1) := dk_172 (dk_at dksX9_exposureOf_0 22 rfl rfl)
abbrev cX9_saltHours : ByteArray := prog_17_method_86_code
def yX9_saltHours : MethodName := ⟨RX9, "saltHours", "(I)I"⟩
def dkwX9_saltHours_0 : List UInt8 := [42, 42, 27, 182, 1, 76, 182, 0, 164, 153, 0, 12, 42, 27, 5, 182, 0, 66, 167, 0, 4, 3, 172]
abbrev dktX9_saltHours_0 : List UInt8 := dkwX9_saltHours_0 ++ []
theorem dksX9_saltHours_0 : cX9_saltHours.data.toList.drop 0 = dktX9_saltHours_0 := by decide +kernel
theorem dX9_saltHours_0 : decode cX9_saltHours 0 = .ok (.aload_n 0, 1) := dk_42 (dk_at dksX9_saltHours_0 0 rfl rfl)
theorem dX9_saltHours_1 : decode cX9_saltHours 1 = .ok (.aload_n 0, 1) := dk_42 (dk_at dksX9_saltHours_0 1 rfl rfl)
theorem dX9_saltHours_2 : decode cX9_saltHours 2 = .ok (.iload_n 1, 1) := dk_27 (dk_at dksX9_saltHours_0 2 rfl rfl)
theorem dX9_saltHours_3 : decode cX9_saltHours 3 = .ok (.invokevirtual 332, 3) := dk_182 1 76 (dk_at dksX9_saltHours_0 3 rfl rfl)
theorem dX9_saltHours_6 : decode cX9_saltHours 6 = .ok (.invokevirtual 164, 3) := dk_182 0 164 (dk_at dksX9_saltHours_0 6 rfl rfl)
theorem dX9_saltHours_9 : decode cX9_saltHours 9 = .ok (.ifCond .eq 12, 3) := dk_153 0 12 (dk_at dksX9_saltHours_0 9 rfl rfl)
theorem dX9_saltHours_12 : decode cX9_saltHours 12 = .ok (.aload_n 0, 1) := dk_42 (dk_at dksX9_saltHours_0 12 rfl rfl)
theorem dX9_saltHours_13 : decode cX9_saltHours 13 = .ok (.iload_n 1, 1) := dk_27 (dk_at dksX9_saltHours_0 13 rfl rfl)
theorem dX9_saltHours_14 : decode cX9_saltHours 14 = .ok (.iconst 2, 1) := dk_5 (dk_at dksX9_saltHours_0 14 rfl rfl)
theorem dX9_saltHours_15 : decode cX9_saltHours 15 = .ok (.invokevirtual 66, 3) := dk_182 0 66 (dk_at dksX9_saltHours_0 15 rfl rfl)
theorem dX9_saltHours_18 : decode cX9_saltHours 18 = .ok (.goto 4, 3) := dk_167 0 4 (dk_at dksX9_saltHours_0 18 rfl rfl)
theorem dX9_saltHours_21 : decode cX9_saltHours 21 = .ok (.iconst 0, 1) := dk_3 (dk_at dksX9_saltHours_0 21 rfl rfl)
theorem dX9_saltHours_22 : decode cX9_saltHours 22 = .ok (.ireturn, 1) := dk_172 (dk_at dksX9_saltHours_0 22 rfl rfl)
abbrev cX9_isClear : ByteArray := prog_17_method_87_code
def yX9_isClear : MethodName := ⟨RX9, "isClear", "(I)Z"⟩
def dkwX9_isClear_1 : List UInt8 := [3, 172]
abbrev dktX9_isClear_1 : List UInt8 := dkwX9_isClear_1 ++ []
def dkwX9_isClear_0 : List UInt8 := [42, 42, 27, 182, 1, 76, 182, 0, 164, 153, 0, 15, 42, 27, 182, 0, 80, 153, 0, 7, 4, 167, 0, 4]
abbrev dktX9_isClear_0 : List UInt8 := dkwX9_isClear_0 ++ dktX9_isClear_1
theorem dksX9_isClear_0 : cX9_isClear.data.toList.drop 0 = dktX9_isClear_0 := by decide +kernel
theorem dksX9_isClear_1 : cX9_isClear.data.toList.drop 24 = dktX9_isClear_1 := dk_seg dksX9_isClear_0 24 rfl rfl
theorem dX9_isClear_0 : decode cX9_isClear 0 = .ok (.aload_n 0, 1) := dk_42 (dk_at dksX9_isClear_0 0 rfl rfl)
theorem dX9_isClear_1 : decode cX9_isClear 1 = .ok (.aload_n 0, 1) := dk_42 (dk_at dksX9_isClear_0 1 rfl rfl)
theorem dX9_isClear_2 : decode cX9_isClear 2 = .ok (.iload_n 1, 1) := dk_27 (dk_at dksX9_isClear_0 2 rfl rfl)
theorem dX9_isClear_3 : decode cX9_isClear 3 = .ok (.invokevirtual 332, 3) := dk_182 1 76 (dk_at dksX9_isClear_0 3 rfl rfl)
theorem dX9_isClear_6 : decode cX9_isClear 6 = .ok (.invokevirtual 164, 3) := dk_182 0 164 (dk_at dksX9_isClear_0 6 rfl rfl)
theorem dX9_isClear_9 : decode cX9_isClear 9 = .ok (.ifCond .eq 15, 3) := dk_153 0 15 (dk_at dksX9_isClear_0 9 rfl rfl)
theorem dX9_isClear_12 : decode cX9_isClear 12 = .ok (.aload_n 0, 1) := dk_42 (dk_at dksX9_isClear_0 12 rfl rfl)
theorem dX9_isClear_13 : decode cX9_isClear 13 = .ok (.iload_n 1, 1) := dk_27 (dk_at dksX9_isClear_0 13 rfl rfl)
theorem dX9_isClear_14 : decode cX9_isClear 14 = .ok (.invokevirtual 80, 3) := dk_182 0 80 (dk_at dksX9_isClear_0 14 rfl rfl)
theorem dX9_isClear_17 : decode cX9_isClear 17 = .ok (.ifCond .eq 7, 3) := dk_153 0 7 (dk_at dksX9_isClear_0 17 rfl rfl)
theorem dX9_isClear_20 : decode cX9_isClear 20 = .ok (.iconst 1, 1) := dk_4 (dk_at dksX9_isClear_0 20 rfl rfl)
theorem dX9_isClear_21 : decode cX9_isClear 21 = .ok (.goto 4, 3) := dk_167 0 4 (dk_at dksX9_isClear_0 21 rfl rfl)
theorem dX9_isClear_24 : decode cX9_isClear 24 = .ok (.iconst 0, 1) := dk_3 (dk_at dksX9_isClear_1 0 rfl rfl)
theorem dX9_isClear_25 : decode cX9_isClear 25 = .ok (.ireturn, 1) := dk_172 (dk_at dksX9_isClear_1 1 rfl rfl)
abbrev cX9_snowfall : ByteArray := prog_17_method_88_code
def yX9_snowfall : MethodName := ⟨RX9, "snowfall", "()I"⟩
def dkwX9_snowfall_0 : List UInt8 := [42, 8, 182, 1, 73, 172]
abbrev dktX9_snowfall_0 : List UInt8 := dkwX9_snowfall_0 ++ []
theorem dksX9_snowfall_0 : cX9_snowfall.data.toList.drop 0 = dktX9_snowfall_0 := by decide +kernel
theorem dX9_snowfall_0 : decode cX9_snowfall 0 = .ok (.aload_n 0, 1) := dk_42 (dk_at dksX9_snowfall_0 0 rfl rfl)
theorem dX9_snowfall_1 : decode cX9_snowfall 1 = .ok (.iconst 5, 1) := dk_8 (dk_at dksX9_snowfall_0 1 rfl rfl)
theorem dX9_snowfall_2 : decode cX9_snowfall 2 = .ok (.invokevirtual 329, 3) := dk_182 1 73 (dk_at dksX9_snowfall_0 2 rfl rfl)
theorem dX9_snowfall_5 : decode cX9_snowfall 5 = .ok (.ireturn, 1) := dk_172 (dk_at dksX9_snowfall_0 5 rfl rfl)
abbrev cX9_wind : ByteArray := prog_17_method_89_code
def yX9_wind : MethodName := ⟨RX9, "wind", "()I"⟩
def dkwX9_wind_0 : List UInt8 := [42, 16, 6, 182, 1, 73, 172]
abbrev dktX9_wind_0 : List UInt8 := dkwX9_wind_0 ++ []
theorem dksX9_wind_0 : cX9_wind.data.toList.drop 0 = dktX9_wind_0 := by decide +kernel
theorem dX9_wind_0 : decode cX9_wind 0 = .ok (.aload_n 0, 1) := dk_42 (dk_at dksX9_wind_0 0 rfl rfl)
theorem dX9_wind_1 : decode cX9_wind 1 = .ok (.bipush 6, 2) := dk_16 6 (dk_at dksX9_wind_0 1 rfl rfl)
theorem dX9_wind_3 : decode cX9_wind 3 = .ok (.invokevirtual 329, 3) := dk_182 1 73 (dk_at dksX9_wind_0 3 rfl rfl)
theorem dX9_wind_6 : decode cX9_wind 6 = .ok (.ireturn, 1) := dk_172 (dk_at dksX9_wind_0 6 rfl rfl)
abbrev cX9_clearCount : ByteArray := prog_17_method_91_code
def yX9_clearCount : MethodName := ⟨RX9, "clearCount", "()I"⟩
def dkwX9_clearCount_0 : List UInt8 := [42, 3, 181, 0, 55, 42, 182, 1, 83, 172]
abbrev dktX9_clearCount_0 : List UInt8 := dkwX9_clearCount_0 ++ []
theorem dksX9_clearCount_0 : cX9_clearCount.data.toList.drop 0 = dktX9_clearCount_0 := by decide +kernel
theorem dX9_clearCount_0 : decode cX9_clearCount 0 = .ok (.aload_n 0, 1) := dk_42 (dk_at dksX9_clearCount_0 0 rfl rfl)
theorem dX9_clearCount_1 : decode cX9_clearCount 1 = .ok (.iconst 0, 1) := dk_3 (dk_at dksX9_clearCount_0 1 rfl rfl)
theorem dX9_clearCount_2 : decode cX9_clearCount 2 = .ok (.putfield 55, 3) := dk_181 0 55 (dk_at dksX9_clearCount_0 2 rfl rfl)
theorem dX9_clearCount_5 : decode cX9_clearCount 5 = .ok (.aload_n 0, 1) := dk_42 (dk_at dksX9_clearCount_0 5 rfl rfl)
theorem dX9_clearCount_6 : decode cX9_clearCount 6 = .ok (.invokevirtual 339, 3) := dk_182 1 83 (dk_at dksX9_clearCount_0 6 rfl rfl)
theorem dX9_clearCount_9 : decode cX9_clearCount 9 = .ok (.ireturn, 1) := dk_172 (dk_at dksX9_clearCount_0 9 rfl rfl)
abbrev cX9_clears : ByteArray := prog_17_method_90_code
def yX9_clears : MethodName := ⟨RX9, "clears", "()I"⟩
def dkwX9_clears_1 : List UInt8 := [60, 132, 2, 1, 167, 255, 232, 27, 172]
abbrev dktX9_clears_1 : List UInt8 := dkwX9_clears_1 ++ []
def dkwX9_clears_0 : List UInt8 := [3, 60, 3, 61, 28, 42, 180, 0, 7, 3, 46, 162, 0, 20, 27, 42, 28, 182, 0, 80, 184, 1, 79, 96]
abbrev dktX9_clears_0 : List UInt8 := dkwX9_clears_0 ++ dktX9_clears_1
theorem dksX9_clears_0 : cX9_clears.data.toList.drop 0 = dktX9_clears_0 := by decide +kernel
theorem dksX9_clears_1 : cX9_clears.data.toList.drop 24 = dktX9_clears_1 := dk_seg dksX9_clears_0 24 rfl rfl
theorem dX9_clears_0 : decode cX9_clears 0 = .ok (.iconst 0, 1) := dk_3 (dk_at dksX9_clears_0 0 rfl rfl)
theorem dX9_clears_1 : decode cX9_clears 1 = .ok (.istore_n 1, 1) := dk_60 (dk_at dksX9_clears_0 1 rfl rfl)
theorem dX9_clears_2 : decode cX9_clears 2 = .ok (.iconst 0, 1) := dk_3 (dk_at dksX9_clears_0 2 rfl rfl)
theorem dX9_clears_3 : decode cX9_clears 3 = .ok (.istore_n 2, 1) := dk_61 (dk_at dksX9_clears_0 3 rfl rfl)
theorem dX9_clears_4 : decode cX9_clears 4 = .ok (.iload_n 2, 1) := dk_28 (dk_at dksX9_clears_0 4 rfl rfl)
theorem dX9_clears_5 : decode cX9_clears 5 = .ok (.aload_n 0, 1) := dk_42 (dk_at dksX9_clears_0 5 rfl rfl)
theorem dX9_clears_6 : decode cX9_clears 6 = .ok (.getfield 7, 3) := dk_180 0 7 (dk_at dksX9_clears_0 6 rfl rfl)
theorem dX9_clears_9 : decode cX9_clears 9 = .ok (.iconst 0, 1) := dk_3 (dk_at dksX9_clears_0 9 rfl rfl)
theorem dX9_clears_10 : decode cX9_clears 10 = .ok (.iaload, 1) := dk_46 (dk_at dksX9_clears_0 10 rfl rfl)
theorem dX9_clears_11 : decode cX9_clears 11 = .ok (.if_icmp .ge 20, 3) := dk_162 0 20 (dk_at dksX9_clears_0 11 rfl rfl)
theorem dX9_clears_14 : decode cX9_clears 14 = .ok (.iload_n 1, 1) := dk_27 (dk_at dksX9_clears_0 14 rfl rfl)
theorem dX9_clears_15 : decode cX9_clears 15 = .ok (.aload_n 0, 1) := dk_42 (dk_at dksX9_clears_0 15 rfl rfl)
theorem dX9_clears_16 : decode cX9_clears 16 = .ok (.iload_n 2, 1) := dk_28 (dk_at dksX9_clears_0 16 rfl rfl)
theorem dX9_clears_17 : decode cX9_clears 17 = .ok (.invokevirtual 80, 3) := dk_182 0 80 (dk_at dksX9_clears_0 17 rfl rfl)
theorem dX9_clears_20 : decode cX9_clears 20 = .ok (.invokestatic 335, 3) := dk_184 1 79 (dk_at dksX9_clears_0 20 rfl rfl)
theorem dX9_clears_23 : decode cX9_clears 23 = .ok (.iadd, 1) := dk_96 (dk_at dksX9_clears_0 23 rfl rfl)
theorem dX9_clears_24 : decode cX9_clears 24 = .ok (.istore_n 1, 1) := dk_60 (dk_at dksX9_clears_1 0 rfl rfl)
theorem dX9_clears_25 : decode cX9_clears 25 = .ok (.iinc 2 1, 3) := dk_132 2 1 (dk_at dksX9_clears_1 1 rfl rfl)
theorem dX9_clears_28 : decode cX9_clears 28 = .ok (.goto (-24), 3) := dk_167 255 232 (dk_at dksX9_clears_1 4 rfl rfl)
theorem dX9_clears_31 : decode cX9_clears 31 = .ok (.iload_n 1, 1) := dk_27 (dk_at dksX9_clears_1 7 rfl rfl)
theorem dX9_clears_32 : decode cX9_clears 32 = .ok (.ireturn, 1) := dk_172 (dk_at dksX9_clears_1 8 rfl rfl)
abbrev cX9_truth : ByteArray := prog_17_method_4_code
def yX9_truth : MethodName := ⟨RX9, "truth", "(Z)I"⟩
def dkwX9_truth_0 : List UInt8 := [26, 153, 0, 7, 4, 167, 0, 4, 3, 172]
abbrev dktX9_truth_0 : List UInt8 := dkwX9_truth_0 ++ []
theorem dksX9_truth_0 : cX9_truth.data.toList.drop 0 = dktX9_truth_0 := by decide +kernel
theorem dX9_truth_0 : decode cX9_truth 0 = .ok (.iload_n 0, 1) := dk_26 (dk_at dksX9_truth_0 0 rfl rfl)
theorem dX9_truth_1 : decode cX9_truth 1 = .ok (.ifCond .eq 7, 3) := dk_153 0 7 (dk_at dksX9_truth_0 1 rfl rfl)
theorem dX9_truth_4 : decode cX9_truth 4 = .ok (.iconst 1, 1) := dk_4 (dk_at dksX9_truth_0 4 rfl rfl)
theorem dX9_truth_5 : decode cX9_truth 5 = .ok (.goto 4, 3) := dk_167 0 4 (dk_at dksX9_truth_0 5 rfl rfl)
theorem dX9_truth_8 : decode cX9_truth 8 = .ok (.iconst 0, 1) := dk_3 (dk_at dksX9_truth_0 8 rfl rfl)
theorem dX9_truth_9 : decode cX9_truth 9 = .ok (.ireturn, 1) := dk_172 (dk_at dksX9_truth_0 9 rfl rfl)
abbrev cX9_deepestSegment : ByteArray := prog_17_method_92_code
def yX9_deepestSegment : MethodName := ⟨RX9, "deepestSegment", "()I"⟩
def dkwX9_deepestSegment_0 : List UInt8 := [42, 3, 181, 0, 55, 42, 182, 0, 73, 172]
abbrev dktX9_deepestSegment_0 : List UInt8 := dkwX9_deepestSegment_0 ++ []
theorem dksX9_deepestSegment_0 : cX9_deepestSegment.data.toList.drop 0 = dktX9_deepestSegment_0 := by decide +kernel
theorem dX9_deepestSegment_0 : decode cX9_deepestSegment 0 = .ok (.aload_n 0, 1) := dk_42 (dk_at dksX9_deepestSegment_0 0 rfl rfl)
theorem dX9_deepestSegment_1 : decode cX9_deepestSegment 1 = .ok (.iconst 0, 1) := dk_3 (dk_at dksX9_deepestSegment_0 1 rfl rfl)
theorem dX9_deepestSegment_2 : decode cX9_deepestSegment 2 = .ok (.putfield 55, 3) := dk_181 0 55 (dk_at dksX9_deepestSegment_0 2 rfl rfl)
theorem dX9_deepestSegment_5 : decode cX9_deepestSegment 5 = .ok (.aload_n 0, 1) := dk_42 (dk_at dksX9_deepestSegment_0 5 rfl rfl)
theorem dX9_deepestSegment_6 : decode cX9_deepestSegment 6 = .ok (.invokevirtual 73, 3) := dk_182 0 73 (dk_at dksX9_deepestSegment_0 6 rfl rfl)
theorem dX9_deepestSegment_9 : decode cX9_deepestSegment 9 = .ok (.ireturn, 1) := dk_172 (dk_at dksX9_deepestSegment_0 9 rfl rfl)
abbrev cX9_totalDepth : ByteArray := prog_17_method_93_code
def yX9_totalDepth : MethodName := ⟨RX9, "totalDepth", "()I"⟩
def dkwX9_totalDepth_0 : List UInt8 := [42, 3, 181, 0, 55, 42, 182, 1, 10, 172]
abbrev dktX9_totalDepth_0 : List UInt8 := dkwX9_totalDepth_0 ++ []
theorem dksX9_totalDepth_0 : cX9_totalDepth.data.toList.drop 0 = dktX9_totalDepth_0 := by decide +kernel
theorem dX9_totalDepth_0 : decode cX9_totalDepth 0 = .ok (.aload_n 0, 1) := dk_42 (dk_at dksX9_totalDepth_0 0 rfl rfl)
theorem dX9_totalDepth_1 : decode cX9_totalDepth 1 = .ok (.iconst 0, 1) := dk_3 (dk_at dksX9_totalDepth_0 1 rfl rfl)
theorem dX9_totalDepth_2 : decode cX9_totalDepth 2 = .ok (.putfield 55, 3) := dk_181 0 55 (dk_at dksX9_totalDepth_0 2 rfl rfl)
theorem dX9_totalDepth_5 : decode cX9_totalDepth 5 = .ok (.aload_n 0, 1) := dk_42 (dk_at dksX9_totalDepth_0 5 rfl rfl)
theorem dX9_totalDepth_6 : decode cX9_totalDepth 6 = .ok (.invokevirtual 266, 3) := dk_182 1 10 (dk_at dksX9_totalDepth_0 6 rfl rfl)
theorem dX9_totalDepth_9 : decode cX9_totalDepth 9 = .ok (.ireturn, 1) := dk_172 (dk_at dksX9_totalDepth_0 9 rfl rfl)
abbrev cX9_ploughPosition : ByteArray := prog_17_method_94_code
def yX9_ploughPosition : MethodName := ⟨RX9, "ploughPosition", "(I)I"⟩
def dkwX9_ploughPosition_0 : List UInt8 := [42, 27, 184, 1, 86, 182, 0, 164, 153, 0, 12, 42, 27, 3, 182, 0, 70, 167, 0, 4, 3, 172]
abbrev dktX9_ploughPosition_0 : List UInt8 := dkwX9_ploughPosition_0 ++ []
theorem dksX9_ploughPosition_0 : cX9_ploughPosition.data.toList.drop 0 = dktX9_ploughPosition_0 := by decide +kernel
theorem dX9_ploughPosition_0 : decode cX9_ploughPosition 0 = .ok (.aload_n 0, 1) := dk_42 (dk_at dksX9_ploughPosition_0 0 rfl rfl)
theorem dX9_ploughPosition_1 : decode cX9_ploughPosition 1 = .ok (.iload_n 1, 1) := dk_27 (dk_at dksX9_ploughPosition_0 1 rfl rfl)
theorem dX9_ploughPosition_2 : decode cX9_ploughPosition 2 = .ok (.invokestatic 342, 3) := dk_184 1 86 (dk_at dksX9_ploughPosition_0 2 rfl rfl)
theorem dX9_ploughPosition_5 : decode cX9_ploughPosition 5 = .ok (.invokevirtual 164, 3) := dk_182 0 164 (dk_at dksX9_ploughPosition_0 5 rfl rfl)
theorem dX9_ploughPosition_8 : decode cX9_ploughPosition 8 = .ok (.ifCond .eq 12, 3) := dk_153 0 12 (dk_at dksX9_ploughPosition_0 8 rfl rfl)
theorem dX9_ploughPosition_11 : decode cX9_ploughPosition 11 = .ok (.aload_n 0, 1) := dk_42 (dk_at dksX9_ploughPosition_0 11 rfl rfl)
theorem dX9_ploughPosition_12 : decode cX9_ploughPosition 12 = .ok (.iload_n 1, 1) := dk_27 (dk_at dksX9_ploughPosition_0 12 rfl rfl)
theorem dX9_ploughPosition_13 : decode cX9_ploughPosition 13 = .ok (.iconst 0, 1) := dk_3 (dk_at dksX9_ploughPosition_0 13 rfl rfl)
theorem dX9_ploughPosition_14 : decode cX9_ploughPosition 14 = .ok (.invokevirtual 70, 3) := dk_182 0 70 (dk_at dksX9_ploughPosition_0 14 rfl rfl)
theorem dX9_ploughPosition_17 : decode cX9_ploughPosition 17 = .ok (.goto 4, 3) := dk_167 0 4 (dk_at dksX9_ploughPosition_0 17 rfl rfl)
theorem dX9_ploughPosition_20 : decode cX9_ploughPosition 20 = .ok (.iconst 0, 1) := dk_3 (dk_at dksX9_ploughPosition_0 20 rfl rfl)
theorem dX9_ploughPosition_21 : decode cX9_ploughPosition 21 = .ok (.ireturn, 1) := dk_172 (dk_at dksX9_ploughPosition_0 21 rfl rfl)
abbrev cX9_isSide : ByteArray := prog_17_method_16_code
def yX9_isSide : MethodName := ⟨RX9, "isSide", "(I)Z"⟩
def dkwX9_isSide_0 : List UInt8 := [26, 133, 9, 10, 184, 0, 62, 172]
abbrev dktX9_isSide_0 : List UInt8 := dkwX9_isSide_0 ++ []
theorem dksX9_isSide_0 : cX9_isSide.data.toList.drop 0 = dktX9_isSide_0 := by decide +kernel
theorem dX9_isSide_0 : decode cX9_isSide 0 = .ok (.iload_n 0, 1) := dk_26 (dk_at dksX9_isSide_0 0 rfl rfl)
theorem dX9_isSide_1 : decode cX9_isSide 1 = .ok (.i2l, 1) := dk_133 (dk_at dksX9_isSide_0 1 rfl rfl)
theorem dX9_isSide_2 : decode cX9_isSide 2 = .ok (.lconst 0, 1) := dk_9 (dk_at dksX9_isSide_0 2 rfl rfl)
theorem dX9_isSide_3 : decode cX9_isSide 3 = .ok (.lconst 1, 1) := dk_10 (dk_at dksX9_isSide_0 3 rfl rfl)
theorem dX9_isSide_4 : decode cX9_isSide 4 = .ok (.invokestatic 62, 3) := dk_184 0 62 (dk_at dksX9_isSide_0 4 rfl rfl)
theorem dX9_isSide_7 : decode cX9_isSide 7 = .ok (.ireturn, 1) := dk_172 (dk_at dksX9_isSide_0 7 rfl rfl)
abbrev cX9_ploughCapacity : ByteArray := prog_17_method_95_code
def yX9_ploughCapacity : MethodName := ⟨RX9, "ploughCapacity", "(I)I"⟩
def dkwX9_ploughCapacity_0 : List UInt8 := [42, 27, 184, 1, 86, 182, 0, 164, 153, 0, 12, 42, 27, 4, 182, 0, 70, 167, 0, 4, 3, 172]
abbrev dktX9_ploughCapacity_0 : List UInt8 := dkwX9_ploughCapacity_0 ++ []
theorem dksX9_ploughCapacity_0 : cX9_ploughCapacity.data.toList.drop 0 = dktX9_ploughCapacity_0 := by decide +kernel
theorem dX9_ploughCapacity_0 : decode cX9_ploughCapacity 0 = .ok (.aload_n 0, 1) := dk_42 (dk_at dksX9_ploughCapacity_0 0 rfl rfl)
theorem dX9_ploughCapacity_1 : decode cX9_ploughCapacity 1 = .ok (.iload_n 1, 1) := dk_27 (dk_at dksX9_ploughCapacity_0 1 rfl rfl)
theorem dX9_ploughCapacity_2 : decode cX9_ploughCapacity 2 = .ok (.invokestatic 342, 3) := dk_184 1 86 (dk_at dksX9_ploughCapacity_0 2 rfl rfl)
theorem dX9_ploughCapacity_5 : decode cX9_ploughCapacity 5 = .ok (.invokevirtual 164, 3) := dk_182 0 164 (dk_at dksX9_ploughCapacity_0 5 rfl rfl)
theorem dX9_ploughCapacity_8 : decode cX9_ploughCapacity 8 = .ok (.ifCond .eq 12, 3) := dk_153 0 12 (dk_at dksX9_ploughCapacity_0 8 rfl rfl)
theorem dX9_ploughCapacity_11 : decode cX9_ploughCapacity 11 = .ok (.aload_n 0, 1) := dk_42 (dk_at dksX9_ploughCapacity_0 11 rfl rfl)
theorem dX9_ploughCapacity_12 : decode cX9_ploughCapacity 12 = .ok (.iload_n 1, 1) := dk_27 (dk_at dksX9_ploughCapacity_0 12 rfl rfl)
theorem dX9_ploughCapacity_13 : decode cX9_ploughCapacity 13 = .ok (.iconst 1, 1) := dk_4 (dk_at dksX9_ploughCapacity_0 13 rfl rfl)
theorem dX9_ploughCapacity_14 : decode cX9_ploughCapacity 14 = .ok (.invokevirtual 70, 3) := dk_182 0 70 (dk_at dksX9_ploughCapacity_0 14 rfl rfl)
theorem dX9_ploughCapacity_17 : decode cX9_ploughCapacity 17 = .ok (.goto 4, 3) := dk_167 0 4 (dk_at dksX9_ploughCapacity_0 17 rfl rfl)
theorem dX9_ploughCapacity_20 : decode cX9_ploughCapacity 20 = .ok (.iconst 0, 1) := dk_3 (dk_at dksX9_ploughCapacity_0 20 rfl rfl)
theorem dX9_ploughCapacity_21 : decode cX9_ploughCapacity 21 = .ok (.ireturn, 1) := dk_172 (dk_at dksX9_ploughCapacity_0 21 rfl rfl)
abbrev cX9_sackCount : ByteArray := prog_17_method_96_code
def yX9_sackCount : MethodName := ⟨RX9, "sackCount", "(I)I"⟩
def dkwX9_sackCount_0 : List UInt8 := [42, 27, 184, 1, 86, 182, 0, 164, 153, 0, 12, 42, 27, 5, 182, 0, 70, 167, 0, 4, 3, 172]
abbrev dktX9_sackCount_0 : List UInt8 := dkwX9_sackCount_0 ++ []
theorem dksX9_sackCount_0 : cX9_sackCount.data.toList.drop 0 = dktX9_sackCount_0 := by decide +kernel
theorem dX9_sackCount_0 : decode cX9_sackCount 0 = .ok (.aload_n 0, 1) := dk_42 (dk_at dksX9_sackCount_0 0 rfl rfl)
theorem dX9_sackCount_1 : decode cX9_sackCount 1 = .ok (.iload_n 1, 1) := dk_27 (dk_at dksX9_sackCount_0 1 rfl rfl)
theorem dX9_sackCount_2 : decode cX9_sackCount 2 = .ok (.invokestatic 342, 3) := dk_184 1 86 (dk_at dksX9_sackCount_0 2 rfl rfl)
theorem dX9_sackCount_5 : decode cX9_sackCount 5 = .ok (.invokevirtual 164, 3) := dk_182 0 164 (dk_at dksX9_sackCount_0 5 rfl rfl)
theorem dX9_sackCount_8 : decode cX9_sackCount 8 = .ok (.ifCond .eq 12, 3) := dk_153 0 12 (dk_at dksX9_sackCount_0 8 rfl rfl)
theorem dX9_sackCount_11 : decode cX9_sackCount 11 = .ok (.aload_n 0, 1) := dk_42 (dk_at dksX9_sackCount_0 11 rfl rfl)
theorem dX9_sackCount_12 : decode cX9_sackCount 12 = .ok (.iload_n 1, 1) := dk_27 (dk_at dksX9_sackCount_0 12 rfl rfl)
theorem dX9_sackCount_13 : decode cX9_sackCount 13 = .ok (.iconst 2, 1) := dk_5 (dk_at dksX9_sackCount_0 13 rfl rfl)
theorem dX9_sackCount_14 : decode cX9_sackCount 14 = .ok (.invokevirtual 70, 3) := dk_182 0 70 (dk_at dksX9_sackCount_0 14 rfl rfl)
theorem dX9_sackCount_17 : decode cX9_sackCount 17 = .ok (.goto 4, 3) := dk_167 0 4 (dk_at dksX9_sackCount_0 17 rfl rfl)
theorem dX9_sackCount_20 : decode cX9_sackCount 20 = .ok (.iconst 0, 1) := dk_3 (dk_at dksX9_sackCount_0 20 rfl rfl)
theorem dX9_sackCount_21 : decode cX9_sackCount 21 = .ok (.ireturn, 1) := dk_172 (dk_at dksX9_sackCount_0 21 rfl rfl)
abbrev cX9_hasSigned : ByteArray := prog_17_method_97_code
def yX9_hasSigned : MethodName := ⟨RX9, "hasSigned", "(I)Z"⟩
def dkwX9_hasSigned_1 : List UInt8 := [167, 0, 4, 3, 172]
abbrev dktX9_hasSigned_1 : List UInt8 := dkwX9_hasSigned_1 ++ []
def dkwX9_hasSigned_0 : List UInt8 := [42, 27, 184, 1, 86, 182, 0, 164, 153, 0, 17, 42, 27, 6, 182, 0, 70, 4, 160, 0, 7, 4]
abbrev dktX9_hasSigned_0 : List UInt8 := dkwX9_hasSigned_0 ++ dktX9_hasSigned_1
theorem dksX9_hasSigned_0 : cX9_hasSigned.data.toList.drop 0 = dktX9_hasSigned_0 := by decide +kernel
theorem dksX9_hasSigned_1 : cX9_hasSigned.data.toList.drop 22 = dktX9_hasSigned_1 := dk_seg dksX9_hasSigned_0 22 rfl rfl
theorem dX9_hasSigned_0 : decode cX9_hasSigned 0 = .ok (.aload_n 0, 1) := dk_42 (dk_at dksX9_hasSigned_0 0 rfl rfl)
theorem dX9_hasSigned_1 : decode cX9_hasSigned 1 = .ok (.iload_n 1, 1) := dk_27 (dk_at dksX9_hasSigned_0 1 rfl rfl)
theorem dX9_hasSigned_2 : decode cX9_hasSigned 2 = .ok (.invokestatic 342, 3) := dk_184 1 86 (dk_at dksX9_hasSigned_0 2 rfl rfl)
theorem dX9_hasSigned_5 : decode cX9_hasSigned 5 = .ok (.invokevirtual 164, 3) := dk_182 0 164 (dk_at dksX9_hasSigned_0 5 rfl rfl)
theorem dX9_hasSigned_8 : decode cX9_hasSigned 8 = .ok (.ifCond .eq 17, 3) := dk_153 0 17 (dk_at dksX9_hasSigned_0 8 rfl rfl)
theorem dX9_hasSigned_11 : decode cX9_hasSigned 11 = .ok (.aload_n 0, 1) := dk_42 (dk_at dksX9_hasSigned_0 11 rfl rfl)
theorem dX9_hasSigned_12 : decode cX9_hasSigned 12 = .ok (.iload_n 1, 1) := dk_27 (dk_at dksX9_hasSigned_0 12 rfl rfl)
theorem dX9_hasSigned_13 : decode cX9_hasSigned 13 = .ok (.iconst 3, 1) := dk_6 (dk_at dksX9_hasSigned_0 13 rfl rfl)
theorem dX9_hasSigned_14 : decode cX9_hasSigned 14 = .ok (.invokevirtual 70, 3) := dk_182 0 70 (dk_at dksX9_hasSigned_0 14 rfl rfl)
theorem dX9_hasSigned_17 : decode cX9_hasSigned 17 = .ok (.iconst 1, 1) := dk_4 (dk_at dksX9_hasSigned_0 17 rfl rfl)
theorem dX9_hasSigned_18 : decode cX9_hasSigned 18 = .ok (.if_icmp .ne 7, 3) := dk_160 0 7 (dk_at dksX9_hasSigned_0 18 rfl rfl)
theorem dX9_hasSigned_21 : decode cX9_hasSigned 21 = .ok (.iconst 1, 1) := dk_4 (dk_at dksX9_hasSigned_0 21 rfl rfl)
theorem dX9_hasSigned_22 : decode cX9_hasSigned 22 = .ok (.goto 4, 3) := dk_167 0 4 (dk_at dksX9_hasSigned_1 0 rfl rfl)
theorem dX9_hasSigned_25 : decode cX9_hasSigned 25 = .ok (.iconst 0, 1) := dk_3 (dk_at dksX9_hasSigned_1 3 rfl rfl)
theorem dX9_hasSigned_26 : decode cX9_hasSigned 26 = .ok (.ireturn, 1) := dk_172 (dk_at dksX9_hasSigned_1 4 rfl rfl)
abbrev cX9_isOpen : ByteArray := prog_17_method_98_code
def yX9_isOpen : MethodName := ⟨RX9, "isOpen", "()Z"⟩
def dkwX9_isOpen_0 : List UInt8 := [42, 3, 181, 0, 55, 42, 182, 0, 95, 172]
abbrev dktX9_isOpen_0 : List UInt8 := dkwX9_isOpen_0 ++ []
theorem dksX9_isOpen_0 : cX9_isOpen.data.toList.drop 0 = dktX9_isOpen_0 := by decide +kernel
theorem dX9_isOpen_0 : decode cX9_isOpen 0 = .ok (.aload_n 0, 1) := dk_42 (dk_at dksX9_isOpen_0 0 rfl rfl)
theorem dX9_isOpen_1 : decode cX9_isOpen 1 = .ok (.iconst 0, 1) := dk_3 (dk_at dksX9_isOpen_0 1 rfl rfl)
theorem dX9_isOpen_2 : decode cX9_isOpen 2 = .ok (.putfield 55, 3) := dk_181 0 55 (dk_at dksX9_isOpen_0 2 rfl rfl)
theorem dX9_isOpen_5 : decode cX9_isOpen 5 = .ok (.aload_n 0, 1) := dk_42 (dk_at dksX9_isOpen_0 5 rfl rfl)
theorem dX9_isOpen_6 : decode cX9_isOpen 6 = .ok (.invokevirtual 95, 3) := dk_182 0 95 (dk_at dksX9_isOpen_0 6 rfl rfl)
theorem dX9_isOpen_9 : decode cX9_isOpen 9 = .ok (.ireturn, 1) := dk_172 (dk_at dksX9_isOpen_0 9 rfl rfl)
abbrev cX9_unclearedOnSide : ByteArray := prog_17_method_99_code
def yX9_unclearedOnSide : MethodName := ⟨RX9, "unclearedOnSide", "(I)I"⟩
def dkwX9_unclearedOnSide_3 : List UInt8 := [54, 4, 167, 255, 221, 28, 172]
abbrev dktX9_unclearedOnSide_3 : List UInt8 := dkwX9_unclearedOnSide_3 ++ []
def dkwX9_unclearedOnSide_2 : List UInt8 := [182, 0, 80, 154, 0, 7, 4, 167, 0, 4, 3, 184, 1, 79, 96, 61, 21, 4, 27, 184, 0, 84, 96]
abbrev dktX9_unclearedOnSide_2 : List UInt8 := dkwX9_unclearedOnSide_2 ++ dktX9_unclearedOnSide_3
def dkwX9_unclearedOnSide_1 : List UInt8 := [184, 0, 84, 96, 62, 42, 27, 182, 0, 76, 54, 4, 21, 4, 29, 159, 0, 35, 28, 42, 21, 4]
abbrev dktX9_unclearedOnSide_1 : List UInt8 := dkwX9_unclearedOnSide_1 ++ dktX9_unclearedOnSide_2
def dkwX9_unclearedOnSide_0 : List UInt8 := [42, 27, 184, 1, 86, 182, 0, 164, 154, 0, 5, 3, 172, 3, 61, 42, 180, 0, 7, 4, 46, 27]
abbrev dktX9_unclearedOnSide_0 : List UInt8 := dkwX9_unclearedOnSide_0 ++ dktX9_unclearedOnSide_1
theorem dksX9_unclearedOnSide_0 : cX9_unclearedOnSide.data.toList.drop 0 = dktX9_unclearedOnSide_0 := by decide +kernel
theorem dksX9_unclearedOnSide_1 : cX9_unclearedOnSide.data.toList.drop 22 = dktX9_unclearedOnSide_1 := dk_seg dksX9_unclearedOnSide_0 22 rfl rfl
theorem dksX9_unclearedOnSide_2 : cX9_unclearedOnSide.data.toList.drop 44 = dktX9_unclearedOnSide_2 := dk_seg dksX9_unclearedOnSide_1 22 rfl rfl
theorem dksX9_unclearedOnSide_3 : cX9_unclearedOnSide.data.toList.drop 67 = dktX9_unclearedOnSide_3 := dk_seg dksX9_unclearedOnSide_2 23 rfl rfl
theorem dX9_unclearedOnSide_0 : decode cX9_unclearedOnSide 0 = .ok (.aload_n 0, 1) := dk_42 (dk_at dksX9_unclearedOnSide_0 0 rfl rfl)
theorem dX9_unclearedOnSide_1 : decode cX9_unclearedOnSide 1 = .ok (.iload_n 1, 1) := dk_27 (dk_at dksX9_unclearedOnSide_0 1 rfl rfl)
theorem dX9_unclearedOnSide_2 : decode cX9_unclearedOnSide 2 = .ok (.invokestatic 342, 3) := dk_184 1 86 (dk_at dksX9_unclearedOnSide_0 2 rfl rfl)
theorem dX9_unclearedOnSide_5 : decode cX9_unclearedOnSide 5 = .ok (.invokevirtual 164, 3) := dk_182 0 164 (dk_at dksX9_unclearedOnSide_0 5 rfl rfl)
theorem dX9_unclearedOnSide_8 : decode cX9_unclearedOnSide 8 = .ok (.ifCond .ne 5, 3) := dk_154 0 5 (dk_at dksX9_unclearedOnSide_0 8 rfl rfl)
theorem dX9_unclearedOnSide_11 : decode cX9_unclearedOnSide 11 = .ok (.iconst 0, 1) := dk_3 (dk_at dksX9_unclearedOnSide_0 11 rfl rfl)
theorem dX9_unclearedOnSide_12 : decode cX9_unclearedOnSide 12 = .ok (.ireturn, 1) := dk_172 (dk_at dksX9_unclearedOnSide_0 12 rfl rfl)
theorem dX9_unclearedOnSide_13 : decode cX9_unclearedOnSide 13 = .ok (.iconst 0, 1) := dk_3 (dk_at dksX9_unclearedOnSide_0 13 rfl rfl)
theorem dX9_unclearedOnSide_14 : decode cX9_unclearedOnSide 14 = .ok (.istore_n 2, 1) := dk_61 (dk_at dksX9_unclearedOnSide_0 14 rfl rfl)
theorem dX9_unclearedOnSide_15 : decode cX9_unclearedOnSide 15 = .ok (.aload_n 0, 1) := dk_42 (dk_at dksX9_unclearedOnSide_0 15 rfl rfl)
theorem dX9_unclearedOnSide_16 : decode cX9_unclearedOnSide 16 = .ok (.getfield 7, 3) := dk_180 0 7 (dk_at dksX9_unclearedOnSide_0 16 rfl rfl)
theorem dX9_unclearedOnSide_19 : decode cX9_unclearedOnSide 19 = .ok (.iconst 1, 1) := dk_4 (dk_at dksX9_unclearedOnSide_0 19 rfl rfl)
theorem dX9_unclearedOnSide_20 : decode cX9_unclearedOnSide 20 = .ok (.iaload, 1) := dk_46 (dk_at dksX9_unclearedOnSide_0 20 rfl rfl)
theorem dX9_unclearedOnSide_21 : decode cX9_unclearedOnSide 21 = .ok (.iload_n 1, 1) := dk_27 (dk_at dksX9_unclearedOnSide_0 21 rfl rfl)
theorem dX9_unclearedOnSide_22 : decode cX9_unclearedOnSide 22 = .ok (.invokestatic 84, 3) := dk_184 0 84 (dk_at dksX9_unclearedOnSide_1 0 rfl rfl)
theorem dX9_unclearedOnSide_25 : decode cX9_unclearedOnSide 25 = .ok (.iadd, 1) := dk_96 (dk_at dksX9_unclearedOnSide_1 3 rfl rfl)
theorem dX9_unclearedOnSide_26 : decode cX9_unclearedOnSide 26 = .ok (.istore_n 3, 1) := dk_62 (dk_at dksX9_unclearedOnSide_1 4 rfl rfl)
theorem dX9_unclearedOnSide_27 : decode cX9_unclearedOnSide 27 = .ok (.aload_n 0, 1) := dk_42 (dk_at dksX9_unclearedOnSide_1 5 rfl rfl)
theorem dX9_unclearedOnSide_28 : decode cX9_unclearedOnSide 28 = .ok (.iload_n 1, 1) := dk_27 (dk_at dksX9_unclearedOnSide_1 6 rfl rfl)
theorem dX9_unclearedOnSide_29 : decode cX9_unclearedOnSide 29 = .ok (.invokevirtual 76, 3) := dk_182 0 76 (dk_at dksX9_unclearedOnSide_1 7 rfl rfl)
theorem dX9_unclearedOnSide_32 : decode cX9_unclearedOnSide 32 = .ok (.istore 4, 2) := dk_54 4 (dk_at dksX9_unclearedOnSide_1 10 rfl rfl)
theorem dX9_unclearedOnSide_34 : decode cX9_unclearedOnSide 34 = .ok (.iload 4, 2) := dk_21 4 (dk_at dksX9_unclearedOnSide_1 12 rfl rfl)
theorem dX9_unclearedOnSide_36 : decode cX9_unclearedOnSide 36 = .ok (.iload_n 3, 1) := dk_29 (dk_at dksX9_unclearedOnSide_1 14 rfl rfl)
theorem dX9_unclearedOnSide_37 : decode cX9_unclearedOnSide 37 = .ok (.if_icmp .eq 35, 3) := dk_159 0 35 (dk_at dksX9_unclearedOnSide_1 15 rfl rfl)
theorem dX9_unclearedOnSide_40 : decode cX9_unclearedOnSide 40 = .ok (.iload_n 2, 1) := dk_28 (dk_at dksX9_unclearedOnSide_1 18 rfl rfl)
theorem dX9_unclearedOnSide_41 : decode cX9_unclearedOnSide 41 = .ok (.aload_n 0, 1) := dk_42 (dk_at dksX9_unclearedOnSide_1 19 rfl rfl)
theorem dX9_unclearedOnSide_42 : decode cX9_unclearedOnSide 42 = .ok (.iload 4, 2) := dk_21 4 (dk_at dksX9_unclearedOnSide_1 20 rfl rfl)
theorem dX9_unclearedOnSide_44 : decode cX9_unclearedOnSide 44 = .ok (.invokevirtual 80, 3) := dk_182 0 80 (dk_at dksX9_unclearedOnSide_2 0 rfl rfl)
theorem dX9_unclearedOnSide_47 : decode cX9_unclearedOnSide 47 = .ok (.ifCond .ne 7, 3) := dk_154 0 7 (dk_at dksX9_unclearedOnSide_2 3 rfl rfl)
theorem dX9_unclearedOnSide_50 : decode cX9_unclearedOnSide 50 = .ok (.iconst 1, 1) := dk_4 (dk_at dksX9_unclearedOnSide_2 6 rfl rfl)
theorem dX9_unclearedOnSide_51 : decode cX9_unclearedOnSide 51 = .ok (.goto 4, 3) := dk_167 0 4 (dk_at dksX9_unclearedOnSide_2 7 rfl rfl)
theorem dX9_unclearedOnSide_54 : decode cX9_unclearedOnSide 54 = .ok (.iconst 0, 1) := dk_3 (dk_at dksX9_unclearedOnSide_2 10 rfl rfl)
theorem dX9_unclearedOnSide_55 : decode cX9_unclearedOnSide 55 = .ok (.invokestatic 335, 3) := dk_184 1 79 (dk_at dksX9_unclearedOnSide_2 11 rfl rfl)
theorem dX9_unclearedOnSide_58 : decode cX9_unclearedOnSide 58 = .ok (.iadd, 1) := dk_96 (dk_at dksX9_unclearedOnSide_2 14 rfl rfl)
theorem dX9_unclearedOnSide_59 : decode cX9_unclearedOnSide 59 = .ok (.istore_n 2, 1) := dk_61 (dk_at dksX9_unclearedOnSide_2 15 rfl rfl)
theorem dX9_unclearedOnSide_60 : decode cX9_unclearedOnSide 60 = .ok (.iload 4, 2) := dk_21 4 (dk_at dksX9_unclearedOnSide_2 16 rfl rfl)
theorem dX9_unclearedOnSide_62 : decode cX9_unclearedOnSide 62 = .ok (.iload_n 1, 1) := dk_27 (dk_at dksX9_unclearedOnSide_2 18 rfl rfl)
theorem dX9_unclearedOnSide_63 : decode cX9_unclearedOnSide 63 = .ok (.invokestatic 84, 3) := dk_184 0 84 (dk_at dksX9_unclearedOnSide_2 19 rfl rfl)
theorem dX9_unclearedOnSide_66 : decode cX9_unclearedOnSide 66 = .ok (.iadd, 1) := dk_96 (dk_at dksX9_unclearedOnSide_2 22 rfl rfl)
theorem dX9_unclearedOnSide_67 : decode cX9_unclearedOnSide 67 = .ok (.istore 4, 2) := dk_54 4 (dk_at dksX9_unclearedOnSide_3 0 rfl rfl)
theorem dX9_unclearedOnSide_69 : decode cX9_unclearedOnSide 69 = .ok (.goto (-35), 3) := dk_167 255 221 (dk_at dksX9_unclearedOnSide_3 2 rfl rfl)
theorem dX9_unclearedOnSide_72 : decode cX9_unclearedOnSide 72 = .ok (.iload_n 2, 1) := dk_28 (dk_at dksX9_unclearedOnSide_3 5 rfl rfl)
theorem dX9_unclearedOnSide_73 : decode cX9_unclearedOnSide 73 = .ok (.ireturn, 1) := dk_172 (dk_at dksX9_unclearedOnSide_3 6 rfl rfl)
abbrev cX9_bookSize : ByteArray := prog_17_method_100_code
def yX9_bookSize : MethodName := ⟨RX9, "bookSize", "()I"⟩
def dkwX9_bookSize_0 : List UInt8 := [42, 16, 9, 182, 1, 73, 172]
abbrev dktX9_bookSize_0 : List UInt8 := dkwX9_bookSize_0 ++ []
theorem dksX9_bookSize_0 : cX9_bookSize.data.toList.drop 0 = dktX9_bookSize_0 := by decide +kernel
theorem dX9_bookSize_0 : decode cX9_bookSize 0 = .ok (.aload_n 0, 1) := dk_42 (dk_at dksX9_bookSize_0 0 rfl rfl)
theorem dX9_bookSize_1 : decode cX9_bookSize 1 = .ok (.bipush 9, 2) := dk_16 9 (dk_at dksX9_bookSize_0 1 rfl rfl)
theorem dX9_bookSize_3 : decode cX9_bookSize 3 = .ok (.invokevirtual 329, 3) := dk_182 1 73 (dk_at dksX9_bookSize_0 3 rfl rfl)
theorem dX9_bookSize_6 : decode cX9_bookSize 6 = .ok (.ireturn, 1) := dk_172 (dk_at dksX9_bookSize_0 6 rfl rfl)
abbrev cX9_entryKind : ByteArray := prog_17_method_102_code
def yX9_entryKind : MethodName := ⟨RX9, "entryKind", "(I)I"⟩
def dkwX9_entryKind_0 : List UInt8 := [42, 27, 3, 182, 1, 89, 172]
abbrev dktX9_entryKind_0 : List UInt8 := dkwX9_entryKind_0 ++ []
theorem dksX9_entryKind_0 : cX9_entryKind.data.toList.drop 0 = dktX9_entryKind_0 := by decide +kernel
theorem dX9_entryKind_0 : decode cX9_entryKind 0 = .ok (.aload_n 0, 1) := dk_42 (dk_at dksX9_entryKind_0 0 rfl rfl)
theorem dX9_entryKind_1 : decode cX9_entryKind 1 = .ok (.iload_n 1, 1) := dk_27 (dk_at dksX9_entryKind_0 1 rfl rfl)
theorem dX9_entryKind_2 : decode cX9_entryKind 2 = .ok (.iconst 0, 1) := dk_3 (dk_at dksX9_entryKind_0 2 rfl rfl)
theorem dX9_entryKind_3 : decode cX9_entryKind 3 = .ok (.invokevirtual 345, 3) := dk_182 1 89 (dk_at dksX9_entryKind_0 3 rfl rfl)
theorem dX9_entryKind_6 : decode cX9_entryKind 6 = .ok (.ireturn, 1) := dk_172 (dk_at dksX9_entryKind_0 6 rfl rfl)
abbrev cX9_entry : ByteArray := prog_17_method_101_code
def yX9_entry : MethodName := ⟨RX9, "entry", "(II)I"⟩
def dkwX9_entry_1 : List UInt8 := [42, 180, 0, 7, 16, 85, 5, 27, 104, 96, 28, 96, 46, 167, 0, 4, 2, 172]
abbrev dktX9_entry_1 : List UInt8 := dkwX9_entry_1 ++ []
def dkwX9_entry_0 : List UInt8 := [42, 3, 181, 0, 55, 27, 133, 9, 42, 180, 0, 7, 16, 9, 46, 4, 100, 133, 184, 0, 62, 153, 0, 19]
abbrev dktX9_entry_0 : List UInt8 := dkwX9_entry_0 ++ dktX9_entry_1
theorem dksX9_entry_0 : cX9_entry.data.toList.drop 0 = dktX9_entry_0 := by decide +kernel
theorem dksX9_entry_1 : cX9_entry.data.toList.drop 24 = dktX9_entry_1 := dk_seg dksX9_entry_0 24 rfl rfl
theorem dX9_entry_0 : decode cX9_entry 0 = .ok (.aload_n 0, 1) := dk_42 (dk_at dksX9_entry_0 0 rfl rfl)
theorem dX9_entry_1 : decode cX9_entry 1 = .ok (.iconst 0, 1) := dk_3 (dk_at dksX9_entry_0 1 rfl rfl)
theorem dX9_entry_2 : decode cX9_entry 2 = .ok (.putfield 55, 3) := dk_181 0 55 (dk_at dksX9_entry_0 2 rfl rfl)
theorem dX9_entry_5 : decode cX9_entry 5 = .ok (.iload_n 1, 1) := dk_27 (dk_at dksX9_entry_0 5 rfl rfl)
theorem dX9_entry_6 : decode cX9_entry 6 = .ok (.i2l, 1) := dk_133 (dk_at dksX9_entry_0 6 rfl rfl)
theorem dX9_entry_7 : decode cX9_entry 7 = .ok (.lconst 0, 1) := dk_9 (dk_at dksX9_entry_0 7 rfl rfl)
theorem dX9_entry_8 : decode cX9_entry 8 = .ok (.aload_n 0, 1) := dk_42 (dk_at dksX9_entry_0 8 rfl rfl)
theorem dX9_entry_9 : decode cX9_entry 9 = .ok (.getfield 7, 3) := dk_180 0 7 (dk_at dksX9_entry_0 9 rfl rfl)
theorem dX9_entry_12 : decode cX9_entry 12 = .ok (.bipush 9, 2) := dk_16 9 (dk_at dksX9_entry_0 12 rfl rfl)
theorem dX9_entry_14 : decode cX9_entry 14 = .ok (.iaload, 1) := dk_46 (dk_at dksX9_entry_0 14 rfl rfl)
theorem dX9_entry_15 : decode cX9_entry 15 = .ok (.iconst 1, 1) := dk_4 (dk_at dksX9_entry_0 15 rfl rfl)
theorem dX9_entry_16 : decode cX9_entry 16 = .ok (.isub, 1) := dk_100 (dk_at dksX9_entry_0 16 rfl rfl)
theorem dX9_entry_17 : decode cX9_entry 17 = .ok (.i2l, 1) := dk_133 (dk_at dksX9_entry_0 17 rfl rfl)
theorem dX9_entry_18 : decode cX9_entry 18 = .ok (.invokestatic 62, 3) := dk_184 0 62 (dk_at dksX9_entry_0 18 rfl rfl)
theorem dX9_entry_21 : decode cX9_entry 21 = .ok (.ifCond .eq 19, 3) := dk_153 0 19 (dk_at dksX9_entry_0 21 rfl rfl)
theorem dX9_entry_24 : decode cX9_entry 24 = .ok (.aload_n 0, 1) := dk_42 (dk_at dksX9_entry_1 0 rfl rfl)
theorem dX9_entry_25 : decode cX9_entry 25 = .ok (.getfield 7, 3) := dk_180 0 7 (dk_at dksX9_entry_1 1 rfl rfl)
theorem dX9_entry_28 : decode cX9_entry 28 = .ok (.bipush 85, 2) := dk_16 85 (dk_at dksX9_entry_1 4 rfl rfl)
theorem dX9_entry_30 : decode cX9_entry 30 = .ok (.iconst 2, 1) := dk_5 (dk_at dksX9_entry_1 6 rfl rfl)
theorem dX9_entry_31 : decode cX9_entry 31 = .ok (.iload_n 1, 1) := dk_27 (dk_at dksX9_entry_1 7 rfl rfl)
theorem dX9_entry_32 : decode cX9_entry 32 = .ok (.imul, 1) := dk_104 (dk_at dksX9_entry_1 8 rfl rfl)
theorem dX9_entry_33 : decode cX9_entry 33 = .ok (.iadd, 1) := dk_96 (dk_at dksX9_entry_1 9 rfl rfl)
theorem dX9_entry_34 : decode cX9_entry 34 = .ok (.iload_n 2, 1) := dk_28 (dk_at dksX9_entry_1 10 rfl rfl)
theorem dX9_entry_35 : decode cX9_entry 35 = .ok (.iadd, 1) := dk_96 (dk_at dksX9_entry_1 11 rfl rfl)
theorem dX9_entry_36 : decode cX9_entry 36 = .ok (.iaload, 1) := dk_46 (dk_at dksX9_entry_1 12 rfl rfl)
theorem dX9_entry_37 : decode cX9_entry 37 = .ok (.goto 4, 3) := dk_167 0 4 (dk_at dksX9_entry_1 13 rfl rfl)
theorem dX9_entry_40 : decode cX9_entry 40 = .ok (.iconst (-1), 1) := dk_2 (dk_at dksX9_entry_1 16 rfl rfl)
theorem dX9_entry_41 : decode cX9_entry 41 = .ok (.ireturn, 1) := dk_172 (dk_at dksX9_entry_1 17 rfl rfl)
abbrev cX9_entryClock : ByteArray := prog_17_method_103_code
def yX9_entryClock : MethodName := ⟨RX9, "entryClock", "(I)I"⟩
def dkwX9_entryClock_0 : List UInt8 := [42, 27, 4, 182, 1, 89, 172]
abbrev dktX9_entryClock_0 : List UInt8 := dkwX9_entryClock_0 ++ []
theorem dksX9_entryClock_0 : cX9_entryClock.data.toList.drop 0 = dktX9_entryClock_0 := by decide +kernel
theorem dX9_entryClock_0 : decode cX9_entryClock 0 = .ok (.aload_n 0, 1) := dk_42 (dk_at dksX9_entryClock_0 0 rfl rfl)
theorem dX9_entryClock_1 : decode cX9_entryClock 1 = .ok (.iload_n 1, 1) := dk_27 (dk_at dksX9_entryClock_0 1 rfl rfl)
theorem dX9_entryClock_2 : decode cX9_entryClock 2 = .ok (.iconst 1, 1) := dk_4 (dk_at dksX9_entryClock_0 2 rfl rfl)
theorem dX9_entryClock_3 : decode cX9_entryClock 3 = .ok (.invokevirtual 345, 3) := dk_182 1 89 (dk_at dksX9_entryClock_0 3 rfl rfl)
theorem dX9_entryClock_6 : decode cX9_entryClock 6 = .ok (.ireturn, 1) := dk_172 (dk_at dksX9_entryClock_0 6 rfl rfl)
abbrev cX9_waitingCount : ByteArray := prog_17_method_104_code
def yX9_waitingCount : MethodName := ⟨RX9, "waitingCount", "(I)I"⟩
def dkwX9_waitingCount_1 : List UInt8 := [172]
abbrev dktX9_waitingCount_1 : List UInt8 := dkwX9_waitingCount_1 ++ []
def dkwX9_waitingCount_0 : List UInt8 := [42, 27, 184, 1, 86, 182, 0, 164, 153, 0, 15, 42, 180, 0, 7, 16, 125, 27, 96, 46, 167, 0, 4, 3]
abbrev dktX9_waitingCount_0 : List UInt8 := dkwX9_waitingCount_0 ++ dktX9_waitingCount_1
theorem dksX9_waitingCount_0 : cX9_waitingCount.data.toList.drop 0 = dktX9_waitingCount_0 := by decide +kernel
theorem dksX9_waitingCount_1 : cX9_waitingCount.data.toList.drop 24 = dktX9_waitingCount_1 := dk_seg dksX9_waitingCount_0 24 rfl rfl
theorem dX9_waitingCount_0 : decode cX9_waitingCount 0 = .ok (.aload_n 0, 1) := dk_42 (dk_at dksX9_waitingCount_0 0 rfl rfl)
theorem dX9_waitingCount_1 : decode cX9_waitingCount 1 = .ok (.iload_n 1, 1) := dk_27 (dk_at dksX9_waitingCount_0 1 rfl rfl)
theorem dX9_waitingCount_2 : decode cX9_waitingCount 2 = .ok (.invokestatic 342, 3) := dk_184 1 86 (dk_at dksX9_waitingCount_0 2 rfl rfl)
theorem dX9_waitingCount_5 : decode cX9_waitingCount 5 = .ok (.invokevirtual 164, 3) := dk_182 0 164 (dk_at dksX9_waitingCount_0 5 rfl rfl)
theorem dX9_waitingCount_8 : decode cX9_waitingCount 8 = .ok (.ifCond .eq 15, 3) := dk_153 0 15 (dk_at dksX9_waitingCount_0 8 rfl rfl)
theorem dX9_waitingCount_11 : decode cX9_waitingCount 11 = .ok (.aload_n 0, 1) := dk_42 (dk_at dksX9_waitingCount_0 11 rfl rfl)
theorem dX9_waitingCount_12 : decode cX9_waitingCount 12 = .ok (.getfield 7, 3) := dk_180 0 7 (dk_at dksX9_waitingCount_0 12 rfl rfl)
theorem dX9_waitingCount_15 : decode cX9_waitingCount 15 = .ok (.bipush 125, 2) := dk_16 125 (dk_at dksX9_waitingCount_0 15 rfl rfl)
theorem dX9_waitingCount_17 : decode cX9_waitingCount 17 = .ok (.iload_n 1, 1) := dk_27 (dk_at dksX9_waitingCount_0 17 rfl rfl)
theorem dX9_waitingCount_18 : decode cX9_waitingCount 18 = .ok (.iadd, 1) := dk_96 (dk_at dksX9_waitingCount_0 18 rfl rfl)
theorem dX9_waitingCount_19 : decode cX9_waitingCount 19 = .ok (.iaload, 1) := dk_46 (dk_at dksX9_waitingCount_0 19 rfl rfl)
theorem dX9_waitingCount_20 : decode cX9_waitingCount 20 = .ok (.goto 4, 3) := dk_167 0 4 (dk_at dksX9_waitingCount_0 20 rfl rfl)
theorem dX9_waitingCount_23 : decode cX9_waitingCount 23 = .ok (.iconst 0, 1) := dk_3 (dk_at dksX9_waitingCount_0 23 rfl rfl)
theorem dX9_waitingCount_24 : decode cX9_waitingCount 24 = .ok (.ireturn, 1) := dk_172 (dk_at dksX9_waitingCount_1 0 rfl rfl)
abbrev cX9_waitingTicket : ByteArray := prog_17_method_105_code
def yX9_waitingTicket : MethodName := ⟨RX9, "waitingTicket", "(II)I"⟩
def dkwX9_waitingTicket_1 : List UInt8 := [46, 4, 100, 133, 184, 0, 62, 153, 0, 13, 42, 27, 28, 3, 182, 0, 116, 167, 0, 4, 2, 172]
abbrev dktX9_waitingTicket_1 : List UInt8 := dkwX9_waitingTicket_1 ++ []
def dkwX9_waitingTicket_0 : List UInt8 := [42, 27, 184, 1, 86, 182, 0, 164, 154, 0, 5, 3, 172, 28, 133, 9, 42, 180, 0, 7, 16, 125, 27, 96]
abbrev dktX9_waitingTicket_0 : List UInt8 := dkwX9_waitingTicket_0 ++ dktX9_waitingTicket_1
theorem dksX9_waitingTicket_0 : cX9_waitingTicket.data.toList.drop 0 = dktX9_waitingTicket_0 := by decide +kernel
theorem dksX9_waitingTicket_1 : cX9_waitingTicket.data.toList.drop 24 = dktX9_waitingTicket_1 := dk_seg dksX9_waitingTicket_0 24 rfl rfl
theorem dX9_waitingTicket_0 : decode cX9_waitingTicket 0 = .ok (.aload_n 0, 1) := dk_42 (dk_at dksX9_waitingTicket_0 0 rfl rfl)
theorem dX9_waitingTicket_1 : decode cX9_waitingTicket 1 = .ok (.iload_n 1, 1) := dk_27 (dk_at dksX9_waitingTicket_0 1 rfl rfl)
theorem dX9_waitingTicket_2 : decode cX9_waitingTicket 2 = .ok (.invokestatic 342, 3) := dk_184 1 86 (dk_at dksX9_waitingTicket_0 2 rfl rfl)
theorem dX9_waitingTicket_5 : decode cX9_waitingTicket 5 = .ok (.invokevirtual 164, 3) := dk_182 0 164 (dk_at dksX9_waitingTicket_0 5 rfl rfl)
theorem dX9_waitingTicket_8 : decode cX9_waitingTicket 8 = .ok (.ifCond .ne 5, 3) := dk_154 0 5 (dk_at dksX9_waitingTicket_0 8 rfl rfl)
theorem dX9_waitingTicket_11 : decode cX9_waitingTicket 11 = .ok (.iconst 0, 1) := dk_3 (dk_at dksX9_waitingTicket_0 11 rfl rfl)
theorem dX9_waitingTicket_12 : decode cX9_waitingTicket 12 = .ok (.ireturn, 1) := dk_172 (dk_at dksX9_waitingTicket_0 12 rfl rfl)
theorem dX9_waitingTicket_13 : decode cX9_waitingTicket 13 = .ok (.iload_n 2, 1) := dk_28 (dk_at dksX9_waitingTicket_0 13 rfl rfl)
theorem dX9_waitingTicket_14 : decode cX9_waitingTicket 14 = .ok (.i2l, 1) := dk_133 (dk_at dksX9_waitingTicket_0 14 rfl rfl)
theorem dX9_waitingTicket_15 : decode cX9_waitingTicket 15 = .ok (.lconst 0, 1) := dk_9 (dk_at dksX9_waitingTicket_0 15 rfl rfl)
theorem dX9_waitingTicket_16 : decode cX9_waitingTicket 16 = .ok (.aload_n 0, 1) := dk_42 (dk_at dksX9_waitingTicket_0 16 rfl rfl)
theorem dX9_waitingTicket_17 : decode cX9_waitingTicket 17 = .ok (.getfield 7, 3) := dk_180 0 7 (dk_at dksX9_waitingTicket_0 17 rfl rfl)
theorem dX9_waitingTicket_20 : decode cX9_waitingTicket 20 = .ok (.bipush 125, 2) := dk_16 125 (dk_at dksX9_waitingTicket_0 20 rfl rfl)
theorem dX9_waitingTicket_22 : decode cX9_waitingTicket 22 = .ok (.iload_n 1, 1) := dk_27 (dk_at dksX9_waitingTicket_0 22 rfl rfl)
theorem dX9_waitingTicket_23 : decode cX9_waitingTicket 23 = .ok (.iadd, 1) := dk_96 (dk_at dksX9_waitingTicket_0 23 rfl rfl)
theorem dX9_waitingTicket_24 : decode cX9_waitingTicket 24 = .ok (.iaload, 1) := dk_46 (dk_at dksX9_waitingTicket_1 0 rfl rfl)
theorem dX9_waitingTicket_25 : decode cX9_waitingTicket 25 = .ok (.iconst 1, 1) := dk_4 (dk_at dksX9_waitingTicket_1 1 rfl rfl)
theorem dX9_waitingTicket_26 : decode cX9_waitingTicket 26 = .ok (.isub, 1) := dk_100 (dk_at dksX9_waitingTicket_1 2 rfl rfl)
theorem dX9_waitingTicket_27 : decode cX9_waitingTicket 27 = .ok (.i2l, 1) := dk_133 (dk_at dksX9_waitingTicket_1 3 rfl rfl)
theorem dX9_waitingTicket_28 : decode cX9_waitingTicket 28 = .ok (.invokestatic 62, 3) := dk_184 0 62 (dk_at dksX9_waitingTicket_1 4 rfl rfl)
theorem dX9_waitingTicket_31 : decode cX9_waitingTicket 31 = .ok (.ifCond .eq 13, 3) := dk_153 0 13 (dk_at dksX9_waitingTicket_1 7 rfl rfl)
theorem dX9_waitingTicket_34 : decode cX9_waitingTicket 34 = .ok (.aload_n 0, 1) := dk_42 (dk_at dksX9_waitingTicket_1 10 rfl rfl)
theorem dX9_waitingTicket_35 : decode cX9_waitingTicket 35 = .ok (.iload_n 1, 1) := dk_27 (dk_at dksX9_waitingTicket_1 11 rfl rfl)
theorem dX9_waitingTicket_36 : decode cX9_waitingTicket 36 = .ok (.iload_n 2, 1) := dk_28 (dk_at dksX9_waitingTicket_1 12 rfl rfl)
theorem dX9_waitingTicket_37 : decode cX9_waitingTicket 37 = .ok (.iconst 0, 1) := dk_3 (dk_at dksX9_waitingTicket_1 13 rfl rfl)
theorem dX9_waitingTicket_38 : decode cX9_waitingTicket 38 = .ok (.invokevirtual 116, 3) := dk_182 0 116 (dk_at dksX9_waitingTicket_1 14 rfl rfl)
theorem dX9_waitingTicket_41 : decode cX9_waitingTicket 41 = .ok (.goto 4, 3) := dk_167 0 4 (dk_at dksX9_waitingTicket_1 17 rfl rfl)
theorem dX9_waitingTicket_44 : decode cX9_waitingTicket 44 = .ok (.iconst (-1), 1) := dk_2 (dk_at dksX9_waitingTicket_1 20 rfl rfl)
theorem dX9_waitingTicket_45 : decode cX9_waitingTicket 45 = .ok (.ireturn, 1) := dk_172 (dk_at dksX9_waitingTicket_1 21 rfl rfl)
abbrev cX9_sideOfTicket : ByteArray := prog_17_method_106_code
def yX9_sideOfTicket : MethodName := ⟨RX9, "sideOfTicket", "(I)I"⟩
def dkwX9_sideOfTicket_0 : List UInt8 := [42, 3, 181, 0, 55, 42, 27, 182, 0, 161, 172]
abbrev dktX9_sideOfTicket_0 : List UInt8 := dkwX9_sideOfTicket_0 ++ []
theorem dksX9_sideOfTicket_0 : cX9_sideOfTicket.data.toList.drop 0 = dktX9_sideOfTicket_0 := by decide +kernel
theorem dX9_sideOfTicket_0 : decode cX9_sideOfTicket 0 = .ok (.aload_n 0, 1) := dk_42 (dk_at dksX9_sideOfTicket_0 0 rfl rfl)
theorem dX9_sideOfTicket_1 : decode cX9_sideOfTicket 1 = .ok (.iconst 0, 1) := dk_3 (dk_at dksX9_sideOfTicket_0 1 rfl rfl)
theorem dX9_sideOfTicket_2 : decode cX9_sideOfTicket 2 = .ok (.putfield 55, 3) := dk_181 0 55 (dk_at dksX9_sideOfTicket_0 2 rfl rfl)
theorem dX9_sideOfTicket_5 : decode cX9_sideOfTicket 5 = .ok (.aload_n 0, 1) := dk_42 (dk_at dksX9_sideOfTicket_0 5 rfl rfl)
theorem dX9_sideOfTicket_6 : decode cX9_sideOfTicket 6 = .ok (.iload_n 1, 1) := dk_27 (dk_at dksX9_sideOfTicket_0 6 rfl rfl)
theorem dX9_sideOfTicket_7 : decode cX9_sideOfTicket 7 = .ok (.invokevirtual 161, 3) := dk_182 0 161 (dk_at dksX9_sideOfTicket_0 7 rfl rfl)
theorem dX9_sideOfTicket_10 : decode cX9_sideOfTicket 10 = .ok (.ireturn, 1) := dk_172 (dk_at dksX9_sideOfTicket_0 10 rfl rfl)
abbrev cX9_hasChains : ByteArray := prog_17_method_107_code
def yX9_hasChains : MethodName := ⟨RX9, "hasChains", "(I)Z"⟩
def dkwX9_hasChains_1 : List UInt8 := [27, 182, 0, 158, 4, 182, 0, 116, 4, 160, 0, 7, 4, 167, 0, 4, 3, 172]
abbrev dktX9_hasChains_1 : List UInt8 := dkwX9_hasChains_1 ++ []
def dkwX9_hasChains_0 : List UInt8 := [42, 42, 27, 182, 1, 92, 182, 0, 164, 153, 0, 31, 42, 42, 27, 182, 0, 161, 42, 42, 27, 182, 0, 161]
abbrev dktX9_hasChains_0 : List UInt8 := dkwX9_hasChains_0 ++ dktX9_hasChains_1
theorem dksX9_hasChains_0 : cX9_hasChains.data.toList.drop 0 = dktX9_hasChains_0 := by decide +kernel
theorem dksX9_hasChains_1 : cX9_hasChains.data.toList.drop 24 = dktX9_hasChains_1 := dk_seg dksX9_hasChains_0 24 rfl rfl
theorem dX9_hasChains_0 : decode cX9_hasChains 0 = .ok (.aload_n 0, 1) := dk_42 (dk_at dksX9_hasChains_0 0 rfl rfl)
theorem dX9_hasChains_1 : decode cX9_hasChains 1 = .ok (.aload_n 0, 1) := dk_42 (dk_at dksX9_hasChains_0 1 rfl rfl)
theorem dX9_hasChains_2 : decode cX9_hasChains 2 = .ok (.iload_n 1, 1) := dk_27 (dk_at dksX9_hasChains_0 2 rfl rfl)
theorem dX9_hasChains_3 : decode cX9_hasChains 3 = .ok (.invokevirtual 348, 3) := dk_182 1 92 (dk_at dksX9_hasChains_0 3 rfl rfl)
theorem dX9_hasChains_6 : decode cX9_hasChains 6 = .ok (.invokevirtual 164, 3) := dk_182 0 164 (dk_at dksX9_hasChains_0 6 rfl rfl)
theorem dX9_hasChains_9 : decode cX9_hasChains 9 = .ok (.ifCond .eq 31, 3) := dk_153 0 31 (dk_at dksX9_hasChains_0 9 rfl rfl)
theorem dX9_hasChains_12 : decode cX9_hasChains 12 = .ok (.aload_n 0, 1) := dk_42 (dk_at dksX9_hasChains_0 12 rfl rfl)
theorem dX9_hasChains_13 : decode cX9_hasChains 13 = .ok (.aload_n 0, 1) := dk_42 (dk_at dksX9_hasChains_0 13 rfl rfl)
theorem dX9_hasChains_14 : decode cX9_hasChains 14 = .ok (.iload_n 1, 1) := dk_27 (dk_at dksX9_hasChains_0 14 rfl rfl)
theorem dX9_hasChains_15 : decode cX9_hasChains 15 = .ok (.invokevirtual 161, 3) := dk_182 0 161 (dk_at dksX9_hasChains_0 15 rfl rfl)
theorem dX9_hasChains_18 : decode cX9_hasChains 18 = .ok (.aload_n 0, 1) := dk_42 (dk_at dksX9_hasChains_0 18 rfl rfl)
theorem dX9_hasChains_19 : decode cX9_hasChains 19 = .ok (.aload_n 0, 1) := dk_42 (dk_at dksX9_hasChains_0 19 rfl rfl)
theorem dX9_hasChains_20 : decode cX9_hasChains 20 = .ok (.iload_n 1, 1) := dk_27 (dk_at dksX9_hasChains_0 20 rfl rfl)
theorem dX9_hasChains_21 : decode cX9_hasChains 21 = .ok (.invokevirtual 161, 3) := dk_182 0 161 (dk_at dksX9_hasChains_0 21 rfl rfl)
theorem dX9_hasChains_24 : decode cX9_hasChains 24 = .ok (.iload_n 1, 1) := dk_27 (dk_at dksX9_hasChains_1 0 rfl rfl)
theorem dX9_hasChains_25 : decode cX9_hasChains 25 = .ok (.invokevirtual 158, 3) := dk_182 0 158 (dk_at dksX9_hasChains_1 1 rfl rfl)
theorem dX9_hasChains_28 : decode cX9_hasChains 28 = .ok (.iconst 1, 1) := dk_4 (dk_at dksX9_hasChains_1 4 rfl rfl)
theorem dX9_hasChains_29 : decode cX9_hasChains 29 = .ok (.invokevirtual 116, 3) := dk_182 0 116 (dk_at dksX9_hasChains_1 5 rfl rfl)
theorem dX9_hasChains_32 : decode cX9_hasChains 32 = .ok (.iconst 1, 1) := dk_4 (dk_at dksX9_hasChains_1 8 rfl rfl)
theorem dX9_hasChains_33 : decode cX9_hasChains 33 = .ok (.if_icmp .ne 7, 3) := dk_160 0 7 (dk_at dksX9_hasChains_1 9 rfl rfl)
theorem dX9_hasChains_36 : decode cX9_hasChains 36 = .ok (.iconst 1, 1) := dk_4 (dk_at dksX9_hasChains_1 12 rfl rfl)
theorem dX9_hasChains_37 : decode cX9_hasChains 37 = .ok (.goto 4, 3) := dk_167 0 4 (dk_at dksX9_hasChains_1 13 rfl rfl)
theorem dX9_hasChains_40 : decode cX9_hasChains 40 = .ok (.iconst 0, 1) := dk_3 (dk_at dksX9_hasChains_1 16 rfl rfl)
theorem dX9_hasChains_41 : decode cX9_hasChains 41 = .ok (.ireturn, 1) := dk_172 (dk_at dksX9_hasChains_1 17 rfl rfl)
abbrev cX9_waits : ByteArray := prog_17_method_46_code
def yX9_waits : MethodName := ⟨RX9, "waits", "(I)Z"⟩
def dkwX9_waits_0 : List UInt8 := [42, 27, 182, 0, 161, 2, 159, 0, 7, 4, 167, 0, 4, 3, 172]
abbrev dktX9_waits_0 : List UInt8 := dkwX9_waits_0 ++ []
theorem dksX9_waits_0 : cX9_waits.data.toList.drop 0 = dktX9_waits_0 := by decide +kernel
theorem dX9_waits_0 : decode cX9_waits 0 = .ok (.aload_n 0, 1) := dk_42 (dk_at dksX9_waits_0 0 rfl rfl)
theorem dX9_waits_1 : decode cX9_waits 1 = .ok (.iload_n 1, 1) := dk_27 (dk_at dksX9_waits_0 1 rfl rfl)
theorem dX9_waits_2 : decode cX9_waits 2 = .ok (.invokevirtual 161, 3) := dk_182 0 161 (dk_at dksX9_waits_0 2 rfl rfl)
theorem dX9_waits_5 : decode cX9_waits 5 = .ok (.iconst (-1), 1) := dk_2 (dk_at dksX9_waits_0 5 rfl rfl)
theorem dX9_waits_6 : decode cX9_waits 6 = .ok (.if_icmp .eq 7, 3) := dk_159 0 7 (dk_at dksX9_waits_0 6 rfl rfl)
theorem dX9_waits_9 : decode cX9_waits 9 = .ok (.iconst 1, 1) := dk_4 (dk_at dksX9_waits_0 9 rfl rfl)
theorem dX9_waits_10 : decode cX9_waits 10 = .ok (.goto 4, 3) := dk_167 0 4 (dk_at dksX9_waits_0 10 rfl rfl)
theorem dX9_waits_13 : decode cX9_waits 13 = .ok (.iconst 0, 1) := dk_3 (dk_at dksX9_waits_0 13 rfl rfl)
theorem dX9_waits_14 : decode cX9_waits 14 = .ok (.ireturn, 1) := dk_172 (dk_at dksX9_waits_0 14 rfl rfl)
abbrev cX9_crossingReason : ByteArray := prog_17_method_108_code
def yX9_crossingReason : MethodName := ⟨RX9, "crossingReason", "(I)I"⟩
def dkwX9_crossingReason_2 : List UInt8 := [4, 182, 0, 116, 4, 160, 0, 7, 6, 167, 0, 4, 5, 172]
abbrev dktX9_crossingReason_2 : List UInt8 := dkwX9_crossingReason_2 ++ []
def dkwX9_crossingReason_1 : List UInt8 := [182, 0, 158, 62, 29, 158, 0, 5, 4, 172, 42, 28, 3, 182, 0, 123, 153, 0, 5, 3, 172, 42, 28, 3]
abbrev dktX9_crossingReason_1 : List UInt8 := dkwX9_crossingReason_1 ++ dktX9_crossingReason_2
def dkwX9_crossingReason_0 : List UInt8 := [42, 42, 27, 182, 1, 92, 182, 0, 164, 154, 0, 5, 3, 172, 42, 27, 182, 0, 161, 61, 42, 28, 27]
abbrev dktX9_crossingReason_0 : List UInt8 := dkwX9_crossingReason_0 ++ dktX9_crossingReason_1
theorem dksX9_crossingReason_0 : cX9_crossingReason.data.toList.drop 0 = dktX9_crossingReason_0 := by decide +kernel
theorem dksX9_crossingReason_1 : cX9_crossingReason.data.toList.drop 23 = dktX9_crossingReason_1 := dk_seg dksX9_crossingReason_0 23 rfl rfl
theorem dksX9_crossingReason_2 : cX9_crossingReason.data.toList.drop 47 = dktX9_crossingReason_2 := dk_seg dksX9_crossingReason_1 24 rfl rfl
theorem dX9_crossingReason_0 : decode cX9_crossingReason 0 = .ok (.aload_n 0, 1) := dk_42 (dk_at dksX9_crossingReason_0 0 rfl rfl)
theorem dX9_crossingReason_1 : decode cX9_crossingReason 1 = .ok (.aload_n 0, 1) := dk_42 (dk_at dksX9_crossingReason_0 1 rfl rfl)
theorem dX9_crossingReason_2 : decode cX9_crossingReason 2 = .ok (.iload_n 1, 1) := dk_27 (dk_at dksX9_crossingReason_0 2 rfl rfl)
theorem dX9_crossingReason_3 : decode cX9_crossingReason 3 = .ok (.invokevirtual 348, 3) := dk_182 1 92 (dk_at dksX9_crossingReason_0 3 rfl rfl)
theorem dX9_crossingReason_6 : decode cX9_crossingReason 6 = .ok (.invokevirtual 164, 3) := dk_182 0 164 (dk_at dksX9_crossingReason_0 6 rfl rfl)
theorem dX9_crossingReason_9 : decode cX9_crossingReason 9 = .ok (.ifCond .ne 5, 3) := dk_154 0 5 (dk_at dksX9_crossingReason_0 9 rfl rfl)
theorem dX9_crossingReason_12 : decode cX9_crossingReason 12 = .ok (.iconst 0, 1) := dk_3 (dk_at dksX9_crossingReason_0 12 rfl rfl)
theorem dX9_crossingReason_13 : decode cX9_crossingReason 13 = .ok (.ireturn, 1) := dk_172 (dk_at dksX9_crossingReason_0 13 rfl rfl)
theorem dX9_crossingReason_14 : decode cX9_crossingReason 14 = .ok (.aload_n 0, 1) := dk_42 (dk_at dksX9_crossingReason_0 14 rfl rfl)
theorem dX9_crossingReason_15 : decode cX9_crossingReason 15 = .ok (.iload_n 1, 1) := dk_27 (dk_at dksX9_crossingReason_0 15 rfl rfl)
theorem dX9_crossingReason_16 : decode cX9_crossingReason 16 = .ok (.invokevirtual 161, 3) := dk_182 0 161 (dk_at dksX9_crossingReason_0 16 rfl rfl)
theorem dX9_crossingReason_19 : decode cX9_crossingReason 19 = .ok (.istore_n 2, 1) := dk_61 (dk_at dksX9_crossingReason_0 19 rfl rfl)
theorem dX9_crossingReason_20 : decode cX9_crossingReason 20 = .ok (.aload_n 0, 1) := dk_42 (dk_at dksX9_crossingReason_0 20 rfl rfl)
theorem dX9_crossingReason_21 : decode cX9_crossingReason 21 = .ok (.iload_n 2, 1) := dk_28 (dk_at dksX9_crossingReason_0 21 rfl rfl)
theorem dX9_crossingReason_22 : decode cX9_crossingReason 22 = .ok (.iload_n 1, 1) := dk_27 (dk_at dksX9_crossingReason_0 22 rfl rfl)
theorem dX9_crossingReason_23 : decode cX9_crossingReason 23 = .ok (.invokevirtual 158, 3) := dk_182 0 158 (dk_at dksX9_crossingReason_1 0 rfl rfl)
theorem dX9_crossingReason_26 : decode cX9_crossingReason 26 = .ok (.istore_n 3, 1) := dk_62 (dk_at dksX9_crossingReason_1 3 rfl rfl)
theorem dX9_crossingReason_27 : decode cX9_crossingReason 27 = .ok (.iload_n 3, 1) := dk_29 (dk_at dksX9_crossingReason_1 4 rfl rfl)
theorem dX9_crossingReason_28 : decode cX9_crossingReason 28 = .ok (.ifCond .le 5, 3) := dk_158 0 5 (dk_at dksX9_crossingReason_1 5 rfl rfl)
theorem dX9_crossingReason_31 : decode cX9_crossingReason 31 = .ok (.iconst 1, 1) := dk_4 (dk_at dksX9_crossingReason_1 8 rfl rfl)
theorem dX9_crossingReason_32 : decode cX9_crossingReason 32 = .ok (.ireturn, 1) := dk_172 (dk_at dksX9_crossingReason_1 9 rfl rfl)
theorem dX9_crossingReason_33 : decode cX9_crossingReason 33 = .ok (.aload_n 0, 1) := dk_42 (dk_at dksX9_crossingReason_1 10 rfl rfl)
theorem dX9_crossingReason_34 : decode cX9_crossingReason 34 = .ok (.iload_n 2, 1) := dk_28 (dk_at dksX9_crossingReason_1 11 rfl rfl)
theorem dX9_crossingReason_35 : decode cX9_crossingReason 35 = .ok (.iconst 0, 1) := dk_3 (dk_at dksX9_crossingReason_1 12 rfl rfl)
theorem dX9_crossingReason_36 : decode cX9_crossingReason 36 = .ok (.invokevirtual 123, 3) := dk_182 0 123 (dk_at dksX9_crossingReason_1 13 rfl rfl)
theorem dX9_crossingReason_39 : decode cX9_crossingReason 39 = .ok (.ifCond .eq 5, 3) := dk_153 0 5 (dk_at dksX9_crossingReason_1 16 rfl rfl)
theorem dX9_crossingReason_42 : decode cX9_crossingReason 42 = .ok (.iconst 0, 1) := dk_3 (dk_at dksX9_crossingReason_1 19 rfl rfl)
theorem dX9_crossingReason_43 : decode cX9_crossingReason 43 = .ok (.ireturn, 1) := dk_172 (dk_at dksX9_crossingReason_1 20 rfl rfl)
theorem dX9_crossingReason_44 : decode cX9_crossingReason 44 = .ok (.aload_n 0, 1) := dk_42 (dk_at dksX9_crossingReason_1 21 rfl rfl)
theorem dX9_crossingReason_45 : decode cX9_crossingReason 45 = .ok (.iload_n 2, 1) := dk_28 (dk_at dksX9_crossingReason_1 22 rfl rfl)
theorem dX9_crossingReason_46 : decode cX9_crossingReason 46 = .ok (.iconst 0, 1) := dk_3 (dk_at dksX9_crossingReason_1 23 rfl rfl)
theorem dX9_crossingReason_47 : decode cX9_crossingReason 47 = .ok (.iconst 1, 1) := dk_4 (dk_at dksX9_crossingReason_2 0 rfl rfl)
theorem dX9_crossingReason_48 : decode cX9_crossingReason 48 = .ok (.invokevirtual 116, 3) := dk_182 0 116 (dk_at dksX9_crossingReason_2 1 rfl rfl)
theorem dX9_crossingReason_51 : decode cX9_crossingReason 51 = .ok (.iconst 1, 1) := dk_4 (dk_at dksX9_crossingReason_2 4 rfl rfl)
theorem dX9_crossingReason_52 : decode cX9_crossingReason 52 = .ok (.if_icmp .ne 7, 3) := dk_160 0 7 (dk_at dksX9_crossingReason_2 5 rfl rfl)
theorem dX9_crossingReason_55 : decode cX9_crossingReason 55 = .ok (.iconst 3, 1) := dk_6 (dk_at dksX9_crossingReason_2 8 rfl rfl)
theorem dX9_crossingReason_56 : decode cX9_crossingReason 56 = .ok (.goto 4, 3) := dk_167 0 4 (dk_at dksX9_crossingReason_2 9 rfl rfl)
theorem dX9_crossingReason_59 : decode cX9_crossingReason 59 = .ok (.iconst 2, 1) := dk_5 (dk_at dksX9_crossingReason_2 12 rfl rfl)
theorem dX9_crossingReason_60 : decode cX9_crossingReason 60 = .ok (.ireturn, 1) := dk_172 (dk_at dksX9_crossingReason_2 13 rfl rfl)
abbrev cX9_depthAfter : ByteArray := prog_17_method_110_code
def yX9_depthAfter : MethodName := ⟨RX9, "depthAfter", "(II)I"⟩
def dkwX9_depthAfter_1 : List UInt8 := [182, 0, 152, 42, 42, 27, 3, 182, 0, 66, 182, 1, 107, 172]
abbrev dktX9_depthAfter_1 : List UInt8 := dkwX9_depthAfter_1 ++ []
def dkwX9_depthAfter_0 : List UInt8 := [42, 42, 27, 182, 1, 76, 28, 184, 1, 97, 182, 1, 100, 154, 0, 5, 3, 172, 42, 182, 1, 104, 42, 28]
abbrev dktX9_depthAfter_0 : List UInt8 := dkwX9_depthAfter_0 ++ dktX9_depthAfter_1
theorem dksX9_depthAfter_0 : cX9_depthAfter.data.toList.drop 0 = dktX9_depthAfter_0 := by decide +kernel
theorem dksX9_depthAfter_1 : cX9_depthAfter.data.toList.drop 24 = dktX9_depthAfter_1 := dk_seg dksX9_depthAfter_0 24 rfl rfl
theorem dX9_depthAfter_0 : decode cX9_depthAfter 0 = .ok (.aload_n 0, 1) := dk_42 (dk_at dksX9_depthAfter_0 0 rfl rfl)
theorem dX9_depthAfter_1 : decode cX9_depthAfter 1 = .ok (.aload_n 0, 1) := dk_42 (dk_at dksX9_depthAfter_0 1 rfl rfl)
theorem dX9_depthAfter_2 : decode cX9_depthAfter 2 = .ok (.iload_n 1, 1) := dk_27 (dk_at dksX9_depthAfter_0 2 rfl rfl)
theorem dX9_depthAfter_3 : decode cX9_depthAfter 3 = .ok (.invokevirtual 332, 3) := dk_182 1 76 (dk_at dksX9_depthAfter_0 3 rfl rfl)
theorem dX9_depthAfter_6 : decode cX9_depthAfter 6 = .ok (.iload_n 2, 1) := dk_28 (dk_at dksX9_depthAfter_0 6 rfl rfl)
theorem dX9_depthAfter_7 : decode cX9_depthAfter 7 = .ok (.invokestatic 353, 3) := dk_184 1 97 (dk_at dksX9_depthAfter_0 7 rfl rfl)
theorem dX9_depthAfter_10 : decode cX9_depthAfter 10 = .ok (.invokevirtual 356, 3) := dk_182 1 100 (dk_at dksX9_depthAfter_0 10 rfl rfl)
theorem dX9_depthAfter_13 : decode cX9_depthAfter 13 = .ok (.ifCond .ne 5, 3) := dk_154 0 5 (dk_at dksX9_depthAfter_0 13 rfl rfl)
theorem dX9_depthAfter_16 : decode cX9_depthAfter 16 = .ok (.iconst 0, 1) := dk_3 (dk_at dksX9_depthAfter_0 16 rfl rfl)
theorem dX9_depthAfter_17 : decode cX9_depthAfter 17 = .ok (.ireturn, 1) := dk_172 (dk_at dksX9_depthAfter_0 17 rfl rfl)
theorem dX9_depthAfter_18 : decode cX9_depthAfter 18 = .ok (.aload_n 0, 1) := dk_42 (dk_at dksX9_depthAfter_0 18 rfl rfl)
theorem dX9_depthAfter_19 : decode cX9_depthAfter 19 = .ok (.invokevirtual 360, 3) := dk_182 1 104 (dk_at dksX9_depthAfter_0 19 rfl rfl)
theorem dX9_depthAfter_22 : decode cX9_depthAfter 22 = .ok (.aload_n 0, 1) := dk_42 (dk_at dksX9_depthAfter_0 22 rfl rfl)
theorem dX9_depthAfter_23 : decode cX9_depthAfter 23 = .ok (.iload_n 2, 1) := dk_28 (dk_at dksX9_depthAfter_0 23 rfl rfl)
theorem dX9_depthAfter_24 : decode cX9_depthAfter 24 = .ok (.invokevirtual 152, 3) := dk_182 0 152 (dk_at dksX9_depthAfter_1 0 rfl rfl)
theorem dX9_depthAfter_27 : decode cX9_depthAfter 27 = .ok (.aload_n 0, 1) := dk_42 (dk_at dksX9_depthAfter_1 3 rfl rfl)
theorem dX9_depthAfter_28 : decode cX9_depthAfter 28 = .ok (.aload_n 0, 1) := dk_42 (dk_at dksX9_depthAfter_1 4 rfl rfl)
theorem dX9_depthAfter_29 : decode cX9_depthAfter 29 = .ok (.iload_n 1, 1) := dk_27 (dk_at dksX9_depthAfter_1 5 rfl rfl)
theorem dX9_depthAfter_30 : decode cX9_depthAfter 30 = .ok (.iconst 0, 1) := dk_3 (dk_at dksX9_depthAfter_1 6 rfl rfl)
theorem dX9_depthAfter_31 : decode cX9_depthAfter 31 = .ok (.invokevirtual 66, 3) := dk_182 0 66 (dk_at dksX9_depthAfter_1 7 rfl rfl)
theorem dX9_depthAfter_34 : decode cX9_depthAfter 34 = .ok (.invokevirtual 363, 3) := dk_182 1 107 (dk_at dksX9_depthAfter_1 10 rfl rfl)
theorem dX9_depthAfter_37 : decode cX9_depthAfter 37 = .ok (.ireturn, 1) := dk_172 (dk_at dksX9_depthAfter_1 13 rfl rfl)
abbrev cX9_areHours : ByteArray := prog_17_method_109_code
def yX9_areHours : MethodName := ⟨RX9, "areHours", "(I)Z"⟩
def dkwX9_areHours_0 : List UInt8 := [26, 133, 9, 20, 1, 95, 184, 0, 62, 172]
abbrev dktX9_areHours_0 : List UInt8 := dkwX9_areHours_0 ++ []
theorem dksX9_areHours_0 : cX9_areHours.data.toList.drop 0 = dktX9_areHours_0 := by decide +kernel
theorem dX9_areHours_0 : decode cX9_areHours 0 = .ok (.iload_n 0, 1) := dk_26 (dk_at dksX9_areHours_0 0 rfl rfl)
theorem dX9_areHours_1 : decode cX9_areHours 1 = .ok (.i2l, 1) := dk_133 (dk_at dksX9_areHours_0 1 rfl rfl)
theorem dX9_areHours_2 : decode cX9_areHours 2 = .ok (.lconst 0, 1) := dk_9 (dk_at dksX9_areHours_0 2 rfl rfl)
theorem dX9_areHours_3 : decode cX9_areHours 3 = .ok (.ldc2_w 351, 3) := dk_20 1 95 (dk_at dksX9_areHours_0 3 rfl rfl)
theorem dX9_areHours_6 : decode cX9_areHours 6 = .ok (.invokestatic 62, 3) := dk_184 0 62 (dk_at dksX9_areHours_0 6 rfl rfl)
theorem dX9_areHours_9 : decode cX9_areHours 9 = .ok (.ireturn, 1) := dk_172 (dk_at dksX9_areHours_0 9 rfl rfl)
abbrev cX9_passesBoth : ByteArray := prog_17_method_6_code
def yX9_passesBoth : MethodName := ⟨RX9, "passesBoth", "(ZZ)Z"⟩
def dkwX9_passesBoth_1 : List UInt8 := [180, 0, 55, 154, 0, 7, 4, 167, 0, 4, 3, 172]
abbrev dktX9_passesBoth_1 : List UInt8 := dkwX9_passesBoth_1 ++ []
def dkwX9_passesBoth_0 : List UInt8 := [42, 27, 154, 0, 7, 4, 167, 0, 12, 28, 154, 0, 7, 5, 167, 0, 4, 3, 181, 0, 55, 42]
abbrev dktX9_passesBoth_0 : List UInt8 := dkwX9_passesBoth_0 ++ dktX9_passesBoth_1
theorem dksX9_passesBoth_0 : cX9_passesBoth.data.toList.drop 0 = dktX9_passesBoth_0 := by decide +kernel
theorem dksX9_passesBoth_1 : cX9_passesBoth.data.toList.drop 22 = dktX9_passesBoth_1 := dk_seg dksX9_passesBoth_0 22 rfl rfl
theorem dX9_passesBoth_0 : decode cX9_passesBoth 0 = .ok (.aload_n 0, 1) := dk_42 (dk_at dksX9_passesBoth_0 0 rfl rfl)
theorem dX9_passesBoth_1 : decode cX9_passesBoth 1 = .ok (.iload_n 1, 1) := dk_27 (dk_at dksX9_passesBoth_0 1 rfl rfl)
theorem dX9_passesBoth_2 : decode cX9_passesBoth 2 = .ok (.ifCond .ne 7, 3) := dk_154 0 7 (dk_at dksX9_passesBoth_0 2 rfl rfl)
theorem dX9_passesBoth_5 : decode cX9_passesBoth 5 = .ok (.iconst 1, 1) := dk_4 (dk_at dksX9_passesBoth_0 5 rfl rfl)
theorem dX9_passesBoth_6 : decode cX9_passesBoth 6 = .ok (.goto 12, 3) := dk_167 0 12 (dk_at dksX9_passesBoth_0 6 rfl rfl)
theorem dX9_passesBoth_9 : decode cX9_passesBoth 9 = .ok (.iload_n 2, 1) := dk_28 (dk_at dksX9_passesBoth_0 9 rfl rfl)
theorem dX9_passesBoth_10 : decode cX9_passesBoth 10 = .ok (.ifCond .ne 7, 3) := dk_154 0 7 (dk_at dksX9_passesBoth_0 10 rfl rfl)
theorem dX9_passesBoth_13 : decode cX9_passesBoth 13 = .ok (.iconst 2, 1) := dk_5 (dk_at dksX9_passesBoth_0 13 rfl rfl)
theorem dX9_passesBoth_14 : decode cX9_passesBoth 14 = .ok (.goto 4, 3) := dk_167 0 4 (dk_at dksX9_passesBoth_0 14 rfl rfl)
theorem dX9_passesBoth_17 : decode cX9_passesBoth 17 = .ok (.iconst 0, 1) := dk_3 (dk_at dksX9_passesBoth_0 17 rfl rfl)
theorem dX9_passesBoth_18 : decode cX9_passesBoth 18 = .ok (.putfield 55, 3) := dk_181 0 55 (dk_at dksX9_passesBoth_0 18 rfl rfl)
theorem dX9_passesBoth_21 : decode cX9_passesBoth 21 = .ok (.aload_n 0, 1) := dk_42 (dk_at dksX9_passesBoth_0 21 rfl rfl)
theorem dX9_passesBoth_22 : decode cX9_passesBoth 22 = .ok (.getfield 55, 3) := dk_180 0 55 (dk_at dksX9_passesBoth_1 0 rfl rfl)
theorem dX9_passesBoth_25 : decode cX9_passesBoth 25 = .ok (.ifCond .ne 7, 3) := dk_154 0 7 (dk_at dksX9_passesBoth_1 3 rfl rfl)
theorem dX9_passesBoth_28 : decode cX9_passesBoth 28 = .ok (.iconst 1, 1) := dk_4 (dk_at dksX9_passesBoth_1 6 rfl rfl)
theorem dX9_passesBoth_29 : decode cX9_passesBoth 29 = .ok (.goto 4, 3) := dk_167 0 4 (dk_at dksX9_passesBoth_1 7 rfl rfl)
theorem dX9_passesBoth_32 : decode cX9_passesBoth 32 = .ok (.iconst 0, 1) := dk_3 (dk_at dksX9_passesBoth_1 10 rfl rfl)
theorem dX9_passesBoth_33 : decode cX9_passesBoth 33 = .ok (.ireturn, 1) := dk_172 (dk_at dksX9_passesBoth_1 11 rfl rfl)
abbrev cX9_tries : ByteArray := prog_17_method_8_code
def yX9_tries : MethodName := ⟨RX9, "tries", "()V"⟩
def dkwX9_tries_0 : List UInt8 := [42, 180, 0, 7, 3, 42, 180, 0, 19, 3, 184, 0, 58, 177]
abbrev dktX9_tries_0 : List UInt8 := dkwX9_tries_0 ++ []
theorem dksX9_tries_0 : cX9_tries.data.toList.drop 0 = dktX9_tries_0 := by decide +kernel
theorem dX9_tries_0 : decode cX9_tries 0 = .ok (.aload_n 0, 1) := dk_42 (dk_at dksX9_tries_0 0 rfl rfl)
theorem dX9_tries_1 : decode cX9_tries 1 = .ok (.getfield 7, 3) := dk_180 0 7 (dk_at dksX9_tries_0 1 rfl rfl)
theorem dX9_tries_4 : decode cX9_tries 4 = .ok (.iconst 0, 1) := dk_3 (dk_at dksX9_tries_0 4 rfl rfl)
theorem dX9_tries_5 : decode cX9_tries 5 = .ok (.aload_n 0, 1) := dk_42 (dk_at dksX9_tries_0 5 rfl rfl)
theorem dX9_tries_6 : decode cX9_tries 6 = .ok (.getfield 19, 3) := dk_180 0 19 (dk_at dksX9_tries_0 6 rfl rfl)
theorem dX9_tries_9 : decode cX9_tries 9 = .ok (.iconst 0, 1) := dk_3 (dk_at dksX9_tries_0 9 rfl rfl)
theorem dX9_tries_10 : decode cX9_tries 10 = .ok (.invokestatic 58, 3) := dk_184 0 58 (dk_at dksX9_tries_0 10 rfl rfl)
theorem dX9_tries_13 : decode cX9_tries 13 = .ok (.return_, 1) := dk_177 (dk_at dksX9_tries_0 13 rfl rfl)
abbrev cX9_laidBack : ByteArray := prog_17_method_9_code
def yX9_laidBack : MethodName := ⟨RX9, "laidBack", "(I)I"⟩
def dkwX9_laidBack_0 : List UInt8 := [42, 180, 0, 19, 3, 42, 180, 0, 7, 3, 184, 0, 58, 27, 172]
abbrev dktX9_laidBack_0 : List UInt8 := dkwX9_laidBack_0 ++ []
theorem dksX9_laidBack_0 : cX9_laidBack.data.toList.drop 0 = dktX9_laidBack_0 := by decide +kernel
theorem dX9_laidBack_0 : decode cX9_laidBack 0 = .ok (.aload_n 0, 1) := dk_42 (dk_at dksX9_laidBack_0 0 rfl rfl)
theorem dX9_laidBack_1 : decode cX9_laidBack 1 = .ok (.getfield 19, 3) := dk_180 0 19 (dk_at dksX9_laidBack_0 1 rfl rfl)
theorem dX9_laidBack_4 : decode cX9_laidBack 4 = .ok (.iconst 0, 1) := dk_3 (dk_at dksX9_laidBack_0 4 rfl rfl)
theorem dX9_laidBack_5 : decode cX9_laidBack 5 = .ok (.aload_n 0, 1) := dk_42 (dk_at dksX9_laidBack_0 5 rfl rfl)
theorem dX9_laidBack_6 : decode cX9_laidBack 6 = .ok (.getfield 7, 3) := dk_180 0 7 (dk_at dksX9_laidBack_0 6 rfl rfl)
theorem dX9_laidBack_9 : decode cX9_laidBack 9 = .ok (.iconst 0, 1) := dk_3 (dk_at dksX9_laidBack_0 9 rfl rfl)
theorem dX9_laidBack_10 : decode cX9_laidBack 10 = .ok (.invokestatic 58, 3) := dk_184 0 58 (dk_at dksX9_laidBack_0 10 rfl rfl)
theorem dX9_laidBack_13 : decode cX9_laidBack 13 = .ok (.iload_n 1, 1) := dk_27 (dk_at dksX9_laidBack_0 13 rfl rfl)
theorem dX9_laidBack_14 : decode cX9_laidBack 14 = .ok (.ireturn, 1) := dk_172 (dk_at dksX9_laidBack_0 14 rfl rfl)
abbrev cX9_hoursUntilOpen : ByteArray := prog_17_method_112_code
def yX9_hoursUntilOpen : MethodName := ⟨RX9, "hoursUntilOpen", "()I"⟩
def dkwX9_hoursUntilOpen_0 : List UInt8 := [42, 3, 181, 0, 55, 42, 4, 182, 1, 110, 172]
abbrev dktX9_hoursUntilOpen_0 : List UInt8 := dkwX9_hoursUntilOpen_0 ++ []
theorem dksX9_hoursUntilOpen_0 : cX9_hoursUntilOpen.data.toList.drop 0 = dktX9_hoursUntilOpen_0 := by decide +kernel
theorem dX9_hoursUntilOpen_0 : decode cX9_hoursUntilOpen 0 = .ok (.aload_n 0, 1) := dk_42 (dk_at dksX9_hoursUntilOpen_0 0 rfl rfl)
theorem dX9_hoursUntilOpen_1 : decode cX9_hoursUntilOpen 1 = .ok (.iconst 0, 1) := dk_3 (dk_at dksX9_hoursUntilOpen_0 1 rfl rfl)
theorem dX9_hoursUntilOpen_2 : decode cX9_hoursUntilOpen 2 = .ok (.putfield 55, 3) := dk_181 0 55 (dk_at dksX9_hoursUntilOpen_0 2 rfl rfl)
theorem dX9_hoursUntilOpen_5 : decode cX9_hoursUntilOpen 5 = .ok (.aload_n 0, 1) := dk_42 (dk_at dksX9_hoursUntilOpen_0 5 rfl rfl)
theorem dX9_hoursUntilOpen_6 : decode cX9_hoursUntilOpen 6 = .ok (.iconst 1, 1) := dk_4 (dk_at dksX9_hoursUntilOpen_0 6 rfl rfl)
theorem dX9_hoursUntilOpen_7 : decode cX9_hoursUntilOpen 7 = .ok (.invokevirtual 366, 3) := dk_182 1 110 (dk_at dksX9_hoursUntilOpen_0 7 rfl rfl)
theorem dX9_hoursUntilOpen_10 : decode cX9_hoursUntilOpen 10 = .ok (.ireturn, 1) := dk_172 (dk_at dksX9_hoursUntilOpen_0 10 rfl rfl)
abbrev cX9_hoursUntil : ByteArray := prog_17_method_111_code
def yX9_hoursUntil : MethodName := ⟨RX9, "hoursUntil", "(Z)I"⟩
def dkwX9_hoursUntil_1 : List UInt8 := [182, 1, 107, 172, 42, 182, 0, 146, 132, 2, 1, 167, 255, 228, 42, 2, 182, 1, 107, 172]
abbrev dktX9_hoursUntil_1 : List UInt8 := dkwX9_hoursUntil_1 ++ []
def dkwX9_hoursUntil_0 : List UInt8 := [42, 182, 1, 104, 3, 61, 28, 17, 0, 240, 163, 0, 27, 42, 182, 0, 95, 27, 160, 0, 9, 42, 28]
abbrev dktX9_hoursUntil_0 : List UInt8 := dkwX9_hoursUntil_0 ++ dktX9_hoursUntil_1
theorem dksX9_hoursUntil_0 : cX9_hoursUntil.data.toList.drop 0 = dktX9_hoursUntil_0 := by decide +kernel
theorem dksX9_hoursUntil_1 : cX9_hoursUntil.data.toList.drop 23 = dktX9_hoursUntil_1 := dk_seg dksX9_hoursUntil_0 23 rfl rfl
theorem dX9_hoursUntil_0 : decode cX9_hoursUntil 0 = .ok (.aload_n 0, 1) := dk_42 (dk_at dksX9_hoursUntil_0 0 rfl rfl)
theorem dX9_hoursUntil_1 : decode cX9_hoursUntil 1 = .ok (.invokevirtual 360, 3) := dk_182 1 104 (dk_at dksX9_hoursUntil_0 1 rfl rfl)
theorem dX9_hoursUntil_4 : decode cX9_hoursUntil 4 = .ok (.iconst 0, 1) := dk_3 (dk_at dksX9_hoursUntil_0 4 rfl rfl)
theorem dX9_hoursUntil_5 : decode cX9_hoursUntil 5 = .ok (.istore_n 2, 1) := dk_61 (dk_at dksX9_hoursUntil_0 5 rfl rfl)
theorem dX9_hoursUntil_6 : decode cX9_hoursUntil 6 = .ok (.iload_n 2, 1) := dk_28 (dk_at dksX9_hoursUntil_0 6 rfl rfl)
theorem dX9_hoursUntil_7 : decode cX9_hoursUntil 7 = .ok (.sipush 240, 3) := dk_17 0 240 (dk_at dksX9_hoursUntil_0 7 rfl rfl)
theorem dX9_hoursUntil_10 : decode cX9_hoursUntil 10 = .ok (.if_icmp .gt 27, 3) := dk_163 0 27 (dk_at dksX9_hoursUntil_0 10 rfl rfl)
theorem dX9_hoursUntil_13 : decode cX9_hoursUntil 13 = .ok (.aload_n 0, 1) := dk_42 (dk_at dksX9_hoursUntil_0 13 rfl rfl)
theorem dX9_hoursUntil_14 : decode cX9_hoursUntil 14 = .ok (.invokevirtual 95, 3) := dk_182 0 95 (dk_at dksX9_hoursUntil_0 14 rfl rfl)
theorem dX9_hoursUntil_17 : decode cX9_hoursUntil 17 = .ok (.iload_n 1, 1) := dk_27 (dk_at dksX9_hoursUntil_0 17 rfl rfl)
theorem dX9_hoursUntil_18 : decode cX9_hoursUntil 18 = .ok (.if_icmp .ne 9, 3) := dk_160 0 9 (dk_at dksX9_hoursUntil_0 18 rfl rfl)
theorem dX9_hoursUntil_21 : decode cX9_hoursUntil 21 = .ok (.aload_n 0, 1) := dk_42 (dk_at dksX9_hoursUntil_0 21 rfl rfl)
theorem dX9_hoursUntil_22 : decode cX9_hoursUntil 22 = .ok (.iload_n 2, 1) := dk_28 (dk_at dksX9_hoursUntil_0 22 rfl rfl)
theorem dX9_hoursUntil_23 : decode cX9_hoursUntil 23 = .ok (.invokevirtual 363, 3) := dk_182 1 107 (dk_at dksX9_hoursUntil_1 0 rfl rfl)
theorem dX9_hoursUntil_26 : decode cX9_hoursUntil 26 = .ok (.ireturn, 1) := dk_172 (dk_at dksX9_hoursUntil_1 3 rfl rfl)
theorem dX9_hoursUntil_27 : decode cX9_hoursUntil 27 = .ok (.aload_n 0, 1) := dk_42 (dk_at dksX9_hoursUntil_1 4 rfl rfl)
theorem dX9_hoursUntil_28 : decode cX9_hoursUntil 28 = .ok (.invokevirtual 146, 3) := dk_182 0 146 (dk_at dksX9_hoursUntil_1 5 rfl rfl)
theorem dX9_hoursUntil_31 : decode cX9_hoursUntil 31 = .ok (.iinc 2 1, 3) := dk_132 2 1 (dk_at dksX9_hoursUntil_1 8 rfl rfl)
theorem dX9_hoursUntil_34 : decode cX9_hoursUntil 34 = .ok (.goto (-28), 3) := dk_167 255 228 (dk_at dksX9_hoursUntil_1 11 rfl rfl)
theorem dX9_hoursUntil_37 : decode cX9_hoursUntil 37 = .ok (.aload_n 0, 1) := dk_42 (dk_at dksX9_hoursUntil_1 14 rfl rfl)
theorem dX9_hoursUntil_38 : decode cX9_hoursUntil 38 = .ok (.iconst (-1), 1) := dk_2 (dk_at dksX9_hoursUntil_1 15 rfl rfl)
theorem dX9_hoursUntil_39 : decode cX9_hoursUntil 39 = .ok (.invokevirtual 363, 3) := dk_182 1 107 (dk_at dksX9_hoursUntil_1 16 rfl rfl)
theorem dX9_hoursUntil_42 : decode cX9_hoursUntil 42 = .ok (.ireturn, 1) := dk_172 (dk_at dksX9_hoursUntil_1 19 rfl rfl)
abbrev cX9_hoursUntilClosed : ByteArray := prog_17_method_113_code
def yX9_hoursUntilClosed : MethodName := ⟨RX9, "hoursUntilClosed", "()I"⟩
def dkwX9_hoursUntilClosed_0 : List UInt8 := [42, 3, 181, 0, 55, 42, 3, 182, 1, 110, 172]
abbrev dktX9_hoursUntilClosed_0 : List UInt8 := dkwX9_hoursUntilClosed_0 ++ []
theorem dksX9_hoursUntilClosed_0 : cX9_hoursUntilClosed.data.toList.drop 0 = dktX9_hoursUntilClosed_0 := by decide +kernel
theorem dX9_hoursUntilClosed_0 : decode cX9_hoursUntilClosed 0 = .ok (.aload_n 0, 1) := dk_42 (dk_at dksX9_hoursUntilClosed_0 0 rfl rfl)
theorem dX9_hoursUntilClosed_1 : decode cX9_hoursUntilClosed 1 = .ok (.iconst 0, 1) := dk_3 (dk_at dksX9_hoursUntilClosed_0 1 rfl rfl)
theorem dX9_hoursUntilClosed_2 : decode cX9_hoursUntilClosed 2 = .ok (.putfield 55, 3) := dk_181 0 55 (dk_at dksX9_hoursUntilClosed_0 2 rfl rfl)
theorem dX9_hoursUntilClosed_5 : decode cX9_hoursUntilClosed 5 = .ok (.aload_n 0, 1) := dk_42 (dk_at dksX9_hoursUntilClosed_0 5 rfl rfl)
theorem dX9_hoursUntilClosed_6 : decode cX9_hoursUntilClosed 6 = .ok (.iconst 0, 1) := dk_3 (dk_at dksX9_hoursUntilClosed_0 6 rfl rfl)
theorem dX9_hoursUntilClosed_7 : decode cX9_hoursUntilClosed 7 = .ok (.invokevirtual 366, 3) := dk_182 1 110 (dk_at dksX9_hoursUntilClosed_0 7 rfl rfl)
theorem dX9_hoursUntilClosed_10 : decode cX9_hoursUntilClosed 10 = .ok (.ireturn, 1) := dk_172 (dk_at dksX9_hoursUntilClosed_0 10 rfl rfl)
abbrev cX9_hoursUntilCrossed : ByteArray := prog_17_method_114_code
def yX9_hoursUntilCrossed : MethodName := ⟨RX9, "hoursUntilCrossed", "(I)I"⟩
def dkwX9_hoursUntilCrossed_2 : List UInt8 := [167, 255, 228, 42, 2, 182, 1, 107, 172]
abbrev dktX9_hoursUntilCrossed_2 : List UInt8 := dkwX9_hoursUntilCrossed_2 ++ []
def dkwX9_hoursUntilCrossed_1 : List UInt8 := [163, 0, 27, 42, 182, 0, 146, 42, 27, 182, 1, 92, 154, 0, 9, 42, 28, 182, 1, 107, 172, 132, 2, 1]
abbrev dktX9_hoursUntilCrossed_1 : List UInt8 := dkwX9_hoursUntilCrossed_1 ++ dktX9_hoursUntilCrossed_2
def dkwX9_hoursUntilCrossed_0 : List UInt8 := [42, 42, 27, 182, 1, 92, 182, 0, 164, 154, 0, 5, 3, 172, 42, 182, 1, 104, 4, 61, 28, 17, 0, 240]
abbrev dktX9_hoursUntilCrossed_0 : List UInt8 := dkwX9_hoursUntilCrossed_0 ++ dktX9_hoursUntilCrossed_1
theorem dksX9_hoursUntilCrossed_0 : cX9_hoursUntilCrossed.data.toList.drop 0 = dktX9_hoursUntilCrossed_0 := by decide +kernel
theorem dksX9_hoursUntilCrossed_1 : cX9_hoursUntilCrossed.data.toList.drop 24 = dktX9_hoursUntilCrossed_1 := dk_seg dksX9_hoursUntilCrossed_0 24 rfl rfl
theorem dksX9_hoursUntilCrossed_2 : cX9_hoursUntilCrossed.data.toList.drop 48 = dktX9_hoursUntilCrossed_2 := dk_seg dksX9_hoursUntilCrossed_1 24 rfl rfl
theorem dX9_hoursUntilCrossed_0 : decode cX9_hoursUntilCrossed 0 = .ok (.aload_n 0, 1) := dk_42 (dk_at dksX9_hoursUntilCrossed_0 0 rfl rfl)
theorem dX9_hoursUntilCrossed_1 : decode cX9_hoursUntilCrossed 1 = .ok (.aload_n 0, 1) := dk_42 (dk_at dksX9_hoursUntilCrossed_0 1 rfl rfl)
theorem dX9_hoursUntilCrossed_2 : decode cX9_hoursUntilCrossed 2 = .ok (.iload_n 1, 1) := dk_27 (dk_at dksX9_hoursUntilCrossed_0 2 rfl rfl)
theorem dX9_hoursUntilCrossed_3 : decode cX9_hoursUntilCrossed 3 = .ok (.invokevirtual 348, 3) := dk_182 1 92 (dk_at dksX9_hoursUntilCrossed_0 3 rfl rfl)
theorem dX9_hoursUntilCrossed_6 : decode cX9_hoursUntilCrossed 6 = .ok (.invokevirtual 164, 3) := dk_182 0 164 (dk_at dksX9_hoursUntilCrossed_0 6 rfl rfl)
theorem dX9_hoursUntilCrossed_9 : decode cX9_hoursUntilCrossed 9 = .ok (.ifCond .ne 5, 3) := dk_154 0 5 (dk_at dksX9_hoursUntilCrossed_0 9 rfl rfl)
theorem dX9_hoursUntilCrossed_12 : decode cX9_hoursUntilCrossed 12 = .ok (.iconst 0, 1) := dk_3 (dk_at dksX9_hoursUntilCrossed_0 12 rfl rfl)
theorem dX9_hoursUntilCrossed_13 : decode cX9_hoursUntilCrossed 13 = .ok (.ireturn, 1) := dk_172 (dk_at dksX9_hoursUntilCrossed_0 13 rfl rfl)
theorem dX9_hoursUntilCrossed_14 : decode cX9_hoursUntilCrossed 14 = .ok (.aload_n 0, 1) := dk_42 (dk_at dksX9_hoursUntilCrossed_0 14 rfl rfl)
theorem dX9_hoursUntilCrossed_15 : decode cX9_hoursUntilCrossed 15 = .ok (.invokevirtual 360, 3) := dk_182 1 104 (dk_at dksX9_hoursUntilCrossed_0 15 rfl rfl)
theorem dX9_hoursUntilCrossed_18 : decode cX9_hoursUntilCrossed 18 = .ok (.iconst 1, 1) := dk_4 (dk_at dksX9_hoursUntilCrossed_0 18 rfl rfl)
theorem dX9_hoursUntilCrossed_19 : decode cX9_hoursUntilCrossed 19 = .ok (.istore_n 2, 1) := dk_61 (dk_at dksX9_hoursUntilCrossed_0 19 rfl rfl)
theorem dX9_hoursUntilCrossed_20 : decode cX9_hoursUntilCrossed 20 = .ok (.iload_n 2, 1) := dk_28 (dk_at dksX9_hoursUntilCrossed_0 20 rfl rfl)
theorem dX9_hoursUntilCrossed_21 : decode cX9_hoursUntilCrossed 21 = .ok (.sipush 240, 3) := dk_17 0 240 (dk_at dksX9_hoursUntilCrossed_0 21 rfl rfl)
theorem dX9_hoursUntilCrossed_24 : decode cX9_hoursUntilCrossed 24 = .ok (.if_icmp .gt 27, 3) := dk_163 0 27 (dk_at dksX9_hoursUntilCrossed_1 0 rfl rfl)
theorem dX9_hoursUntilCrossed_27 : decode cX9_hoursUntilCrossed 27 = .ok (.aload_n 0, 1) := dk_42 (dk_at dksX9_hoursUntilCrossed_1 3 rfl rfl)
theorem dX9_hoursUntilCrossed_28 : decode cX9_hoursUntilCrossed 28 = .ok (.invokevirtual 146, 3) := dk_182 0 146 (dk_at dksX9_hoursUntilCrossed_1 4 rfl rfl)
theorem dX9_hoursUntilCrossed_31 : decode cX9_hoursUntilCrossed 31 = .ok (.aload_n 0, 1) := dk_42 (dk_at dksX9_hoursUntilCrossed_1 7 rfl rfl)
theorem dX9_hoursUntilCrossed_32 : decode cX9_hoursUntilCrossed 32 = .ok (.iload_n 1, 1) := dk_27 (dk_at dksX9_hoursUntilCrossed_1 8 rfl rfl)
theorem dX9_hoursUntilCrossed_33 : decode cX9_hoursUntilCrossed 33 = .ok (.invokevirtual 348, 3) := dk_182 1 92 (dk_at dksX9_hoursUntilCrossed_1 9 rfl rfl)
theorem dX9_hoursUntilCrossed_36 : decode cX9_hoursUntilCrossed 36 = .ok (.ifCond .ne 9, 3) := dk_154 0 9 (dk_at dksX9_hoursUntilCrossed_1 12 rfl rfl)
theorem dX9_hoursUntilCrossed_39 : decode cX9_hoursUntilCrossed 39 = .ok (.aload_n 0, 1) := dk_42 (dk_at dksX9_hoursUntilCrossed_1 15 rfl rfl)
theorem dX9_hoursUntilCrossed_40 : decode cX9_hoursUntilCrossed 40 = .ok (.iload_n 2, 1) := dk_28 (dk_at dksX9_hoursUntilCrossed_1 16 rfl rfl)
theorem dX9_hoursUntilCrossed_41 : decode cX9_hoursUntilCrossed 41 = .ok (.invokevirtual 363, 3) := dk_182 1 107 (dk_at dksX9_hoursUntilCrossed_1 17 rfl rfl)
theorem dX9_hoursUntilCrossed_44 : decode cX9_hoursUntilCrossed 44 = .ok (.ireturn, 1) := dk_172 (dk_at dksX9_hoursUntilCrossed_1 20 rfl rfl)
theorem dX9_hoursUntilCrossed_45 : decode cX9_hoursUntilCrossed 45 = .ok (.iinc 2 1, 3) := dk_132 2 1 (dk_at dksX9_hoursUntilCrossed_1 21 rfl rfl)
theorem dX9_hoursUntilCrossed_48 : decode cX9_hoursUntilCrossed 48 = .ok (.goto (-28), 3) := dk_167 255 228 (dk_at dksX9_hoursUntilCrossed_2 0 rfl rfl)
theorem dX9_hoursUntilCrossed_51 : decode cX9_hoursUntilCrossed 51 = .ok (.aload_n 0, 1) := dk_42 (dk_at dksX9_hoursUntilCrossed_2 3 rfl rfl)
theorem dX9_hoursUntilCrossed_52 : decode cX9_hoursUntilCrossed 52 = .ok (.iconst (-1), 1) := dk_2 (dk_at dksX9_hoursUntilCrossed_2 4 rfl rfl)
theorem dX9_hoursUntilCrossed_53 : decode cX9_hoursUntilCrossed 53 = .ok (.invokevirtual 363, 3) := dk_182 1 107 (dk_at dksX9_hoursUntilCrossed_2 5 rfl rfl)
theorem dX9_hoursUntilCrossed_56 : decode cX9_hoursUntilCrossed 56 = .ok (.ireturn, 1) := dk_172 (dk_at dksX9_hoursUntilCrossed_2 8 rfl rfl)
abbrev cX9_crossedAfter : ByteArray := prog_17_method_115_code
def yX9_crossedAfter : MethodName := ⟨RX9, "crossedAfter", "(II)I"⟩
def dkwX9_crossedAfter_2 : List UInt8 := [182, 1, 107, 29, 100, 172]
abbrev dktX9_crossedAfter_2 : List UInt8 := dkwX9_crossedAfter_2 ++ []
def dkwX9_crossedAfter_1 : List UInt8 := [96, 46, 62, 42, 182, 1, 104, 42, 28, 182, 0, 152, 42, 42, 180, 0, 7, 16, 15, 27, 96, 46]
abbrev dktX9_crossedAfter_1 : List UInt8 := dkwX9_crossedAfter_1 ++ dktX9_crossedAfter_2
def dkwX9_crossedAfter_0 : List UInt8 := [42, 27, 184, 1, 86, 28, 184, 1, 97, 182, 1, 100, 154, 0, 5, 3, 172, 42, 180, 0, 7, 16, 15, 27]
abbrev dktX9_crossedAfter_0 : List UInt8 := dkwX9_crossedAfter_0 ++ dktX9_crossedAfter_1
theorem dksX9_crossedAfter_0 : cX9_crossedAfter.data.toList.drop 0 = dktX9_crossedAfter_0 := by decide +kernel
theorem dksX9_crossedAfter_1 : cX9_crossedAfter.data.toList.drop 24 = dktX9_crossedAfter_1 := dk_seg dksX9_crossedAfter_0 24 rfl rfl
theorem dksX9_crossedAfter_2 : cX9_crossedAfter.data.toList.drop 46 = dktX9_crossedAfter_2 := dk_seg dksX9_crossedAfter_1 22 rfl rfl
theorem dX9_crossedAfter_0 : decode cX9_crossedAfter 0 = .ok (.aload_n 0, 1) := dk_42 (dk_at dksX9_crossedAfter_0 0 rfl rfl)
theorem dX9_crossedAfter_1 : decode cX9_crossedAfter 1 = .ok (.iload_n 1, 1) := dk_27 (dk_at dksX9_crossedAfter_0 1 rfl rfl)
theorem dX9_crossedAfter_2 : decode cX9_crossedAfter 2 = .ok (.invokestatic 342, 3) := dk_184 1 86 (dk_at dksX9_crossedAfter_0 2 rfl rfl)
theorem dX9_crossedAfter_5 : decode cX9_crossedAfter 5 = .ok (.iload_n 2, 1) := dk_28 (dk_at dksX9_crossedAfter_0 5 rfl rfl)
theorem dX9_crossedAfter_6 : decode cX9_crossedAfter 6 = .ok (.invokestatic 353, 3) := dk_184 1 97 (dk_at dksX9_crossedAfter_0 6 rfl rfl)
theorem dX9_crossedAfter_9 : decode cX9_crossedAfter 9 = .ok (.invokevirtual 356, 3) := dk_182 1 100 (dk_at dksX9_crossedAfter_0 9 rfl rfl)
theorem dX9_crossedAfter_12 : decode cX9_crossedAfter 12 = .ok (.ifCond .ne 5, 3) := dk_154 0 5 (dk_at dksX9_crossedAfter_0 12 rfl rfl)
theorem dX9_crossedAfter_15 : decode cX9_crossedAfter 15 = .ok (.iconst 0, 1) := dk_3 (dk_at dksX9_crossedAfter_0 15 rfl rfl)
theorem dX9_crossedAfter_16 : decode cX9_crossedAfter 16 = .ok (.ireturn, 1) := dk_172 (dk_at dksX9_crossedAfter_0 16 rfl rfl)
theorem dX9_crossedAfter_17 : decode cX9_crossedAfter 17 = .ok (.aload_n 0, 1) := dk_42 (dk_at dksX9_crossedAfter_0 17 rfl rfl)
theorem dX9_crossedAfter_18 : decode cX9_crossedAfter 18 = .ok (.getfield 7, 3) := dk_180 0 7 (dk_at dksX9_crossedAfter_0 18 rfl rfl)
theorem dX9_crossedAfter_21 : decode cX9_crossedAfter 21 = .ok (.bipush 15, 2) := dk_16 15 (dk_at dksX9_crossedAfter_0 21 rfl rfl)
theorem dX9_crossedAfter_23 : decode cX9_crossedAfter 23 = .ok (.iload_n 1, 1) := dk_27 (dk_at dksX9_crossedAfter_0 23 rfl rfl)
theorem dX9_crossedAfter_24 : decode cX9_crossedAfter 24 = .ok (.iadd, 1) := dk_96 (dk_at dksX9_crossedAfter_1 0 rfl rfl)
theorem dX9_crossedAfter_25 : decode cX9_crossedAfter 25 = .ok (.iaload, 1) := dk_46 (dk_at dksX9_crossedAfter_1 1 rfl rfl)
theorem dX9_crossedAfter_26 : decode cX9_crossedAfter 26 = .ok (.istore_n 3, 1) := dk_62 (dk_at dksX9_crossedAfter_1 2 rfl rfl)
theorem dX9_crossedAfter_27 : decode cX9_crossedAfter 27 = .ok (.aload_n 0, 1) := dk_42 (dk_at dksX9_crossedAfter_1 3 rfl rfl)
theorem dX9_crossedAfter_28 : decode cX9_crossedAfter 28 = .ok (.invokevirtual 360, 3) := dk_182 1 104 (dk_at dksX9_crossedAfter_1 4 rfl rfl)
theorem dX9_crossedAfter_31 : decode cX9_crossedAfter 31 = .ok (.aload_n 0, 1) := dk_42 (dk_at dksX9_crossedAfter_1 7 rfl rfl)
theorem dX9_crossedAfter_32 : decode cX9_crossedAfter 32 = .ok (.iload_n 2, 1) := dk_28 (dk_at dksX9_crossedAfter_1 8 rfl rfl)
theorem dX9_crossedAfter_33 : decode cX9_crossedAfter 33 = .ok (.invokevirtual 152, 3) := dk_182 0 152 (dk_at dksX9_crossedAfter_1 9 rfl rfl)
theorem dX9_crossedAfter_36 : decode cX9_crossedAfter 36 = .ok (.aload_n 0, 1) := dk_42 (dk_at dksX9_crossedAfter_1 12 rfl rfl)
theorem dX9_crossedAfter_37 : decode cX9_crossedAfter 37 = .ok (.aload_n 0, 1) := dk_42 (dk_at dksX9_crossedAfter_1 13 rfl rfl)
theorem dX9_crossedAfter_38 : decode cX9_crossedAfter 38 = .ok (.getfield 7, 3) := dk_180 0 7 (dk_at dksX9_crossedAfter_1 14 rfl rfl)
theorem dX9_crossedAfter_41 : decode cX9_crossedAfter 41 = .ok (.bipush 15, 2) := dk_16 15 (dk_at dksX9_crossedAfter_1 17 rfl rfl)
theorem dX9_crossedAfter_43 : decode cX9_crossedAfter 43 = .ok (.iload_n 1, 1) := dk_27 (dk_at dksX9_crossedAfter_1 19 rfl rfl)
theorem dX9_crossedAfter_44 : decode cX9_crossedAfter 44 = .ok (.iadd, 1) := dk_96 (dk_at dksX9_crossedAfter_1 20 rfl rfl)
theorem dX9_crossedAfter_45 : decode cX9_crossedAfter 45 = .ok (.iaload, 1) := dk_46 (dk_at dksX9_crossedAfter_1 21 rfl rfl)
theorem dX9_crossedAfter_46 : decode cX9_crossedAfter 46 = .ok (.invokevirtual 363, 3) := dk_182 1 107 (dk_at dksX9_crossedAfter_2 0 rfl rfl)
theorem dX9_crossedAfter_49 : decode cX9_crossedAfter 49 = .ok (.iload_n 3, 1) := dk_29 (dk_at dksX9_crossedAfter_2 3 rfl rfl)
theorem dX9_crossedAfter_50 : decode cX9_crossedAfter 50 = .ok (.isub, 1) := dk_100 (dk_at dksX9_crossedAfter_2 4 rfl rfl)
theorem dX9_crossedAfter_51 : decode cX9_crossedAfter 51 = .ok (.ireturn, 1) := dk_172 (dk_at dksX9_crossedAfter_2 5 rfl rfl)
abbrev cX9_leastCapacity : ByteArray := prog_17_method_116_code
def yX9_leastCapacity : MethodName := ⟨RX9, "leastCapacity", "(II)I"⟩
def dkwX9_leastCapacity_2 : List UInt8 := [182, 0, 70, 182, 1, 107, 4, 160, 0, 5, 29, 172, 132, 3, 1, 167, 255, 214, 2, 172]
abbrev dktX9_leastCapacity_2 : List UInt8 := dkwX9_leastCapacity_2 ++ []
def dkwX9_leastCapacity_1 : List UInt8 := [163, 0, 41, 42, 182, 1, 104, 42, 27, 4, 29, 182, 0, 87, 42, 28, 182, 0, 152, 42, 42, 27, 6]
abbrev dktX9_leastCapacity_1 : List UInt8 := dkwX9_leastCapacity_1 ++ dktX9_leastCapacity_2
def dkwX9_leastCapacity_0 : List UInt8 := [42, 27, 184, 1, 86, 28, 184, 1, 97, 182, 1, 100, 154, 0, 5, 3, 172, 4, 62, 29, 17, 0, 200]
abbrev dktX9_leastCapacity_0 : List UInt8 := dkwX9_leastCapacity_0 ++ dktX9_leastCapacity_1
theorem dksX9_leastCapacity_0 : cX9_leastCapacity.data.toList.drop 0 = dktX9_leastCapacity_0 := by decide +kernel
theorem dksX9_leastCapacity_1 : cX9_leastCapacity.data.toList.drop 23 = dktX9_leastCapacity_1 := dk_seg dksX9_leastCapacity_0 23 rfl rfl
theorem dksX9_leastCapacity_2 : cX9_leastCapacity.data.toList.drop 46 = dktX9_leastCapacity_2 := dk_seg dksX9_leastCapacity_1 23 rfl rfl
theorem dX9_leastCapacity_0 : decode cX9_leastCapacity 0 = .ok (.aload_n 0, 1) := dk_42 (dk_at dksX9_leastCapacity_0 0 rfl rfl)
theorem dX9_leastCapacity_1 : decode cX9_leastCapacity 1 = .ok (.iload_n 1, 1) := dk_27 (dk_at dksX9_leastCapacity_0 1 rfl rfl)
theorem dX9_leastCapacity_2 : decode cX9_leastCapacity 2 = .ok (.invokestatic 342, 3) := dk_184 1 86 (dk_at dksX9_leastCapacity_0 2 rfl rfl)
theorem dX9_leastCapacity_5 : decode cX9_leastCapacity 5 = .ok (.iload_n 2, 1) := dk_28 (dk_at dksX9_leastCapacity_0 5 rfl rfl)
theorem dX9_leastCapacity_6 : decode cX9_leastCapacity 6 = .ok (.invokestatic 353, 3) := dk_184 1 97 (dk_at dksX9_leastCapacity_0 6 rfl rfl)
theorem dX9_leastCapacity_9 : decode cX9_leastCapacity 9 = .ok (.invokevirtual 356, 3) := dk_182 1 100 (dk_at dksX9_leastCapacity_0 9 rfl rfl)
theorem dX9_leastCapacity_12 : decode cX9_leastCapacity 12 = .ok (.ifCond .ne 5, 3) := dk_154 0 5 (dk_at dksX9_leastCapacity_0 12 rfl rfl)
theorem dX9_leastCapacity_15 : decode cX9_leastCapacity 15 = .ok (.iconst 0, 1) := dk_3 (dk_at dksX9_leastCapacity_0 15 rfl rfl)
theorem dX9_leastCapacity_16 : decode cX9_leastCapacity 16 = .ok (.ireturn, 1) := dk_172 (dk_at dksX9_leastCapacity_0 16 rfl rfl)
theorem dX9_leastCapacity_17 : decode cX9_leastCapacity 17 = .ok (.iconst 1, 1) := dk_4 (dk_at dksX9_leastCapacity_0 17 rfl rfl)
theorem dX9_leastCapacity_18 : decode cX9_leastCapacity 18 = .ok (.istore_n 3, 1) := dk_62 (dk_at dksX9_leastCapacity_0 18 rfl rfl)
theorem dX9_leastCapacity_19 : decode cX9_leastCapacity 19 = .ok (.iload_n 3, 1) := dk_29 (dk_at dksX9_leastCapacity_0 19 rfl rfl)
theorem dX9_leastCapacity_20 : decode cX9_leastCapacity 20 = .ok (.sipush 200, 3) := dk_17 0 200 (dk_at dksX9_leastCapacity_0 20 rfl rfl)
theorem dX9_leastCapacity_23 : decode cX9_leastCapacity 23 = .ok (.if_icmp .gt 41, 3) := dk_163 0 41 (dk_at dksX9_leastCapacity_1 0 rfl rfl)
theorem dX9_leastCapacity_26 : decode cX9_leastCapacity 26 = .ok (.aload_n 0, 1) := dk_42 (dk_at dksX9_leastCapacity_1 3 rfl rfl)
theorem dX9_leastCapacity_27 : decode cX9_leastCapacity 27 = .ok (.invokevirtual 360, 3) := dk_182 1 104 (dk_at dksX9_leastCapacity_1 4 rfl rfl)
theorem dX9_leastCapacity_30 : decode cX9_leastCapacity 30 = .ok (.aload_n 0, 1) := dk_42 (dk_at dksX9_leastCapacity_1 7 rfl rfl)
theorem dX9_leastCapacity_31 : decode cX9_leastCapacity 31 = .ok (.iload_n 1, 1) := dk_27 (dk_at dksX9_leastCapacity_1 8 rfl rfl)
theorem dX9_leastCapacity_32 : decode cX9_leastCapacity 32 = .ok (.iconst 1, 1) := dk_4 (dk_at dksX9_leastCapacity_1 9 rfl rfl)
theorem dX9_leastCapacity_33 : decode cX9_leastCapacity 33 = .ok (.iload_n 3, 1) := dk_29 (dk_at dksX9_leastCapacity_1 10 rfl rfl)
theorem dX9_leastCapacity_34 : decode cX9_leastCapacity 34 = .ok (.invokevirtual 87, 3) := dk_182 0 87 (dk_at dksX9_leastCapacity_1 11 rfl rfl)
theorem dX9_leastCapacity_37 : decode cX9_leastCapacity 37 = .ok (.aload_n 0, 1) := dk_42 (dk_at dksX9_leastCapacity_1 14 rfl rfl)
theorem dX9_leastCapacity_38 : decode cX9_leastCapacity 38 = .ok (.iload_n 2, 1) := dk_28 (dk_at dksX9_leastCapacity_1 15 rfl rfl)
theorem dX9_leastCapacity_39 : decode cX9_leastCapacity 39 = .ok (.invokevirtual 152, 3) := dk_182 0 152 (dk_at dksX9_leastCapacity_1 16 rfl rfl)
theorem dX9_leastCapacity_42 : decode cX9_leastCapacity 42 = .ok (.aload_n 0, 1) := dk_42 (dk_at dksX9_leastCapacity_1 19 rfl rfl)
theorem dX9_leastCapacity_43 : decode cX9_leastCapacity 43 = .ok (.aload_n 0, 1) := dk_42 (dk_at dksX9_leastCapacity_1 20 rfl rfl)
theorem dX9_leastCapacity_44 : decode cX9_leastCapacity 44 = .ok (.iload_n 1, 1) := dk_27 (dk_at dksX9_leastCapacity_1 21 rfl rfl)
theorem dX9_leastCapacity_45 : decode cX9_leastCapacity 45 = .ok (.iconst 3, 1) := dk_6 (dk_at dksX9_leastCapacity_1 22 rfl rfl)
theorem dX9_leastCapacity_46 : decode cX9_leastCapacity 46 = .ok (.invokevirtual 70, 3) := dk_182 0 70 (dk_at dksX9_leastCapacity_2 0 rfl rfl)
theorem dX9_leastCapacity_49 : decode cX9_leastCapacity 49 = .ok (.invokevirtual 363, 3) := dk_182 1 107 (dk_at dksX9_leastCapacity_2 3 rfl rfl)
theorem dX9_leastCapacity_52 : decode cX9_leastCapacity 52 = .ok (.iconst 1, 1) := dk_4 (dk_at dksX9_leastCapacity_2 6 rfl rfl)
theorem dX9_leastCapacity_53 : decode cX9_leastCapacity 53 = .ok (.if_icmp .ne 5, 3) := dk_160 0 5 (dk_at dksX9_leastCapacity_2 7 rfl rfl)
theorem dX9_leastCapacity_56 : decode cX9_leastCapacity 56 = .ok (.iload_n 3, 1) := dk_29 (dk_at dksX9_leastCapacity_2 10 rfl rfl)
theorem dX9_leastCapacity_57 : decode cX9_leastCapacity 57 = .ok (.ireturn, 1) := dk_172 (dk_at dksX9_leastCapacity_2 11 rfl rfl)
theorem dX9_leastCapacity_58 : decode cX9_leastCapacity 58 = .ok (.iinc 3 1, 3) := dk_132 3 1 (dk_at dksX9_leastCapacity_2 12 rfl rfl)
theorem dX9_leastCapacity_61 : decode cX9_leastCapacity 61 = .ok (.goto (-42), 3) := dk_167 255 214 (dk_at dksX9_leastCapacity_2 15 rfl rfl)
theorem dX9_leastCapacity_64 : decode cX9_leastCapacity 64 = .ok (.iconst (-1), 1) := dk_2 (dk_at dksX9_leastCapacity_2 18 rfl rfl)
theorem dX9_leastCapacity_65 : decode cX9_leastCapacity 65 = .ok (.ireturn, 1) := dk_172 (dk_at dksX9_leastCapacity_2 19 rfl rfl)
abbrev cX9_bestSaltSegment : ByteArray := prog_17_method_118_code
def yX9_bestSaltSegment : MethodName := ⟨RX9, "bestSaltSegment", "(I)I"⟩
def dkwX9_bestSaltSegment_3 : List UInt8 := [132, 4, 1, 167, 255, 203, 28, 172]
abbrev dktX9_bestSaltSegment_3 : List UInt8 := dkwX9_bestSaltSegment_3 ++ []
def dkwX9_bestSaltSegment_2 : List UInt8 := [27, 182, 1, 113, 54, 5, 28, 2, 159, 0, 9, 21, 5, 29, 162, 0, 9, 21, 4, 61, 21, 5, 62]
abbrev dktX9_bestSaltSegment_2 : List UInt8 := dkwX9_bestSaltSegment_2 ++ dktX9_bestSaltSegment_3
def dkwX9_bestSaltSegment_1 : List UInt8 := [180, 0, 7, 3, 46, 162, 0, 48, 42, 21, 4, 5, 182, 0, 66, 158, 0, 6, 167, 0, 29, 42, 21, 4]
abbrev dktX9_bestSaltSegment_1 : List UInt8 := dkwX9_bestSaltSegment_1 ++ dktX9_bestSaltSegment_2
def dkwX9_bestSaltSegment_0 : List UInt8 := [42, 27, 184, 1, 97, 182, 0, 164, 154, 0, 5, 3, 172, 2, 61, 3, 62, 3, 54, 4, 21, 4, 42]
abbrev dktX9_bestSaltSegment_0 : List UInt8 := dkwX9_bestSaltSegment_0 ++ dktX9_bestSaltSegment_1
theorem dksX9_bestSaltSegment_0 : cX9_bestSaltSegment.data.toList.drop 0 = dktX9_bestSaltSegment_0 := by decide +kernel
theorem dksX9_bestSaltSegment_1 : cX9_bestSaltSegment.data.toList.drop 23 = dktX9_bestSaltSegment_1 := dk_seg dksX9_bestSaltSegment_0 23 rfl rfl
theorem dksX9_bestSaltSegment_2 : cX9_bestSaltSegment.data.toList.drop 47 = dktX9_bestSaltSegment_2 := dk_seg dksX9_bestSaltSegment_1 24 rfl rfl
theorem dksX9_bestSaltSegment_3 : cX9_bestSaltSegment.data.toList.drop 70 = dktX9_bestSaltSegment_3 := dk_seg dksX9_bestSaltSegment_2 23 rfl rfl
theorem dX9_bestSaltSegment_0 : decode cX9_bestSaltSegment 0 = .ok (.aload_n 0, 1) := dk_42 (dk_at dksX9_bestSaltSegment_0 0 rfl rfl)
theorem dX9_bestSaltSegment_1 : decode cX9_bestSaltSegment 1 = .ok (.iload_n 1, 1) := dk_27 (dk_at dksX9_bestSaltSegment_0 1 rfl rfl)
theorem dX9_bestSaltSegment_2 : decode cX9_bestSaltSegment 2 = .ok (.invokestatic 353, 3) := dk_184 1 97 (dk_at dksX9_bestSaltSegment_0 2 rfl rfl)
theorem dX9_bestSaltSegment_5 : decode cX9_bestSaltSegment 5 = .ok (.invokevirtual 164, 3) := dk_182 0 164 (dk_at dksX9_bestSaltSegment_0 5 rfl rfl)
theorem dX9_bestSaltSegment_8 : decode cX9_bestSaltSegment 8 = .ok (.ifCond .ne 5, 3) := dk_154 0 5 (dk_at dksX9_bestSaltSegment_0 8 rfl rfl)
theorem dX9_bestSaltSegment_11 : decode cX9_bestSaltSegment 11 = .ok (.iconst 0, 1) := dk_3 (dk_at dksX9_bestSaltSegment_0 11 rfl rfl)
theorem dX9_bestSaltSegment_12 : decode cX9_bestSaltSegment 12 = .ok (.ireturn, 1) := dk_172 (dk_at dksX9_bestSaltSegment_0 12 rfl rfl)
theorem dX9_bestSaltSegment_13 : decode cX9_bestSaltSegment 13 = .ok (.iconst (-1), 1) := dk_2 (dk_at dksX9_bestSaltSegment_0 13 rfl rfl)
theorem dX9_bestSaltSegment_14 : decode cX9_bestSaltSegment 14 = .ok (.istore_n 2, 1) := dk_61 (dk_at dksX9_bestSaltSegment_0 14 rfl rfl)
theorem dX9_bestSaltSegment_15 : decode cX9_bestSaltSegment 15 = .ok (.iconst 0, 1) := dk_3 (dk_at dksX9_bestSaltSegment_0 15 rfl rfl)
theorem dX9_bestSaltSegment_16 : decode cX9_bestSaltSegment 16 = .ok (.istore_n 3, 1) := dk_62 (dk_at dksX9_bestSaltSegment_0 16 rfl rfl)
theorem dX9_bestSaltSegment_17 : decode cX9_bestSaltSegment 17 = .ok (.iconst 0, 1) := dk_3 (dk_at dksX9_bestSaltSegment_0 17 rfl rfl)
theorem dX9_bestSaltSegment_18 : decode cX9_bestSaltSegment 18 = .ok (.istore 4, 2) := dk_54 4 (dk_at dksX9_bestSaltSegment_0 18 rfl rfl)
theorem dX9_bestSaltSegment_20 : decode cX9_bestSaltSegment 20 = .ok (.iload 4, 2) := dk_21 4 (dk_at dksX9_bestSaltSegment_0 20 rfl rfl)
theorem dX9_bestSaltSegment_22 : decode cX9_bestSaltSegment 22 = .ok (.aload_n 0, 1) := dk_42 (dk_at dksX9_bestSaltSegment_0 22 rfl rfl)
theorem dX9_bestSaltSegment_23 : decode cX9_bestSaltSegment 23 = .ok (.getfield 7, 3) := dk_180 0 7 (dk_at dksX9_bestSaltSegment_1 0 rfl rfl)
theorem dX9_bestSaltSegment_26 : decode cX9_bestSaltSegment 26 = .ok (.iconst 0, 1) := dk_3 (dk_at dksX9_bestSaltSegment_1 3 rfl rfl)
theorem dX9_bestSaltSegment_27 : decode cX9_bestSaltSegment 27 = .ok (.iaload, 1) := dk_46 (dk_at dksX9_bestSaltSegment_1 4 rfl rfl)
theorem dX9_bestSaltSegment_28 : decode cX9_bestSaltSegment 28 = .ok (.if_icmp .ge 48, 3) := dk_162 0 48 (dk_at dksX9_bestSaltSegment_1 5 rfl rfl)
theorem dX9_bestSaltSegment_31 : decode cX9_bestSaltSegment 31 = .ok (.aload_n 0, 1) := dk_42 (dk_at dksX9_bestSaltSegment_1 8 rfl rfl)
theorem dX9_bestSaltSegment_32 : decode cX9_bestSaltSegment 32 = .ok (.iload 4, 2) := dk_21 4 (dk_at dksX9_bestSaltSegment_1 9 rfl rfl)
theorem dX9_bestSaltSegment_34 : decode cX9_bestSaltSegment 34 = .ok (.iconst 2, 1) := dk_5 (dk_at dksX9_bestSaltSegment_1 11 rfl rfl)
theorem dX9_bestSaltSegment_35 : decode cX9_bestSaltSegment 35 = .ok (.invokevirtual 66, 3) := dk_182 0 66 (dk_at dksX9_bestSaltSegment_1 12 rfl rfl)
theorem dX9_bestSaltSegment_38 : decode cX9_bestSaltSegment 38 = .ok (.ifCond .le 6, 3) := dk_158 0 6 (dk_at dksX9_bestSaltSegment_1 15 rfl rfl)
theorem dX9_bestSaltSegment_41 : decode cX9_bestSaltSegment 41 = .ok (.goto 29, 3) := dk_167 0 29 (dk_at dksX9_bestSaltSegment_1 18 rfl rfl)
theorem dX9_bestSaltSegment_44 : decode cX9_bestSaltSegment 44 = .ok (.aload_n 0, 1) := dk_42 (dk_at dksX9_bestSaltSegment_1 21 rfl rfl)
theorem dX9_bestSaltSegment_45 : decode cX9_bestSaltSegment 45 = .ok (.iload 4, 2) := dk_21 4 (dk_at dksX9_bestSaltSegment_1 22 rfl rfl)
theorem dX9_bestSaltSegment_47 : decode cX9_bestSaltSegment 47 = .ok (.iload_n 1, 1) := dk_27 (dk_at dksX9_bestSaltSegment_2 0 rfl rfl)
theorem dX9_bestSaltSegment_48 : decode cX9_bestSaltSegment 48 = .ok (.invokevirtual 369, 3) := dk_182 1 113 (dk_at dksX9_bestSaltSegment_2 1 rfl rfl)
theorem dX9_bestSaltSegment_51 : decode cX9_bestSaltSegment 51 = .ok (.istore 5, 2) := dk_54 5 (dk_at dksX9_bestSaltSegment_2 4 rfl rfl)
theorem dX9_bestSaltSegment_53 : decode cX9_bestSaltSegment 53 = .ok (.iload_n 2, 1) := dk_28 (dk_at dksX9_bestSaltSegment_2 6 rfl rfl)
theorem dX9_bestSaltSegment_54 : decode cX9_bestSaltSegment 54 = .ok (.iconst (-1), 1) := dk_2 (dk_at dksX9_bestSaltSegment_2 7 rfl rfl)
theorem dX9_bestSaltSegment_55 : decode cX9_bestSaltSegment 55 = .ok (.if_icmp .eq 9, 3) := dk_159 0 9 (dk_at dksX9_bestSaltSegment_2 8 rfl rfl)
theorem dX9_bestSaltSegment_58 : decode cX9_bestSaltSegment 58 = .ok (.iload 5, 2) := dk_21 5 (dk_at dksX9_bestSaltSegment_2 11 rfl rfl)
theorem dX9_bestSaltSegment_60 : decode cX9_bestSaltSegment 60 = .ok (.iload_n 3, 1) := dk_29 (dk_at dksX9_bestSaltSegment_2 13 rfl rfl)
theorem dX9_bestSaltSegment_61 : decode cX9_bestSaltSegment 61 = .ok (.if_icmp .ge 9, 3) := dk_162 0 9 (dk_at dksX9_bestSaltSegment_2 14 rfl rfl)
theorem dX9_bestSaltSegment_64 : decode cX9_bestSaltSegment 64 = .ok (.iload 4, 2) := dk_21 4 (dk_at dksX9_bestSaltSegment_2 17 rfl rfl)
theorem dX9_bestSaltSegment_66 : decode cX9_bestSaltSegment 66 = .ok (.istore_n 2, 1) := dk_61 (dk_at dksX9_bestSaltSegment_2 19 rfl rfl)
theorem dX9_bestSaltSegment_67 : decode cX9_bestSaltSegment 67 = .ok (.iload 5, 2) := dk_21 5 (dk_at dksX9_bestSaltSegment_2 20 rfl rfl)
theorem dX9_bestSaltSegment_69 : decode cX9_bestSaltSegment 69 = .ok (.istore_n 3, 1) := dk_62 (dk_at dksX9_bestSaltSegment_2 22 rfl rfl)
theorem dX9_bestSaltSegment_70 : decode cX9_bestSaltSegment 70 = .ok (.iinc 4 1, 3) := dk_132 4 1 (dk_at dksX9_bestSaltSegment_3 0 rfl rfl)
theorem dX9_bestSaltSegment_73 : decode cX9_bestSaltSegment 73 = .ok (.goto (-53), 3) := dk_167 255 203 (dk_at dksX9_bestSaltSegment_3 3 rfl rfl)
theorem dX9_bestSaltSegment_76 : decode cX9_bestSaltSegment 76 = .ok (.iload_n 2, 1) := dk_28 (dk_at dksX9_bestSaltSegment_3 6 rfl rfl)
theorem dX9_bestSaltSegment_77 : decode cX9_bestSaltSegment 77 = .ok (.ireturn, 1) := dk_172 (dk_at dksX9_bestSaltSegment_3 7 rfl rfl)
abbrev cX9_depthsWithSalt : ByteArray := prog_17_method_117_code
def yX9_depthsWithSalt : MethodName := ⟨RX9, "depthsWithSalt", "(II)I"⟩
def dkwX9_depthsWithSalt_1 : List UInt8 := [182, 1, 107, 172]
abbrev dktX9_depthsWithSalt_1 : List UInt8 := dkwX9_depthsWithSalt_1 ++ []
def dkwX9_depthsWithSalt_0 : List UInt8 := [42, 182, 1, 104, 42, 27, 5, 16, 6, 182, 0, 104, 42, 28, 182, 0, 152, 42, 42, 182, 1, 10]
abbrev dktX9_depthsWithSalt_0 : List UInt8 := dkwX9_depthsWithSalt_0 ++ dktX9_depthsWithSalt_1
theorem dksX9_depthsWithSalt_0 : cX9_depthsWithSalt.data.toList.drop 0 = dktX9_depthsWithSalt_0 := by decide +kernel
theorem dksX9_depthsWithSalt_1 : cX9_depthsWithSalt.data.toList.drop 22 = dktX9_depthsWithSalt_1 := dk_seg dksX9_depthsWithSalt_0 22 rfl rfl
theorem dX9_depthsWithSalt_0 : decode cX9_depthsWithSalt 0 = .ok (.aload_n 0, 1) := dk_42 (dk_at dksX9_depthsWithSalt_0 0 rfl rfl)
theorem dX9_depthsWithSalt_1 : decode cX9_depthsWithSalt 1 = .ok (.invokevirtual 360, 3) := dk_182 1 104 (dk_at dksX9_depthsWithSalt_0 1 rfl rfl)
theorem dX9_depthsWithSalt_4 : decode cX9_depthsWithSalt 4 = .ok (.aload_n 0, 1) := dk_42 (dk_at dksX9_depthsWithSalt_0 4 rfl rfl)
theorem dX9_depthsWithSalt_5 : decode cX9_depthsWithSalt 5 = .ok (.iload_n 1, 1) := dk_27 (dk_at dksX9_depthsWithSalt_0 5 rfl rfl)
theorem dX9_depthsWithSalt_6 : decode cX9_depthsWithSalt 6 = .ok (.iconst 2, 1) := dk_5 (dk_at dksX9_depthsWithSalt_0 6 rfl rfl)
theorem dX9_depthsWithSalt_7 : decode cX9_depthsWithSalt 7 = .ok (.bipush 6, 2) := dk_16 6 (dk_at dksX9_depthsWithSalt_0 7 rfl rfl)
theorem dX9_depthsWithSalt_9 : decode cX9_depthsWithSalt 9 = .ok (.invokevirtual 104, 3) := dk_182 0 104 (dk_at dksX9_depthsWithSalt_0 9 rfl rfl)
theorem dX9_depthsWithSalt_12 : decode cX9_depthsWithSalt 12 = .ok (.aload_n 0, 1) := dk_42 (dk_at dksX9_depthsWithSalt_0 12 rfl rfl)
theorem dX9_depthsWithSalt_13 : decode cX9_depthsWithSalt 13 = .ok (.iload_n 2, 1) := dk_28 (dk_at dksX9_depthsWithSalt_0 13 rfl rfl)
theorem dX9_depthsWithSalt_14 : decode cX9_depthsWithSalt 14 = .ok (.invokevirtual 152, 3) := dk_182 0 152 (dk_at dksX9_depthsWithSalt_0 14 rfl rfl)
theorem dX9_depthsWithSalt_17 : decode cX9_depthsWithSalt 17 = .ok (.aload_n 0, 1) := dk_42 (dk_at dksX9_depthsWithSalt_0 17 rfl rfl)
theorem dX9_depthsWithSalt_18 : decode cX9_depthsWithSalt 18 = .ok (.aload_n 0, 1) := dk_42 (dk_at dksX9_depthsWithSalt_0 18 rfl rfl)
theorem dX9_depthsWithSalt_19 : decode cX9_depthsWithSalt 19 = .ok (.invokevirtual 266, 3) := dk_182 1 10 (dk_at dksX9_depthsWithSalt_0 19 rfl rfl)
theorem dX9_depthsWithSalt_22 : decode cX9_depthsWithSalt 22 = .ok (.invokevirtual 363, 3) := dk_182 1 107 (dk_at dksX9_depthsWithSalt_1 0 rfl rfl)
theorem dX9_depthsWithSalt_25 : decode cX9_depthsWithSalt 25 = .ok (.ireturn, 1) := dk_172 (dk_at dksX9_depthsWithSalt_1 3 rfl rfl)
abbrev cX9_snowFallen : ByteArray := prog_17_method_119_code
def yX9_snowFallen : MethodName := ⟨RX9, "snowFallen", "()I"⟩
def dkwX9_snowFallen_0 : List UInt8 := [42, 16, 10, 182, 1, 73, 172]
abbrev dktX9_snowFallen_0 : List UInt8 := dkwX9_snowFallen_0 ++ []
theorem dksX9_snowFallen_0 : cX9_snowFallen.data.toList.drop 0 = dktX9_snowFallen_0 := by decide +kernel
theorem dX9_snowFallen_0 : decode cX9_snowFallen 0 = .ok (.aload_n 0, 1) := dk_42 (dk_at dksX9_snowFallen_0 0 rfl rfl)
theorem dX9_snowFallen_1 : decode cX9_snowFallen 1 = .ok (.bipush 10, 2) := dk_16 10 (dk_at dksX9_snowFallen_0 1 rfl rfl)
theorem dX9_snowFallen_3 : decode cX9_snowFallen 3 = .ok (.invokevirtual 329, 3) := dk_182 1 73 (dk_at dksX9_snowFallen_0 3 rfl rfl)
theorem dX9_snowFallen_6 : decode cX9_snowFallen 6 = .ok (.ireturn, 1) := dk_172 (dk_at dksX9_snowFallen_0 6 rfl rfl)
abbrev cX9_snowCleared : ByteArray := prog_17_method_120_code
def yX9_snowCleared : MethodName := ⟨RX9, "snowCleared", "()I"⟩
def dkwX9_snowCleared_0 : List UInt8 := [42, 16, 11, 182, 1, 73, 172]
abbrev dktX9_snowCleared_0 : List UInt8 := dkwX9_snowCleared_0 ++ []
theorem dksX9_snowCleared_0 : cX9_snowCleared.data.toList.drop 0 = dktX9_snowCleared_0 := by decide +kernel
theorem dX9_snowCleared_0 : decode cX9_snowCleared 0 = .ok (.aload_n 0, 1) := dk_42 (dk_at dksX9_snowCleared_0 0 rfl rfl)
theorem dX9_snowCleared_1 : decode cX9_snowCleared 1 = .ok (.bipush 11, 2) := dk_16 11 (dk_at dksX9_snowCleared_0 1 rfl rfl)
theorem dX9_snowCleared_3 : decode cX9_snowCleared 3 = .ok (.invokevirtual 329, 3) := dk_182 1 73 (dk_at dksX9_snowCleared_0 3 rfl rfl)
theorem dX9_snowCleared_6 : decode cX9_snowCleared 6 = .ok (.ireturn, 1) := dk_172 (dk_at dksX9_snowCleared_0 6 rfl rfl)
abbrev cX9_snowMelted : ByteArray := prog_17_method_121_code
def yX9_snowMelted : MethodName := ⟨RX9, "snowMelted", "()I"⟩
def dkwX9_snowMelted_0 : List UInt8 := [42, 16, 12, 182, 1, 73, 172]
abbrev dktX9_snowMelted_0 : List UInt8 := dkwX9_snowMelted_0 ++ []
theorem dksX9_snowMelted_0 : cX9_snowMelted.data.toList.drop 0 = dktX9_snowMelted_0 := by decide +kernel
theorem dX9_snowMelted_0 : decode cX9_snowMelted 0 = .ok (.aload_n 0, 1) := dk_42 (dk_at dksX9_snowMelted_0 0 rfl rfl)
theorem dX9_snowMelted_1 : decode cX9_snowMelted 1 = .ok (.bipush 12, 2) := dk_16 12 (dk_at dksX9_snowMelted_0 1 rfl rfl)
theorem dX9_snowMelted_3 : decode cX9_snowMelted 3 = .ok (.invokevirtual 329, 3) := dk_182 1 73 (dk_at dksX9_snowMelted_0 3 rfl rfl)
theorem dX9_snowMelted_6 : decode cX9_snowMelted 6 = .ok (.ireturn, 1) := dk_172 (dk_at dksX9_snowMelted_0 6 rfl rfl)
abbrev cX9_cartsCrossed : ByteArray := prog_17_method_122_code
def yX9_cartsCrossed : MethodName := ⟨RX9, "cartsCrossed", "(I)I"⟩
def dkwX9_cartsCrossed_1 : List UInt8 := [172]
abbrev dktX9_cartsCrossed_1 : List UInt8 := dkwX9_cartsCrossed_1 ++ []
def dkwX9_cartsCrossed_0 : List UInt8 := [42, 27, 184, 1, 86, 182, 0, 164, 153, 0, 15, 42, 180, 0, 7, 16, 15, 27, 96, 46, 167, 0, 4, 3]
abbrev dktX9_cartsCrossed_0 : List UInt8 := dkwX9_cartsCrossed_0 ++ dktX9_cartsCrossed_1
theorem dksX9_cartsCrossed_0 : cX9_cartsCrossed.data.toList.drop 0 = dktX9_cartsCrossed_0 := by decide +kernel
theorem dksX9_cartsCrossed_1 : cX9_cartsCrossed.data.toList.drop 24 = dktX9_cartsCrossed_1 := dk_seg dksX9_cartsCrossed_0 24 rfl rfl
theorem dX9_cartsCrossed_0 : decode cX9_cartsCrossed 0 = .ok (.aload_n 0, 1) := dk_42 (dk_at dksX9_cartsCrossed_0 0 rfl rfl)
theorem dX9_cartsCrossed_1 : decode cX9_cartsCrossed 1 = .ok (.iload_n 1, 1) := dk_27 (dk_at dksX9_cartsCrossed_0 1 rfl rfl)
theorem dX9_cartsCrossed_2 : decode cX9_cartsCrossed 2 = .ok (.invokestatic 342, 3) := dk_184 1 86 (dk_at dksX9_cartsCrossed_0 2 rfl rfl)
theorem dX9_cartsCrossed_5 : decode cX9_cartsCrossed 5 = .ok (.invokevirtual 164, 3) := dk_182 0 164 (dk_at dksX9_cartsCrossed_0 5 rfl rfl)
theorem dX9_cartsCrossed_8 : decode cX9_cartsCrossed 8 = .ok (.ifCond .eq 15, 3) := dk_153 0 15 (dk_at dksX9_cartsCrossed_0 8 rfl rfl)
theorem dX9_cartsCrossed_11 : decode cX9_cartsCrossed 11 = .ok (.aload_n 0, 1) := dk_42 (dk_at dksX9_cartsCrossed_0 11 rfl rfl)
theorem dX9_cartsCrossed_12 : decode cX9_cartsCrossed 12 = .ok (.getfield 7, 3) := dk_180 0 7 (dk_at dksX9_cartsCrossed_0 12 rfl rfl)
theorem dX9_cartsCrossed_15 : decode cX9_cartsCrossed 15 = .ok (.bipush 15, 2) := dk_16 15 (dk_at dksX9_cartsCrossed_0 15 rfl rfl)
theorem dX9_cartsCrossed_17 : decode cX9_cartsCrossed 17 = .ok (.iload_n 1, 1) := dk_27 (dk_at dksX9_cartsCrossed_0 17 rfl rfl)
theorem dX9_cartsCrossed_18 : decode cX9_cartsCrossed 18 = .ok (.iadd, 1) := dk_96 (dk_at dksX9_cartsCrossed_0 18 rfl rfl)
theorem dX9_cartsCrossed_19 : decode cX9_cartsCrossed 19 = .ok (.iaload, 1) := dk_46 (dk_at dksX9_cartsCrossed_0 19 rfl rfl)
theorem dX9_cartsCrossed_20 : decode cX9_cartsCrossed 20 = .ok (.goto 4, 3) := dk_167 0 4 (dk_at dksX9_cartsCrossed_0 20 rfl rfl)
theorem dX9_cartsCrossed_23 : decode cX9_cartsCrossed 23 = .ok (.iconst 0, 1) := dk_3 (dk_at dksX9_cartsCrossed_0 23 rfl rfl)
theorem dX9_cartsCrossed_24 : decode cX9_cartsCrossed 24 = .ok (.ireturn, 1) := dk_172 (dk_at dksX9_cartsCrossed_1 0 rfl rfl)
abbrev cX9_cartsCancelled : ByteArray := prog_17_method_123_code
def yX9_cartsCancelled : MethodName := ⟨RX9, "cartsCancelled", "()I"⟩
def dkwX9_cartsCancelled_0 : List UInt8 := [42, 16, 13, 182, 1, 73, 172]
abbrev dktX9_cartsCancelled_0 : List UInt8 := dkwX9_cartsCancelled_0 ++ []
theorem dksX9_cartsCancelled_0 : cX9_cartsCancelled.data.toList.drop 0 = dktX9_cartsCancelled_0 := by decide +kernel
theorem dX9_cartsCancelled_0 : decode cX9_cartsCancelled 0 = .ok (.aload_n 0, 1) := dk_42 (dk_at dksX9_cartsCancelled_0 0 rfl rfl)
theorem dX9_cartsCancelled_1 : decode cX9_cartsCancelled 1 = .ok (.bipush 13, 2) := dk_16 13 (dk_at dksX9_cartsCancelled_0 1 rfl rfl)
theorem dX9_cartsCancelled_3 : decode cX9_cartsCancelled 3 = .ok (.invokevirtual 329, 3) := dk_182 1 73 (dk_at dksX9_cartsCancelled_0 3 rfl rfl)
theorem dX9_cartsCancelled_6 : decode cX9_cartsCancelled 6 = .ok (.ireturn, 1) := dk_172 (dk_at dksX9_cartsCancelled_0 6 rfl rfl)
abbrev cX9_ticketCount : ByteArray := prog_17_method_124_code
def yX9_ticketCount : MethodName := ⟨RX9, "ticketCount", "()I"⟩
def dkwX9_ticketCount_0 : List UInt8 := [42, 16, 8, 182, 1, 73, 172]
abbrev dktX9_ticketCount_0 : List UInt8 := dkwX9_ticketCount_0 ++ []
theorem dksX9_ticketCount_0 : cX9_ticketCount.data.toList.drop 0 = dktX9_ticketCount_0 := by decide +kernel
theorem dX9_ticketCount_0 : decode cX9_ticketCount 0 = .ok (.aload_n 0, 1) := dk_42 (dk_at dksX9_ticketCount_0 0 rfl rfl)
theorem dX9_ticketCount_1 : decode cX9_ticketCount 1 = .ok (.bipush 8, 2) := dk_16 8 (dk_at dksX9_ticketCount_0 1 rfl rfl)
theorem dX9_ticketCount_3 : decode cX9_ticketCount 3 = .ok (.invokevirtual 329, 3) := dk_182 1 73 (dk_at dksX9_ticketCount_0 3 rfl rfl)
theorem dX9_ticketCount_6 : decode cX9_ticketCount 6 = .ok (.ireturn, 1) := dk_172 (dk_at dksX9_ticketCount_0 6 rfl rfl)
abbrev cX9_sacksUsed : ByteArray := prog_17_method_125_code
def yX9_sacksUsed : MethodName := ⟨RX9, "sacksUsed", "()I"⟩
def dkwX9_sacksUsed_0 : List UInt8 := [42, 16, 14, 182, 1, 73, 172]
abbrev dktX9_sacksUsed_0 : List UInt8 := dkwX9_sacksUsed_0 ++ []
theorem dksX9_sacksUsed_0 : cX9_sacksUsed.data.toList.drop 0 = dktX9_sacksUsed_0 := by decide +kernel
theorem dX9_sacksUsed_0 : decode cX9_sacksUsed 0 = .ok (.aload_n 0, 1) := dk_42 (dk_at dksX9_sacksUsed_0 0 rfl rfl)
theorem dX9_sacksUsed_1 : decode cX9_sacksUsed 1 = .ok (.bipush 14, 2) := dk_16 14 (dk_at dksX9_sacksUsed_0 1 rfl rfl)
theorem dX9_sacksUsed_3 : decode cX9_sacksUsed 3 = .ok (.invokevirtual 329, 3) := dk_182 1 73 (dk_at dksX9_sacksUsed_0 3 rfl rfl)
theorem dX9_sacksUsed_6 : decode cX9_sacksUsed 6 = .ok (.ireturn, 1) := dk_172 (dk_at dksX9_sacksUsed_0 6 rfl rfl)
abbrev cX9_snowImbalance : ByteArray := prog_17_method_126_code
def yX9_snowImbalance : MethodName := ⟨RX9, "snowImbalance", "()I"⟩
def dkwX9_snowImbalance_1 : List UInt8 := [16, 12, 46, 100, 42, 182, 1, 10, 100, 172]
abbrev dktX9_snowImbalance_1 : List UInt8 := dkwX9_snowImbalance_1 ++ []
def dkwX9_snowImbalance_0 : List UInt8 := [42, 3, 181, 0, 55, 42, 180, 0, 7, 16, 10, 46, 42, 180, 0, 7, 16, 11, 46, 100, 42, 180, 0, 7]
abbrev dktX9_snowImbalance_0 : List UInt8 := dkwX9_snowImbalance_0 ++ dktX9_snowImbalance_1
theorem dksX9_snowImbalance_0 : cX9_snowImbalance.data.toList.drop 0 = dktX9_snowImbalance_0 := by decide +kernel
theorem dksX9_snowImbalance_1 : cX9_snowImbalance.data.toList.drop 24 = dktX9_snowImbalance_1 := dk_seg dksX9_snowImbalance_0 24 rfl rfl
theorem dX9_snowImbalance_0 : decode cX9_snowImbalance 0 = .ok (.aload_n 0, 1) := dk_42 (dk_at dksX9_snowImbalance_0 0 rfl rfl)
theorem dX9_snowImbalance_1 : decode cX9_snowImbalance 1 = .ok (.iconst 0, 1) := dk_3 (dk_at dksX9_snowImbalance_0 1 rfl rfl)
theorem dX9_snowImbalance_2 : decode cX9_snowImbalance 2 = .ok (.putfield 55, 3) := dk_181 0 55 (dk_at dksX9_snowImbalance_0 2 rfl rfl)
theorem dX9_snowImbalance_5 : decode cX9_snowImbalance 5 = .ok (.aload_n 0, 1) := dk_42 (dk_at dksX9_snowImbalance_0 5 rfl rfl)
theorem dX9_snowImbalance_6 : decode cX9_snowImbalance 6 = .ok (.getfield 7, 3) := dk_180 0 7 (dk_at dksX9_snowImbalance_0 6 rfl rfl)
theorem dX9_snowImbalance_9 : decode cX9_snowImbalance 9 = .ok (.bipush 10, 2) := dk_16 10 (dk_at dksX9_snowImbalance_0 9 rfl rfl)
theorem dX9_snowImbalance_11 : decode cX9_snowImbalance 11 = .ok (.iaload, 1) := dk_46 (dk_at dksX9_snowImbalance_0 11 rfl rfl)
theorem dX9_snowImbalance_12 : decode cX9_snowImbalance 12 = .ok (.aload_n 0, 1) := dk_42 (dk_at dksX9_snowImbalance_0 12 rfl rfl)
theorem dX9_snowImbalance_13 : decode cX9_snowImbalance 13 = .ok (.getfield 7, 3) := dk_180 0 7 (dk_at dksX9_snowImbalance_0 13 rfl rfl)
theorem dX9_snowImbalance_16 : decode cX9_snowImbalance 16 = .ok (.bipush 11, 2) := dk_16 11 (dk_at dksX9_snowImbalance_0 16 rfl rfl)
theorem dX9_snowImbalance_18 : decode cX9_snowImbalance 18 = .ok (.iaload, 1) := dk_46 (dk_at dksX9_snowImbalance_0 18 rfl rfl)
theorem dX9_snowImbalance_19 : decode cX9_snowImbalance 19 = .ok (.isub, 1) := dk_100 (dk_at dksX9_snowImbalance_0 19 rfl rfl)
theorem dX9_snowImbalance_20 : decode cX9_snowImbalance 20 = .ok (.aload_n 0, 1) := dk_42 (dk_at dksX9_snowImbalance_0 20 rfl rfl)
theorem dX9_snowImbalance_21 : decode cX9_snowImbalance 21 = .ok (.getfield 7, 3) := dk_180 0 7 (dk_at dksX9_snowImbalance_0 21 rfl rfl)
theorem dX9_snowImbalance_24 : decode cX9_snowImbalance 24 = .ok (.bipush 12, 2) := dk_16 12 (dk_at dksX9_snowImbalance_1 0 rfl rfl)
theorem dX9_snowImbalance_26 : decode cX9_snowImbalance 26 = .ok (.iaload, 1) := dk_46 (dk_at dksX9_snowImbalance_1 2 rfl rfl)
theorem dX9_snowImbalance_27 : decode cX9_snowImbalance 27 = .ok (.isub, 1) := dk_100 (dk_at dksX9_snowImbalance_1 3 rfl rfl)
theorem dX9_snowImbalance_28 : decode cX9_snowImbalance 28 = .ok (.aload_n 0, 1) := dk_42 (dk_at dksX9_snowImbalance_1 4 rfl rfl)
theorem dX9_snowImbalance_29 : decode cX9_snowImbalance 29 = .ok (.invokevirtual 266, 3) := dk_182 1 10 (dk_at dksX9_snowImbalance_1 5 rfl rfl)
theorem dX9_snowImbalance_32 : decode cX9_snowImbalance 32 = .ok (.isub, 1) := dk_100 (dk_at dksX9_snowImbalance_1 8 rfl rfl)
theorem dX9_snowImbalance_33 : decode cX9_snowImbalance 33 = .ok (.ireturn, 1) := dk_172 (dk_at dksX9_snowImbalance_1 9 rfl rfl)
abbrev cX9_cartImbalance : ByteArray := prog_17_method_127_code
def yX9_cartImbalance : MethodName := ⟨RX9, "cartImbalance", "()I"⟩
def dkwX9_cartImbalance_1 : List UInt8 := [100, 42, 180, 0, 7, 16, 125, 46, 100, 42, 180, 0, 7, 16, 126, 46, 100, 172]
abbrev dktX9_cartImbalance_1 : List UInt8 := dkwX9_cartImbalance_1 ++ []
def dkwX9_cartImbalance_0 : List UInt8 := [42, 3, 181, 0, 55, 42, 180, 0, 7, 16, 8, 46, 42, 182, 0, 149, 100, 42, 180, 0, 7, 16, 13, 46]
abbrev dktX9_cartImbalance_0 : List UInt8 := dkwX9_cartImbalance_0 ++ dktX9_cartImbalance_1
theorem dksX9_cartImbalance_0 : cX9_cartImbalance.data.toList.drop 0 = dktX9_cartImbalance_0 := by decide +kernel
theorem dksX9_cartImbalance_1 : cX9_cartImbalance.data.toList.drop 24 = dktX9_cartImbalance_1 := dk_seg dksX9_cartImbalance_0 24 rfl rfl
theorem dX9_cartImbalance_0 : decode cX9_cartImbalance 0 = .ok (.aload_n 0, 1) := dk_42 (dk_at dksX9_cartImbalance_0 0 rfl rfl)
theorem dX9_cartImbalance_1 : decode cX9_cartImbalance 1 = .ok (.iconst 0, 1) := dk_3 (dk_at dksX9_cartImbalance_0 1 rfl rfl)
theorem dX9_cartImbalance_2 : decode cX9_cartImbalance 2 = .ok (.putfield 55, 3) := dk_181 0 55 (dk_at dksX9_cartImbalance_0 2 rfl rfl)
theorem dX9_cartImbalance_5 : decode cX9_cartImbalance 5 = .ok (.aload_n 0, 1) := dk_42 (dk_at dksX9_cartImbalance_0 5 rfl rfl)
theorem dX9_cartImbalance_6 : decode cX9_cartImbalance 6 = .ok (.getfield 7, 3) := dk_180 0 7 (dk_at dksX9_cartImbalance_0 6 rfl rfl)
theorem dX9_cartImbalance_9 : decode cX9_cartImbalance 9 = .ok (.bipush 8, 2) := dk_16 8 (dk_at dksX9_cartImbalance_0 9 rfl rfl)
theorem dX9_cartImbalance_11 : decode cX9_cartImbalance 11 = .ok (.iaload, 1) := dk_46 (dk_at dksX9_cartImbalance_0 11 rfl rfl)
theorem dX9_cartImbalance_12 : decode cX9_cartImbalance 12 = .ok (.aload_n 0, 1) := dk_42 (dk_at dksX9_cartImbalance_0 12 rfl rfl)
theorem dX9_cartImbalance_13 : decode cX9_cartImbalance 13 = .ok (.invokevirtual 149, 3) := dk_182 0 149 (dk_at dksX9_cartImbalance_0 13 rfl rfl)
theorem dX9_cartImbalance_16 : decode cX9_cartImbalance 16 = .ok (.isub, 1) := dk_100 (dk_at dksX9_cartImbalance_0 16 rfl rfl)
theorem dX9_cartImbalance_17 : decode cX9_cartImbalance 17 = .ok (.aload_n 0, 1) := dk_42 (dk_at dksX9_cartImbalance_0 17 rfl rfl)
theorem dX9_cartImbalance_18 : decode cX9_cartImbalance 18 = .ok (.getfield 7, 3) := dk_180 0 7 (dk_at dksX9_cartImbalance_0 18 rfl rfl)
theorem dX9_cartImbalance_21 : decode cX9_cartImbalance 21 = .ok (.bipush 13, 2) := dk_16 13 (dk_at dksX9_cartImbalance_0 21 rfl rfl)
theorem dX9_cartImbalance_23 : decode cX9_cartImbalance 23 = .ok (.iaload, 1) := dk_46 (dk_at dksX9_cartImbalance_0 23 rfl rfl)
theorem dX9_cartImbalance_24 : decode cX9_cartImbalance 24 = .ok (.isub, 1) := dk_100 (dk_at dksX9_cartImbalance_1 0 rfl rfl)
theorem dX9_cartImbalance_25 : decode cX9_cartImbalance 25 = .ok (.aload_n 0, 1) := dk_42 (dk_at dksX9_cartImbalance_1 1 rfl rfl)
theorem dX9_cartImbalance_26 : decode cX9_cartImbalance 26 = .ok (.getfield 7, 3) := dk_180 0 7 (dk_at dksX9_cartImbalance_1 2 rfl rfl)
theorem dX9_cartImbalance_29 : decode cX9_cartImbalance 29 = .ok (.bipush 125, 2) := dk_16 125 (dk_at dksX9_cartImbalance_1 5 rfl rfl)
theorem dX9_cartImbalance_31 : decode cX9_cartImbalance 31 = .ok (.iaload, 1) := dk_46 (dk_at dksX9_cartImbalance_1 7 rfl rfl)
theorem dX9_cartImbalance_32 : decode cX9_cartImbalance 32 = .ok (.isub, 1) := dk_100 (dk_at dksX9_cartImbalance_1 8 rfl rfl)
theorem dX9_cartImbalance_33 : decode cX9_cartImbalance 33 = .ok (.aload_n 0, 1) := dk_42 (dk_at dksX9_cartImbalance_1 9 rfl rfl)
theorem dX9_cartImbalance_34 : decode cX9_cartImbalance 34 = .ok (.getfield 7, 3) := dk_180 0 7 (dk_at dksX9_cartImbalance_1 10 rfl rfl)
theorem dX9_cartImbalance_37 : decode cX9_cartImbalance 37 = .ok (.bipush 126, 2) := dk_16 126 (dk_at dksX9_cartImbalance_1 13 rfl rfl)
theorem dX9_cartImbalance_39 : decode cX9_cartImbalance 39 = .ok (.iaload, 1) := dk_46 (dk_at dksX9_cartImbalance_1 15 rfl rfl)
theorem dX9_cartImbalance_40 : decode cX9_cartImbalance 40 = .ok (.isub, 1) := dk_100 (dk_at dksX9_cartImbalance_1 16 rfl rfl)
theorem dX9_cartImbalance_41 : decode cX9_cartImbalance 41 = .ok (.ireturn, 1) := dk_172 (dk_at dksX9_cartImbalance_1 17 rfl rfl)
abbrev cX9_meanDepth : ByteArray := prog_17_method_128_code
def yX9_meanDepth : MethodName := ⟨RX9, "meanDepth", "()D"⟩
def dkwX9_meanDepth_0 : List UInt8 := [42, 3, 181, 0, 55, 42, 182, 1, 10, 135, 42, 180, 0, 7, 3, 46, 135, 111, 175]
abbrev dktX9_meanDepth_0 : List UInt8 := dkwX9_meanDepth_0 ++ []
theorem dksX9_meanDepth_0 : cX9_meanDepth.data.toList.drop 0 = dktX9_meanDepth_0 := by decide +kernel
theorem dX9_meanDepth_0 : decode cX9_meanDepth 0 = .ok (.aload_n 0, 1) := dk_42 (dk_at dksX9_meanDepth_0 0 rfl rfl)
theorem dX9_meanDepth_1 : decode cX9_meanDepth 1 = .ok (.iconst 0, 1) := dk_3 (dk_at dksX9_meanDepth_0 1 rfl rfl)
theorem dX9_meanDepth_2 : decode cX9_meanDepth 2 = .ok (.putfield 55, 3) := dk_181 0 55 (dk_at dksX9_meanDepth_0 2 rfl rfl)
theorem dX9_meanDepth_5 : decode cX9_meanDepth 5 = .ok (.aload_n 0, 1) := dk_42 (dk_at dksX9_meanDepth_0 5 rfl rfl)
theorem dX9_meanDepth_6 : decode cX9_meanDepth 6 = .ok (.invokevirtual 266, 3) := dk_182 1 10 (dk_at dksX9_meanDepth_0 6 rfl rfl)
theorem dX9_meanDepth_9 : decode cX9_meanDepth 9 = .ok (.i2d, 1) := dk_135 (dk_at dksX9_meanDepth_0 9 rfl rfl)
theorem dX9_meanDepth_10 : decode cX9_meanDepth 10 = .ok (.aload_n 0, 1) := dk_42 (dk_at dksX9_meanDepth_0 10 rfl rfl)
theorem dX9_meanDepth_11 : decode cX9_meanDepth 11 = .ok (.getfield 7, 3) := dk_180 0 7 (dk_at dksX9_meanDepth_0 11 rfl rfl)
theorem dX9_meanDepth_14 : decode cX9_meanDepth 14 = .ok (.iconst 0, 1) := dk_3 (dk_at dksX9_meanDepth_0 14 rfl rfl)
theorem dX9_meanDepth_15 : decode cX9_meanDepth 15 = .ok (.iaload, 1) := dk_46 (dk_at dksX9_meanDepth_0 15 rfl rfl)
theorem dX9_meanDepth_16 : decode cX9_meanDepth 16 = .ok (.i2d, 1) := dk_135 (dk_at dksX9_meanDepth_0 16 rfl rfl)
theorem dX9_meanDepth_17 : decode cX9_meanDepth 17 = .ok (.ddiv, 1) := dk_111 (dk_at dksX9_meanDepth_0 17 rfl rfl)
theorem dX9_meanDepth_18 : decode cX9_meanDepth 18 = .ok (.dreturn, 1) := dk_175 (dk_at dksX9_meanDepth_0 18 rfl rfl)
abbrev cX9_clearShare : ByteArray := prog_17_method_129_code
def yX9_clearShare : MethodName := ⟨RX9, "clearShare", "()F"⟩
def dkwX9_clearShare_0 : List UInt8 := [42, 3, 181, 0, 55, 42, 182, 1, 83, 134, 42, 180, 0, 7, 3, 46, 134, 110, 174]
abbrev dktX9_clearShare_0 : List UInt8 := dkwX9_clearShare_0 ++ []
theorem dksX9_clearShare_0 : cX9_clearShare.data.toList.drop 0 = dktX9_clearShare_0 := by decide +kernel
theorem dX9_clearShare_0 : decode cX9_clearShare 0 = .ok (.aload_n 0, 1) := dk_42 (dk_at dksX9_clearShare_0 0 rfl rfl)
theorem dX9_clearShare_1 : decode cX9_clearShare 1 = .ok (.iconst 0, 1) := dk_3 (dk_at dksX9_clearShare_0 1 rfl rfl)
theorem dX9_clearShare_2 : decode cX9_clearShare 2 = .ok (.putfield 55, 3) := dk_181 0 55 (dk_at dksX9_clearShare_0 2 rfl rfl)
theorem dX9_clearShare_5 : decode cX9_clearShare 5 = .ok (.aload_n 0, 1) := dk_42 (dk_at dksX9_clearShare_0 5 rfl rfl)
theorem dX9_clearShare_6 : decode cX9_clearShare 6 = .ok (.invokevirtual 339, 3) := dk_182 1 83 (dk_at dksX9_clearShare_0 6 rfl rfl)
theorem dX9_clearShare_9 : decode cX9_clearShare 9 = .ok (.i2f, 1) := dk_134 (dk_at dksX9_clearShare_0 9 rfl rfl)
theorem dX9_clearShare_10 : decode cX9_clearShare 10 = .ok (.aload_n 0, 1) := dk_42 (dk_at dksX9_clearShare_0 10 rfl rfl)
theorem dX9_clearShare_11 : decode cX9_clearShare 11 = .ok (.getfield 7, 3) := dk_180 0 7 (dk_at dksX9_clearShare_0 11 rfl rfl)
theorem dX9_clearShare_14 : decode cX9_clearShare 14 = .ok (.iconst 0, 1) := dk_3 (dk_at dksX9_clearShare_0 14 rfl rfl)
theorem dX9_clearShare_15 : decode cX9_clearShare 15 = .ok (.iaload, 1) := dk_46 (dk_at dksX9_clearShare_0 15 rfl rfl)
theorem dX9_clearShare_16 : decode cX9_clearShare 16 = .ok (.i2f, 1) := dk_134 (dk_at dksX9_clearShare_0 16 rfl rfl)
theorem dX9_clearShare_17 : decode cX9_clearShare 17 = .ok (.fdiv, 1) := dk_110 (dk_at dksX9_clearShare_0 17 rfl rfl)
theorem dX9_clearShare_18 : decode cX9_clearShare 18 = .ok (.freturn, 1) := dk_174 (dk_at dksX9_clearShare_0 18 rfl rfl)
abbrev cX9_passHours : ByteArray := prog_17_method_132_code
def yX9_passHours : MethodName := ⟨RX9, "passHours", "(I)I"⟩
def dkwX9_passHours_1 : List UInt8 := [182, 1, 45, 182, 1, 119, 167, 0, 4, 3, 172]
abbrev dktX9_passHours_1 : List UInt8 := dkwX9_passHours_1 ++ []
def dkwX9_passHours_0 : List UInt8 := [42, 42, 27, 133, 10, 20, 0, 207, 184, 0, 62, 182, 0, 164, 182, 1, 116, 153, 0, 15, 42, 42, 27]
abbrev dktX9_passHours_0 : List UInt8 := dkwX9_passHours_0 ++ dktX9_passHours_1
theorem dksX9_passHours_0 : cX9_passHours.data.toList.drop 0 = dktX9_passHours_0 := by decide +kernel
theorem dksX9_passHours_1 : cX9_passHours.data.toList.drop 23 = dktX9_passHours_1 := dk_seg dksX9_passHours_0 23 rfl rfl
theorem dX9_passHours_0 : decode cX9_passHours 0 = .ok (.aload_n 0, 1) := dk_42 (dk_at dksX9_passHours_0 0 rfl rfl)
theorem dX9_passHours_1 : decode cX9_passHours 1 = .ok (.aload_n 0, 1) := dk_42 (dk_at dksX9_passHours_0 1 rfl rfl)
theorem dX9_passHours_2 : decode cX9_passHours 2 = .ok (.iload_n 1, 1) := dk_27 (dk_at dksX9_passHours_0 2 rfl rfl)
theorem dX9_passHours_3 : decode cX9_passHours 3 = .ok (.i2l, 1) := dk_133 (dk_at dksX9_passHours_0 3 rfl rfl)
theorem dX9_passHours_4 : decode cX9_passHours 4 = .ok (.lconst 1, 1) := dk_10 (dk_at dksX9_passHours_0 4 rfl rfl)
theorem dX9_passHours_5 : decode cX9_passHours 5 = .ok (.ldc2_w 207, 3) := dk_20 0 207 (dk_at dksX9_passHours_0 5 rfl rfl)
theorem dX9_passHours_8 : decode cX9_passHours 8 = .ok (.invokestatic 62, 3) := dk_184 0 62 (dk_at dksX9_passHours_0 8 rfl rfl)
theorem dX9_passHours_11 : decode cX9_passHours 11 = .ok (.invokevirtual 164, 3) := dk_182 0 164 (dk_at dksX9_passHours_0 11 rfl rfl)
theorem dX9_passHours_14 : decode cX9_passHours 14 = .ok (.invokevirtual 372, 3) := dk_182 1 116 (dk_at dksX9_passHours_0 14 rfl rfl)
theorem dX9_passHours_17 : decode cX9_passHours 17 = .ok (.ifCond .eq 15, 3) := dk_153 0 15 (dk_at dksX9_passHours_0 17 rfl rfl)
theorem dX9_passHours_20 : decode cX9_passHours 20 = .ok (.aload_n 0, 1) := dk_42 (dk_at dksX9_passHours_0 20 rfl rfl)
theorem dX9_passHours_21 : decode cX9_passHours 21 = .ok (.aload_n 0, 1) := dk_42 (dk_at dksX9_passHours_0 21 rfl rfl)
theorem dX9_passHours_22 : decode cX9_passHours 22 = .ok (.iload_n 1, 1) := dk_27 (dk_at dksX9_passHours_0 22 rfl rfl)
theorem dX9_passHours_23 : decode cX9_passHours 23 = .ok (.invokevirtual 301, 3) := dk_182 1 45 (dk_at dksX9_passHours_1 0 rfl rfl)
theorem dX9_passHours_26 : decode cX9_passHours 26 = .ok (.invokevirtual 375, 3) := dk_182 1 119 (dk_at dksX9_passHours_1 3 rfl rfl)
theorem dX9_passHours_29 : decode cX9_passHours 29 = .ok (.goto 4, 3) := dk_167 0 4 (dk_at dksX9_passHours_1 6 rfl rfl)
theorem dX9_passHours_32 : decode cX9_passHours 32 = .ok (.iconst 0, 1) := dk_3 (dk_at dksX9_passHours_1 9 rfl rfl)
theorem dX9_passHours_33 : decode cX9_passHours 33 = .ok (.ireturn, 1) := dk_172 (dk_at dksX9_passHours_1 10 rfl rfl)
abbrev cX9_tried : ByteArray := prog_17_method_130_code
def yX9_tried : MethodName := ⟨RX9, "tried", "(Z)Z"⟩
def dkwX9_tried_0 : List UInt8 := [27, 153, 0, 16, 42, 180, 0, 7, 3, 42, 180, 0, 16, 3, 184, 0, 58, 27, 172]
abbrev dktX9_tried_0 : List UInt8 := dkwX9_tried_0 ++ []
theorem dksX9_tried_0 : cX9_tried.data.toList.drop 0 = dktX9_tried_0 := by decide +kernel
theorem dX9_tried_0 : decode cX9_tried 0 = .ok (.iload_n 1, 1) := dk_27 (dk_at dksX9_tried_0 0 rfl rfl)
theorem dX9_tried_1 : decode cX9_tried 1 = .ok (.ifCond .eq 16, 3) := dk_153 0 16 (dk_at dksX9_tried_0 1 rfl rfl)
theorem dX9_tried_4 : decode cX9_tried 4 = .ok (.aload_n 0, 1) := dk_42 (dk_at dksX9_tried_0 4 rfl rfl)
theorem dX9_tried_5 : decode cX9_tried 5 = .ok (.getfield 7, 3) := dk_180 0 7 (dk_at dksX9_tried_0 5 rfl rfl)
theorem dX9_tried_8 : decode cX9_tried 8 = .ok (.iconst 0, 1) := dk_3 (dk_at dksX9_tried_0 8 rfl rfl)
theorem dX9_tried_9 : decode cX9_tried 9 = .ok (.aload_n 0, 1) := dk_42 (dk_at dksX9_tried_0 9 rfl rfl)
theorem dX9_tried_10 : decode cX9_tried 10 = .ok (.getfield 16, 3) := dk_180 0 16 (dk_at dksX9_tried_0 10 rfl rfl)
theorem dX9_tried_13 : decode cX9_tried 13 = .ok (.iconst 0, 1) := dk_3 (dk_at dksX9_tried_0 13 rfl rfl)
theorem dX9_tried_14 : decode cX9_tried 14 = .ok (.invokestatic 58, 3) := dk_184 0 58 (dk_at dksX9_tried_0 14 rfl rfl)
theorem dX9_tried_17 : decode cX9_tried 17 = .ok (.iload_n 1, 1) := dk_27 (dk_at dksX9_tried_0 17 rfl rfl)
theorem dX9_tried_18 : decode cX9_tried 18 = .ok (.ireturn, 1) := dk_172 (dk_at dksX9_tried_0 18 rfl rfl)
abbrev cX9_done : ByteArray := prog_17_method_131_code
def yX9_done : MethodName := ⟨RX9, "done", "(Z)I"⟩
def dkwX9_done_0 : List UInt8 := [42, 42, 180, 0, 16, 182, 1, 66, 42, 180, 0, 155, 172]
abbrev dktX9_done_0 : List UInt8 := dkwX9_done_0 ++ []
theorem dksX9_done_0 : cX9_done.data.toList.drop 0 = dktX9_done_0 := by decide +kernel
theorem dX9_done_0 : decode cX9_done 0 = .ok (.aload_n 0, 1) := dk_42 (dk_at dksX9_done_0 0 rfl rfl)
theorem dX9_done_1 : decode cX9_done 1 = .ok (.aload_n 0, 1) := dk_42 (dk_at dksX9_done_0 1 rfl rfl)
theorem dX9_done_2 : decode cX9_done 2 = .ok (.getfield 16, 3) := dk_180 0 16 (dk_at dksX9_done_0 2 rfl rfl)
theorem dX9_done_5 : decode cX9_done 5 = .ok (.invokevirtual 322, 3) := dk_182 1 66 (dk_at dksX9_done_0 5 rfl rfl)
theorem dX9_done_8 : decode cX9_done 8 = .ok (.aload_n 0, 1) := dk_42 (dk_at dksX9_done_0 8 rfl rfl)
theorem dX9_done_9 : decode cX9_done 9 = .ok (.getfield 155, 3) := dk_180 0 155 (dk_at dksX9_done_0 9 rfl rfl)
theorem dX9_done_12 : decode cX9_done 12 = .ok (.ireturn, 1) := dk_172 (dk_at dksX9_done_0 12 rfl rfl)
abbrev cX9_spreadSalt : ByteArray := prog_17_method_133_code
def yX9_spreadSalt : MethodName := ⟨RX9, "spreadSalt", "(I)I"⟩
def dkwX9_spreadSalt_2 : List UInt8 := [167, 0, 4, 3, 172]
abbrev dktX9_spreadSalt_2 : List UInt8 := dkwX9_spreadSalt_2 ++ []
def dkwX9_spreadSalt_1 : List UInt8 := [27, 184, 1, 86, 28, 182, 1, 100, 182, 1, 116, 153, 0, 15, 42, 42, 27, 182, 1, 48, 182, 1, 119]
abbrev dktX9_spreadSalt_1 : List UInt8 := dkwX9_spreadSalt_1 ++ dktX9_spreadSalt_2
def dkwX9_spreadSalt_0 : List UInt8 := [27, 184, 1, 86, 153, 0, 16, 42, 27, 5, 182, 0, 70, 158, 0, 7, 4, 167, 0, 4, 3, 61, 42, 42]
abbrev dktX9_spreadSalt_0 : List UInt8 := dkwX9_spreadSalt_0 ++ dktX9_spreadSalt_1
theorem dksX9_spreadSalt_0 : cX9_spreadSalt.data.toList.drop 0 = dktX9_spreadSalt_0 := by decide +kernel
theorem dksX9_spreadSalt_1 : cX9_spreadSalt.data.toList.drop 24 = dktX9_spreadSalt_1 := dk_seg dksX9_spreadSalt_0 24 rfl rfl
theorem dksX9_spreadSalt_2 : cX9_spreadSalt.data.toList.drop 47 = dktX9_spreadSalt_2 := dk_seg dksX9_spreadSalt_1 23 rfl rfl
theorem dX9_spreadSalt_0 : decode cX9_spreadSalt 0 = .ok (.iload_n 1, 1) := dk_27 (dk_at dksX9_spreadSalt_0 0 rfl rfl)
theorem dX9_spreadSalt_1 : decode cX9_spreadSalt 1 = .ok (.invokestatic 342, 3) := dk_184 1 86 (dk_at dksX9_spreadSalt_0 1 rfl rfl)
theorem dX9_spreadSalt_4 : decode cX9_spreadSalt 4 = .ok (.ifCond .eq 16, 3) := dk_153 0 16 (dk_at dksX9_spreadSalt_0 4 rfl rfl)
theorem dX9_spreadSalt_7 : decode cX9_spreadSalt 7 = .ok (.aload_n 0, 1) := dk_42 (dk_at dksX9_spreadSalt_0 7 rfl rfl)
theorem dX9_spreadSalt_8 : decode cX9_spreadSalt 8 = .ok (.iload_n 1, 1) := dk_27 (dk_at dksX9_spreadSalt_0 8 rfl rfl)
theorem dX9_spreadSalt_9 : decode cX9_spreadSalt 9 = .ok (.iconst 2, 1) := dk_5 (dk_at dksX9_spreadSalt_0 9 rfl rfl)
theorem dX9_spreadSalt_10 : decode cX9_spreadSalt 10 = .ok (.invokevirtual 70, 3) := dk_182 0 70 (dk_at dksX9_spreadSalt_0 10 rfl rfl)
theorem dX9_spreadSalt_13 : decode cX9_spreadSalt 13 = .ok (.ifCond .le 7, 3) := dk_158 0 7 (dk_at dksX9_spreadSalt_0 13 rfl rfl)
theorem dX9_spreadSalt_16 : decode cX9_spreadSalt 16 = .ok (.iconst 1, 1) := dk_4 (dk_at dksX9_spreadSalt_0 16 rfl rfl)
theorem dX9_spreadSalt_17 : decode cX9_spreadSalt 17 = .ok (.goto 4, 3) := dk_167 0 4 (dk_at dksX9_spreadSalt_0 17 rfl rfl)
theorem dX9_spreadSalt_20 : decode cX9_spreadSalt 20 = .ok (.iconst 0, 1) := dk_3 (dk_at dksX9_spreadSalt_0 20 rfl rfl)
theorem dX9_spreadSalt_21 : decode cX9_spreadSalt 21 = .ok (.istore_n 2, 1) := dk_61 (dk_at dksX9_spreadSalt_0 21 rfl rfl)
theorem dX9_spreadSalt_22 : decode cX9_spreadSalt 22 = .ok (.aload_n 0, 1) := dk_42 (dk_at dksX9_spreadSalt_0 22 rfl rfl)
theorem dX9_spreadSalt_23 : decode cX9_spreadSalt 23 = .ok (.aload_n 0, 1) := dk_42 (dk_at dksX9_spreadSalt_0 23 rfl rfl)
theorem dX9_spreadSalt_24 : decode cX9_spreadSalt 24 = .ok (.iload_n 1, 1) := dk_27 (dk_at dksX9_spreadSalt_1 0 rfl rfl)
theorem dX9_spreadSalt_25 : decode cX9_spreadSalt 25 = .ok (.invokestatic 342, 3) := dk_184 1 86 (dk_at dksX9_spreadSalt_1 1 rfl rfl)
theorem dX9_spreadSalt_28 : decode cX9_spreadSalt 28 = .ok (.iload_n 2, 1) := dk_28 (dk_at dksX9_spreadSalt_1 4 rfl rfl)
theorem dX9_spreadSalt_29 : decode cX9_spreadSalt 29 = .ok (.invokevirtual 356, 3) := dk_182 1 100 (dk_at dksX9_spreadSalt_1 5 rfl rfl)
theorem dX9_spreadSalt_32 : decode cX9_spreadSalt 32 = .ok (.invokevirtual 372, 3) := dk_182 1 116 (dk_at dksX9_spreadSalt_1 8 rfl rfl)
theorem dX9_spreadSalt_35 : decode cX9_spreadSalt 35 = .ok (.ifCond .eq 15, 3) := dk_153 0 15 (dk_at dksX9_spreadSalt_1 11 rfl rfl)
theorem dX9_spreadSalt_38 : decode cX9_spreadSalt 38 = .ok (.aload_n 0, 1) := dk_42 (dk_at dksX9_spreadSalt_1 14 rfl rfl)
theorem dX9_spreadSalt_39 : decode cX9_spreadSalt 39 = .ok (.aload_n 0, 1) := dk_42 (dk_at dksX9_spreadSalt_1 15 rfl rfl)
theorem dX9_spreadSalt_40 : decode cX9_spreadSalt 40 = .ok (.iload_n 1, 1) := dk_27 (dk_at dksX9_spreadSalt_1 16 rfl rfl)
theorem dX9_spreadSalt_41 : decode cX9_spreadSalt 41 = .ok (.invokevirtual 304, 3) := dk_182 1 48 (dk_at dksX9_spreadSalt_1 17 rfl rfl)
theorem dX9_spreadSalt_44 : decode cX9_spreadSalt 44 = .ok (.invokevirtual 375, 3) := dk_182 1 119 (dk_at dksX9_spreadSalt_1 20 rfl rfl)
theorem dX9_spreadSalt_47 : decode cX9_spreadSalt 47 = .ok (.goto 4, 3) := dk_167 0 4 (dk_at dksX9_spreadSalt_2 0 rfl rfl)
theorem dX9_spreadSalt_50 : decode cX9_spreadSalt 50 = .ok (.iconst 0, 1) := dk_3 (dk_at dksX9_spreadSalt_2 3 rfl rfl)
theorem dX9_spreadSalt_51 : decode cX9_spreadSalt 51 = .ok (.ireturn, 1) := dk_172 (dk_at dksX9_spreadSalt_2 4 rfl rfl)
abbrev cX9_recall : ByteArray := prog_17_method_134_code
def yX9_recall : MethodName := ⟨RX9, "recall", "(I)I"⟩
def dkwX9_recall_1 : List UInt8 := [167, 0, 4, 3, 172]
abbrev dktX9_recall_1 : List UInt8 := dkwX9_recall_1 ++ []
def dkwX9_recall_0 : List UInt8 := [42, 42, 27, 184, 1, 86, 182, 0, 164, 182, 1, 116, 153, 0, 15, 42, 42, 27, 182, 1, 51, 182, 1, 119]
abbrev dktX9_recall_0 : List UInt8 := dkwX9_recall_0 ++ dktX9_recall_1
theorem dksX9_recall_0 : cX9_recall.data.toList.drop 0 = dktX9_recall_0 := by decide +kernel
theorem dksX9_recall_1 : cX9_recall.data.toList.drop 24 = dktX9_recall_1 := dk_seg dksX9_recall_0 24 rfl rfl
theorem dX9_recall_0 : decode cX9_recall 0 = .ok (.aload_n 0, 1) := dk_42 (dk_at dksX9_recall_0 0 rfl rfl)
theorem dX9_recall_1 : decode cX9_recall 1 = .ok (.aload_n 0, 1) := dk_42 (dk_at dksX9_recall_0 1 rfl rfl)
theorem dX9_recall_2 : decode cX9_recall 2 = .ok (.iload_n 1, 1) := dk_27 (dk_at dksX9_recall_0 2 rfl rfl)
theorem dX9_recall_3 : decode cX9_recall 3 = .ok (.invokestatic 342, 3) := dk_184 1 86 (dk_at dksX9_recall_0 3 rfl rfl)
theorem dX9_recall_6 : decode cX9_recall 6 = .ok (.invokevirtual 164, 3) := dk_182 0 164 (dk_at dksX9_recall_0 6 rfl rfl)
theorem dX9_recall_9 : decode cX9_recall 9 = .ok (.invokevirtual 372, 3) := dk_182 1 116 (dk_at dksX9_recall_0 9 rfl rfl)
theorem dX9_recall_12 : decode cX9_recall 12 = .ok (.ifCond .eq 15, 3) := dk_153 0 15 (dk_at dksX9_recall_0 12 rfl rfl)
theorem dX9_recall_15 : decode cX9_recall 15 = .ok (.aload_n 0, 1) := dk_42 (dk_at dksX9_recall_0 15 rfl rfl)
theorem dX9_recall_16 : decode cX9_recall 16 = .ok (.aload_n 0, 1) := dk_42 (dk_at dksX9_recall_0 16 rfl rfl)
theorem dX9_recall_17 : decode cX9_recall 17 = .ok (.iload_n 1, 1) := dk_27 (dk_at dksX9_recall_0 17 rfl rfl)
theorem dX9_recall_18 : decode cX9_recall 18 = .ok (.invokevirtual 307, 3) := dk_182 1 51 (dk_at dksX9_recall_0 18 rfl rfl)
theorem dX9_recall_21 : decode cX9_recall 21 = .ok (.invokevirtual 375, 3) := dk_182 1 119 (dk_at dksX9_recall_0 21 rfl rfl)
theorem dX9_recall_24 : decode cX9_recall 24 = .ok (.goto 4, 3) := dk_167 0 4 (dk_at dksX9_recall_1 0 rfl rfl)
theorem dX9_recall_27 : decode cX9_recall 27 = .ok (.iconst 0, 1) := dk_3 (dk_at dksX9_recall_1 3 rfl rfl)
theorem dX9_recall_28 : decode cX9_recall 28 = .ok (.ireturn, 1) := dk_172 (dk_at dksX9_recall_1 4 rfl rfl)
abbrev cX9_addSacks : ByteArray := prog_17_method_135_code
def yX9_addSacks : MethodName := ⟨RX9, "addSacks", "(II)I"⟩
def dkwX9_addSacks_1 : List UInt8 := [42, 42, 27, 28, 182, 1, 54, 182, 1, 119, 167, 0, 4, 3, 172]
abbrev dktX9_addSacks_1 : List UInt8 := dkwX9_addSacks_1 ++ []
def dkwX9_addSacks_0 : List UInt8 := [42, 42, 27, 184, 1, 86, 28, 133, 10, 20, 1, 122, 184, 0, 62, 182, 1, 100, 182, 1, 116, 153, 0, 16]
abbrev dktX9_addSacks_0 : List UInt8 := dkwX9_addSacks_0 ++ dktX9_addSacks_1
theorem dksX9_addSacks_0 : cX9_addSacks.data.toList.drop 0 = dktX9_addSacks_0 := by decide +kernel
theorem dksX9_addSacks_1 : cX9_addSacks.data.toList.drop 24 = dktX9_addSacks_1 := dk_seg dksX9_addSacks_0 24 rfl rfl
theorem dX9_addSacks_0 : decode cX9_addSacks 0 = .ok (.aload_n 0, 1) := dk_42 (dk_at dksX9_addSacks_0 0 rfl rfl)
theorem dX9_addSacks_1 : decode cX9_addSacks 1 = .ok (.aload_n 0, 1) := dk_42 (dk_at dksX9_addSacks_0 1 rfl rfl)
theorem dX9_addSacks_2 : decode cX9_addSacks 2 = .ok (.iload_n 1, 1) := dk_27 (dk_at dksX9_addSacks_0 2 rfl rfl)
theorem dX9_addSacks_3 : decode cX9_addSacks 3 = .ok (.invokestatic 342, 3) := dk_184 1 86 (dk_at dksX9_addSacks_0 3 rfl rfl)
theorem dX9_addSacks_6 : decode cX9_addSacks 6 = .ok (.iload_n 2, 1) := dk_28 (dk_at dksX9_addSacks_0 6 rfl rfl)
theorem dX9_addSacks_7 : decode cX9_addSacks 7 = .ok (.i2l, 1) := dk_133 (dk_at dksX9_addSacks_0 7 rfl rfl)
theorem dX9_addSacks_8 : decode cX9_addSacks 8 = .ok (.lconst 1, 1) := dk_10 (dk_at dksX9_addSacks_0 8 rfl rfl)
theorem dX9_addSacks_9 : decode cX9_addSacks 9 = .ok (.ldc2_w 378, 3) := dk_20 1 122 (dk_at dksX9_addSacks_0 9 rfl rfl)
theorem dX9_addSacks_12 : decode cX9_addSacks 12 = .ok (.invokestatic 62, 3) := dk_184 0 62 (dk_at dksX9_addSacks_0 12 rfl rfl)
theorem dX9_addSacks_15 : decode cX9_addSacks 15 = .ok (.invokevirtual 356, 3) := dk_182 1 100 (dk_at dksX9_addSacks_0 15 rfl rfl)
theorem dX9_addSacks_18 : decode cX9_addSacks 18 = .ok (.invokevirtual 372, 3) := dk_182 1 116 (dk_at dksX9_addSacks_0 18 rfl rfl)
theorem dX9_addSacks_21 : decode cX9_addSacks 21 = .ok (.ifCond .eq 16, 3) := dk_153 0 16 (dk_at dksX9_addSacks_0 21 rfl rfl)
theorem dX9_addSacks_24 : decode cX9_addSacks 24 = .ok (.aload_n 0, 1) := dk_42 (dk_at dksX9_addSacks_1 0 rfl rfl)
theorem dX9_addSacks_25 : decode cX9_addSacks 25 = .ok (.aload_n 0, 1) := dk_42 (dk_at dksX9_addSacks_1 1 rfl rfl)
theorem dX9_addSacks_26 : decode cX9_addSacks 26 = .ok (.iload_n 1, 1) := dk_27 (dk_at dksX9_addSacks_1 2 rfl rfl)
theorem dX9_addSacks_27 : decode cX9_addSacks 27 = .ok (.iload_n 2, 1) := dk_28 (dk_at dksX9_addSacks_1 3 rfl rfl)
theorem dX9_addSacks_28 : decode cX9_addSacks 28 = .ok (.invokevirtual 310, 3) := dk_182 1 54 (dk_at dksX9_addSacks_1 4 rfl rfl)
theorem dX9_addSacks_31 : decode cX9_addSacks 31 = .ok (.invokevirtual 375, 3) := dk_182 1 119 (dk_at dksX9_addSacks_1 7 rfl rfl)
theorem dX9_addSacks_34 : decode cX9_addSacks 34 = .ok (.goto 4, 3) := dk_167 0 4 (dk_at dksX9_addSacks_1 10 rfl rfl)
theorem dX9_addSacks_37 : decode cX9_addSacks 37 = .ok (.iconst 0, 1) := dk_3 (dk_at dksX9_addSacks_1 13 rfl rfl)
theorem dX9_addSacks_38 : decode cX9_addSacks 38 = .ok (.ireturn, 1) := dk_172 (dk_at dksX9_addSacks_1 14 rfl rfl)
abbrev cX9_setSnowfall : ByteArray := prog_17_method_136_code
def yX9_setSnowfall : MethodName := ⟨RX9, "setSnowfall", "(I)I"⟩
def dkwX9_setSnowfall_1 : List UInt8 := [182, 1, 57, 182, 1, 119, 167, 0, 4, 3, 172]
abbrev dktX9_setSnowfall_1 : List UInt8 := dkwX9_setSnowfall_1 ++ []
def dkwX9_setSnowfall_0 : List UInt8 := [42, 42, 27, 133, 9, 20, 1, 122, 184, 0, 62, 182, 0, 164, 182, 1, 116, 153, 0, 16, 42, 42, 8, 27]
abbrev dktX9_setSnowfall_0 : List UInt8 := dkwX9_setSnowfall_0 ++ dktX9_setSnowfall_1
theorem dksX9_setSnowfall_0 : cX9_setSnowfall.data.toList.drop 0 = dktX9_setSnowfall_0 := by decide +kernel
theorem dksX9_setSnowfall_1 : cX9_setSnowfall.data.toList.drop 24 = dktX9_setSnowfall_1 := dk_seg dksX9_setSnowfall_0 24 rfl rfl
theorem dX9_setSnowfall_0 : decode cX9_setSnowfall 0 = .ok (.aload_n 0, 1) := dk_42 (dk_at dksX9_setSnowfall_0 0 rfl rfl)
theorem dX9_setSnowfall_1 : decode cX9_setSnowfall 1 = .ok (.aload_n 0, 1) := dk_42 (dk_at dksX9_setSnowfall_0 1 rfl rfl)
theorem dX9_setSnowfall_2 : decode cX9_setSnowfall 2 = .ok (.iload_n 1, 1) := dk_27 (dk_at dksX9_setSnowfall_0 2 rfl rfl)
theorem dX9_setSnowfall_3 : decode cX9_setSnowfall 3 = .ok (.i2l, 1) := dk_133 (dk_at dksX9_setSnowfall_0 3 rfl rfl)
theorem dX9_setSnowfall_4 : decode cX9_setSnowfall 4 = .ok (.lconst 0, 1) := dk_9 (dk_at dksX9_setSnowfall_0 4 rfl rfl)
theorem dX9_setSnowfall_5 : decode cX9_setSnowfall 5 = .ok (.ldc2_w 378, 3) := dk_20 1 122 (dk_at dksX9_setSnowfall_0 5 rfl rfl)
theorem dX9_setSnowfall_8 : decode cX9_setSnowfall 8 = .ok (.invokestatic 62, 3) := dk_184 0 62 (dk_at dksX9_setSnowfall_0 8 rfl rfl)
theorem dX9_setSnowfall_11 : decode cX9_setSnowfall 11 = .ok (.invokevirtual 164, 3) := dk_182 0 164 (dk_at dksX9_setSnowfall_0 11 rfl rfl)
theorem dX9_setSnowfall_14 : decode cX9_setSnowfall 14 = .ok (.invokevirtual 372, 3) := dk_182 1 116 (dk_at dksX9_setSnowfall_0 14 rfl rfl)
theorem dX9_setSnowfall_17 : decode cX9_setSnowfall 17 = .ok (.ifCond .eq 16, 3) := dk_153 0 16 (dk_at dksX9_setSnowfall_0 17 rfl rfl)
theorem dX9_setSnowfall_20 : decode cX9_setSnowfall 20 = .ok (.aload_n 0, 1) := dk_42 (dk_at dksX9_setSnowfall_0 20 rfl rfl)
theorem dX9_setSnowfall_21 : decode cX9_setSnowfall 21 = .ok (.aload_n 0, 1) := dk_42 (dk_at dksX9_setSnowfall_0 21 rfl rfl)
theorem dX9_setSnowfall_22 : decode cX9_setSnowfall 22 = .ok (.iconst 5, 1) := dk_8 (dk_at dksX9_setSnowfall_0 22 rfl rfl)
theorem dX9_setSnowfall_23 : decode cX9_setSnowfall 23 = .ok (.iload_n 1, 1) := dk_27 (dk_at dksX9_setSnowfall_0 23 rfl rfl)
theorem dX9_setSnowfall_24 : decode cX9_setSnowfall 24 = .ok (.invokevirtual 313, 3) := dk_182 1 57 (dk_at dksX9_setSnowfall_1 0 rfl rfl)
theorem dX9_setSnowfall_27 : decode cX9_setSnowfall 27 = .ok (.invokevirtual 375, 3) := dk_182 1 119 (dk_at dksX9_setSnowfall_1 3 rfl rfl)
theorem dX9_setSnowfall_30 : decode cX9_setSnowfall 30 = .ok (.goto 4, 3) := dk_167 0 4 (dk_at dksX9_setSnowfall_1 6 rfl rfl)
theorem dX9_setSnowfall_33 : decode cX9_setSnowfall 33 = .ok (.iconst 0, 1) := dk_3 (dk_at dksX9_setSnowfall_1 9 rfl rfl)
theorem dX9_setSnowfall_34 : decode cX9_setSnowfall 34 = .ok (.ireturn, 1) := dk_172 (dk_at dksX9_setSnowfall_1 10 rfl rfl)
abbrev cX9_setWind : ByteArray := prog_17_method_137_code
def yX9_setWind : MethodName := ⟨RX9, "setWind", "(I)I"⟩
def dkwX9_setWind_1 : List UInt8 := [27, 182, 1, 57, 182, 1, 119, 167, 0, 4, 3, 172]
abbrev dktX9_setWind_1 : List UInt8 := dkwX9_setWind_1 ++ []
def dkwX9_setWind_0 : List UInt8 := [42, 42, 27, 133, 9, 20, 1, 124, 184, 0, 62, 182, 0, 164, 182, 1, 116, 153, 0, 17, 42, 42, 16, 6]
abbrev dktX9_setWind_0 : List UInt8 := dkwX9_setWind_0 ++ dktX9_setWind_1
theorem dksX9_setWind_0 : cX9_setWind.data.toList.drop 0 = dktX9_setWind_0 := by decide +kernel
theorem dksX9_setWind_1 : cX9_setWind.data.toList.drop 24 = dktX9_setWind_1 := dk_seg dksX9_setWind_0 24 rfl rfl
theorem dX9_setWind_0 : decode cX9_setWind 0 = .ok (.aload_n 0, 1) := dk_42 (dk_at dksX9_setWind_0 0 rfl rfl)
theorem dX9_setWind_1 : decode cX9_setWind 1 = .ok (.aload_n 0, 1) := dk_42 (dk_at dksX9_setWind_0 1 rfl rfl)
theorem dX9_setWind_2 : decode cX9_setWind 2 = .ok (.iload_n 1, 1) := dk_27 (dk_at dksX9_setWind_0 2 rfl rfl)
theorem dX9_setWind_3 : decode cX9_setWind 3 = .ok (.i2l, 1) := dk_133 (dk_at dksX9_setWind_0 3 rfl rfl)
theorem dX9_setWind_4 : decode cX9_setWind 4 = .ok (.lconst 0, 1) := dk_9 (dk_at dksX9_setWind_0 4 rfl rfl)
theorem dX9_setWind_5 : decode cX9_setWind 5 = .ok (.ldc2_w 380, 3) := dk_20 1 124 (dk_at dksX9_setWind_0 5 rfl rfl)
theorem dX9_setWind_8 : decode cX9_setWind 8 = .ok (.invokestatic 62, 3) := dk_184 0 62 (dk_at dksX9_setWind_0 8 rfl rfl)
theorem dX9_setWind_11 : decode cX9_setWind 11 = .ok (.invokevirtual 164, 3) := dk_182 0 164 (dk_at dksX9_setWind_0 11 rfl rfl)
theorem dX9_setWind_14 : decode cX9_setWind 14 = .ok (.invokevirtual 372, 3) := dk_182 1 116 (dk_at dksX9_setWind_0 14 rfl rfl)
theorem dX9_setWind_17 : decode cX9_setWind 17 = .ok (.ifCond .eq 17, 3) := dk_153 0 17 (dk_at dksX9_setWind_0 17 rfl rfl)
theorem dX9_setWind_20 : decode cX9_setWind 20 = .ok (.aload_n 0, 1) := dk_42 (dk_at dksX9_setWind_0 20 rfl rfl)
theorem dX9_setWind_21 : decode cX9_setWind 21 = .ok (.aload_n 0, 1) := dk_42 (dk_at dksX9_setWind_0 21 rfl rfl)
theorem dX9_setWind_22 : decode cX9_setWind 22 = .ok (.bipush 6, 2) := dk_16 6 (dk_at dksX9_setWind_0 22 rfl rfl)
theorem dX9_setWind_24 : decode cX9_setWind 24 = .ok (.iload_n 1, 1) := dk_27 (dk_at dksX9_setWind_1 0 rfl rfl)
theorem dX9_setWind_25 : decode cX9_setWind 25 = .ok (.invokevirtual 313, 3) := dk_182 1 57 (dk_at dksX9_setWind_1 1 rfl rfl)
theorem dX9_setWind_28 : decode cX9_setWind 28 = .ok (.invokevirtual 375, 3) := dk_182 1 119 (dk_at dksX9_setWind_1 4 rfl rfl)
theorem dX9_setWind_31 : decode cX9_setWind 31 = .ok (.goto 4, 3) := dk_167 0 4 (dk_at dksX9_setWind_1 7 rfl rfl)
theorem dX9_setWind_34 : decode cX9_setWind 34 = .ok (.iconst 0, 1) := dk_3 (dk_at dksX9_setWind_1 10 rfl rfl)
theorem dX9_setWind_35 : decode cX9_setWind 35 = .ok (.ireturn, 1) := dk_172 (dk_at dksX9_setWind_1 11 rfl rfl)
abbrev cX9_queueCart : ByteArray := prog_17_method_138_code
def yX9_queueCart : MethodName := ⟨RX9, "queueCart", "(IZ)I"⟩
def dkwX9_queueCart_2 : List UInt8 := [28, 184, 1, 79, 182, 0, 238, 182, 1, 119, 167, 0, 4, 3, 172]
abbrev dktX9_queueCart_2 : List UInt8 := dkwX9_queueCart_2 ++ []
def dkwX9_queueCart_1 : List UInt8 := [167, 0, 4, 3, 62, 42, 42, 27, 184, 1, 86, 29, 182, 1, 100, 182, 1, 116, 153, 0, 19, 42, 42, 27]
abbrev dktX9_queueCart_1 : List UInt8 := dkwX9_queueCart_1 ++ dktX9_queueCart_2
def dkwX9_queueCart_0 : List UInt8 := [27, 184, 1, 86, 153, 0, 21, 42, 180, 0, 7, 16, 125, 27, 96, 46, 16, 10, 162, 0, 7, 4]
abbrev dktX9_queueCart_0 : List UInt8 := dkwX9_queueCart_0 ++ dktX9_queueCart_1
theorem dksX9_queueCart_0 : cX9_queueCart.data.toList.drop 0 = dktX9_queueCart_0 := by decide +kernel
theorem dksX9_queueCart_1 : cX9_queueCart.data.toList.drop 22 = dktX9_queueCart_1 := dk_seg dksX9_queueCart_0 22 rfl rfl
theorem dksX9_queueCart_2 : cX9_queueCart.data.toList.drop 46 = dktX9_queueCart_2 := dk_seg dksX9_queueCart_1 24 rfl rfl
theorem dX9_queueCart_0 : decode cX9_queueCart 0 = .ok (.iload_n 1, 1) := dk_27 (dk_at dksX9_queueCart_0 0 rfl rfl)
theorem dX9_queueCart_1 : decode cX9_queueCart 1 = .ok (.invokestatic 342, 3) := dk_184 1 86 (dk_at dksX9_queueCart_0 1 rfl rfl)
theorem dX9_queueCart_4 : decode cX9_queueCart 4 = .ok (.ifCond .eq 21, 3) := dk_153 0 21 (dk_at dksX9_queueCart_0 4 rfl rfl)
theorem dX9_queueCart_7 : decode cX9_queueCart 7 = .ok (.aload_n 0, 1) := dk_42 (dk_at dksX9_queueCart_0 7 rfl rfl)
theorem dX9_queueCart_8 : decode cX9_queueCart 8 = .ok (.getfield 7, 3) := dk_180 0 7 (dk_at dksX9_queueCart_0 8 rfl rfl)
theorem dX9_queueCart_11 : decode cX9_queueCart 11 = .ok (.bipush 125, 2) := dk_16 125 (dk_at dksX9_queueCart_0 11 rfl rfl)
theorem dX9_queueCart_13 : decode cX9_queueCart 13 = .ok (.iload_n 1, 1) := dk_27 (dk_at dksX9_queueCart_0 13 rfl rfl)
theorem dX9_queueCart_14 : decode cX9_queueCart 14 = .ok (.iadd, 1) := dk_96 (dk_at dksX9_queueCart_0 14 rfl rfl)
theorem dX9_queueCart_15 : decode cX9_queueCart 15 = .ok (.iaload, 1) := dk_46 (dk_at dksX9_queueCart_0 15 rfl rfl)
theorem dX9_queueCart_16 : decode cX9_queueCart 16 = .ok (.bipush 10, 2) := dk_16 10 (dk_at dksX9_queueCart_0 16 rfl rfl)
theorem dX9_queueCart_18 : decode cX9_queueCart 18 = .ok (.if_icmp .ge 7, 3) := dk_162 0 7 (dk_at dksX9_queueCart_0 18 rfl rfl)
theorem dX9_queueCart_21 : decode cX9_queueCart 21 = .ok (.iconst 1, 1) := dk_4 (dk_at dksX9_queueCart_0 21 rfl rfl)
theorem dX9_queueCart_22 : decode cX9_queueCart 22 = .ok (.goto 4, 3) := dk_167 0 4 (dk_at dksX9_queueCart_1 0 rfl rfl)
theorem dX9_queueCart_25 : decode cX9_queueCart 25 = .ok (.iconst 0, 1) := dk_3 (dk_at dksX9_queueCart_1 3 rfl rfl)
theorem dX9_queueCart_26 : decode cX9_queueCart 26 = .ok (.istore_n 3, 1) := dk_62 (dk_at dksX9_queueCart_1 4 rfl rfl)
theorem dX9_queueCart_27 : decode cX9_queueCart 27 = .ok (.aload_n 0, 1) := dk_42 (dk_at dksX9_queueCart_1 5 rfl rfl)
theorem dX9_queueCart_28 : decode cX9_queueCart 28 = .ok (.aload_n 0, 1) := dk_42 (dk_at dksX9_queueCart_1 6 rfl rfl)
theorem dX9_queueCart_29 : decode cX9_queueCart 29 = .ok (.iload_n 1, 1) := dk_27 (dk_at dksX9_queueCart_1 7 rfl rfl)
theorem dX9_queueCart_30 : decode cX9_queueCart 30 = .ok (.invokestatic 342, 3) := dk_184 1 86 (dk_at dksX9_queueCart_1 8 rfl rfl)
theorem dX9_queueCart_33 : decode cX9_queueCart 33 = .ok (.iload_n 3, 1) := dk_29 (dk_at dksX9_queueCart_1 11 rfl rfl)
theorem dX9_queueCart_34 : decode cX9_queueCart 34 = .ok (.invokevirtual 356, 3) := dk_182 1 100 (dk_at dksX9_queueCart_1 12 rfl rfl)
theorem dX9_queueCart_37 : decode cX9_queueCart 37 = .ok (.invokevirtual 372, 3) := dk_182 1 116 (dk_at dksX9_queueCart_1 15 rfl rfl)
theorem dX9_queueCart_40 : decode cX9_queueCart 40 = .ok (.ifCond .eq 19, 3) := dk_153 0 19 (dk_at dksX9_queueCart_1 18 rfl rfl)
theorem dX9_queueCart_43 : decode cX9_queueCart 43 = .ok (.aload_n 0, 1) := dk_42 (dk_at dksX9_queueCart_1 21 rfl rfl)
theorem dX9_queueCart_44 : decode cX9_queueCart 44 = .ok (.aload_n 0, 1) := dk_42 (dk_at dksX9_queueCart_1 22 rfl rfl)
theorem dX9_queueCart_45 : decode cX9_queueCart 45 = .ok (.iload_n 1, 1) := dk_27 (dk_at dksX9_queueCart_1 23 rfl rfl)
theorem dX9_queueCart_46 : decode cX9_queueCart 46 = .ok (.iload_n 2, 1) := dk_28 (dk_at dksX9_queueCart_2 0 rfl rfl)
theorem dX9_queueCart_47 : decode cX9_queueCart 47 = .ok (.invokestatic 335, 3) := dk_184 1 79 (dk_at dksX9_queueCart_2 1 rfl rfl)
theorem dX9_queueCart_50 : decode cX9_queueCart 50 = .ok (.invokevirtual 238, 3) := dk_182 0 238 (dk_at dksX9_queueCart_2 4 rfl rfl)
theorem dX9_queueCart_53 : decode cX9_queueCart 53 = .ok (.invokevirtual 375, 3) := dk_182 1 119 (dk_at dksX9_queueCart_2 7 rfl rfl)
theorem dX9_queueCart_56 : decode cX9_queueCart 56 = .ok (.goto 4, 3) := dk_167 0 4 (dk_at dksX9_queueCart_2 10 rfl rfl)
theorem dX9_queueCart_59 : decode cX9_queueCart 59 = .ok (.iconst 0, 1) := dk_3 (dk_at dksX9_queueCart_2 13 rfl rfl)
theorem dX9_queueCart_60 : decode cX9_queueCart 60 = .ok (.ireturn, 1) := dk_172 (dk_at dksX9_queueCart_2 14 rfl rfl)
abbrev cX9_cancelCart : ByteArray := prog_17_method_139_code
def yX9_cancelCart : MethodName := ⟨RX9, "cancelCart", "(I)I"⟩
def dkwX9_cancelCart_1 : List UInt8 := [182, 1, 119, 167, 0, 4, 3, 172]
abbrev dktX9_cancelCart_1 : List UInt8 := dkwX9_cancelCart_1 ++ []
def dkwX9_cancelCart_0 : List UInt8 := [42, 42, 42, 27, 182, 1, 92, 182, 0, 164, 182, 1, 116, 153, 0, 15, 42, 42, 27, 182, 1, 60]
abbrev dktX9_cancelCart_0 : List UInt8 := dkwX9_cancelCart_0 ++ dktX9_cancelCart_1
theorem dksX9_cancelCart_0 : cX9_cancelCart.data.toList.drop 0 = dktX9_cancelCart_0 := by decide +kernel
theorem dksX9_cancelCart_1 : cX9_cancelCart.data.toList.drop 22 = dktX9_cancelCart_1 := dk_seg dksX9_cancelCart_0 22 rfl rfl
theorem dX9_cancelCart_0 : decode cX9_cancelCart 0 = .ok (.aload_n 0, 1) := dk_42 (dk_at dksX9_cancelCart_0 0 rfl rfl)
theorem dX9_cancelCart_1 : decode cX9_cancelCart 1 = .ok (.aload_n 0, 1) := dk_42 (dk_at dksX9_cancelCart_0 1 rfl rfl)
theorem dX9_cancelCart_2 : decode cX9_cancelCart 2 = .ok (.aload_n 0, 1) := dk_42 (dk_at dksX9_cancelCart_0 2 rfl rfl)
theorem dX9_cancelCart_3 : decode cX9_cancelCart 3 = .ok (.iload_n 1, 1) := dk_27 (dk_at dksX9_cancelCart_0 3 rfl rfl)
theorem dX9_cancelCart_4 : decode cX9_cancelCart 4 = .ok (.invokevirtual 348, 3) := dk_182 1 92 (dk_at dksX9_cancelCart_0 4 rfl rfl)
theorem dX9_cancelCart_7 : decode cX9_cancelCart 7 = .ok (.invokevirtual 164, 3) := dk_182 0 164 (dk_at dksX9_cancelCart_0 7 rfl rfl)
theorem dX9_cancelCart_10 : decode cX9_cancelCart 10 = .ok (.invokevirtual 372, 3) := dk_182 1 116 (dk_at dksX9_cancelCart_0 10 rfl rfl)
theorem dX9_cancelCart_13 : decode cX9_cancelCart 13 = .ok (.ifCond .eq 15, 3) := dk_153 0 15 (dk_at dksX9_cancelCart_0 13 rfl rfl)
theorem dX9_cancelCart_16 : decode cX9_cancelCart 16 = .ok (.aload_n 0, 1) := dk_42 (dk_at dksX9_cancelCart_0 16 rfl rfl)
theorem dX9_cancelCart_17 : decode cX9_cancelCart 17 = .ok (.aload_n 0, 1) := dk_42 (dk_at dksX9_cancelCart_0 17 rfl rfl)
theorem dX9_cancelCart_18 : decode cX9_cancelCart 18 = .ok (.iload_n 1, 1) := dk_27 (dk_at dksX9_cancelCart_0 18 rfl rfl)
theorem dX9_cancelCart_19 : decode cX9_cancelCart 19 = .ok (.invokevirtual 316, 3) := dk_182 1 60 (dk_at dksX9_cancelCart_0 19 rfl rfl)
theorem dX9_cancelCart_22 : decode cX9_cancelCart 22 = .ok (.invokevirtual 375, 3) := dk_182 1 119 (dk_at dksX9_cancelCart_1 0 rfl rfl)
theorem dX9_cancelCart_25 : decode cX9_cancelCart 25 = .ok (.goto 4, 3) := dk_167 0 4 (dk_at dksX9_cancelCart_1 3 rfl rfl)
theorem dX9_cancelCart_28 : decode cX9_cancelCart 28 = .ok (.iconst 0, 1) := dk_3 (dk_at dksX9_cancelCart_1 6 rfl rfl)
theorem dX9_cancelCart_29 : decode cX9_cancelCart 29 = .ok (.ireturn, 1) := dk_172 (dk_at dksX9_cancelCart_1 7 rfl rfl)
abbrev cX9_undo : ByteArray := prog_17_method_140_code
def yX9_undo : MethodName := ⟨RX9, "undo", "()I"⟩
def dkwX9_undo_2 : List UInt8 := [3, 184, 0, 58, 42, 180, 1, 13, 172]
abbrev dktX9_undo_2 : List UInt8 := dkwX9_undo_2 ++ []
def dkwX9_undo_1 : List UInt8 := [180, 1, 13, 4, 100, 181, 1, 13, 42, 180, 0, 22, 17, 0, 167, 42, 180, 1, 13, 104, 42, 180, 0, 7]
abbrev dktX9_undo_1 : List UInt8 := dkwX9_undo_1 ++ dktX9_undo_2
def dkwX9_undo_0 : List UInt8 := [42, 42, 180, 1, 13, 158, 0, 7, 4, 167, 0, 4, 3, 182, 0, 164, 154, 0, 5, 3, 172, 42, 89]
abbrev dktX9_undo_0 : List UInt8 := dkwX9_undo_0 ++ dktX9_undo_1
theorem dksX9_undo_0 : cX9_undo.data.toList.drop 0 = dktX9_undo_0 := by decide +kernel
theorem dksX9_undo_1 : cX9_undo.data.toList.drop 23 = dktX9_undo_1 := dk_seg dksX9_undo_0 23 rfl rfl
theorem dksX9_undo_2 : cX9_undo.data.toList.drop 47 = dktX9_undo_2 := dk_seg dksX9_undo_1 24 rfl rfl
theorem dX9_undo_0 : decode cX9_undo 0 = .ok (.aload_n 0, 1) := dk_42 (dk_at dksX9_undo_0 0 rfl rfl)
theorem dX9_undo_1 : decode cX9_undo 1 = .ok (.aload_n 0, 1) := dk_42 (dk_at dksX9_undo_0 1 rfl rfl)
theorem dX9_undo_2 : decode cX9_undo 2 = .ok (.getfield 269, 3) := dk_180 1 13 (dk_at dksX9_undo_0 2 rfl rfl)
theorem dX9_undo_5 : decode cX9_undo 5 = .ok (.ifCond .le 7, 3) := dk_158 0 7 (dk_at dksX9_undo_0 5 rfl rfl)
theorem dX9_undo_8 : decode cX9_undo 8 = .ok (.iconst 1, 1) := dk_4 (dk_at dksX9_undo_0 8 rfl rfl)
theorem dX9_undo_9 : decode cX9_undo 9 = .ok (.goto 4, 3) := dk_167 0 4 (dk_at dksX9_undo_0 9 rfl rfl)
theorem dX9_undo_12 : decode cX9_undo 12 = .ok (.iconst 0, 1) := dk_3 (dk_at dksX9_undo_0 12 rfl rfl)
theorem dX9_undo_13 : decode cX9_undo 13 = .ok (.invokevirtual 164, 3) := dk_182 0 164 (dk_at dksX9_undo_0 13 rfl rfl)
theorem dX9_undo_16 : decode cX9_undo 16 = .ok (.ifCond .ne 5, 3) := dk_154 0 5 (dk_at dksX9_undo_0 16 rfl rfl)
theorem dX9_undo_19 : decode cX9_undo 19 = .ok (.iconst 0, 1) := dk_3 (dk_at dksX9_undo_0 19 rfl rfl)
theorem dX9_undo_20 : decode cX9_undo 20 = .ok (.ireturn, 1) := dk_172 (dk_at dksX9_undo_0 20 rfl rfl)
theorem dX9_undo_21 : decode cX9_undo 21 = .ok (.aload_n 0, 1) := dk_42 (dk_at dksX9_undo_0 21 rfl rfl)
theorem dX9_undo_22 : decode cX9_undo 22 = .ok (.dup, 1) := dk_89 (dk_at dksX9_undo_0 22 rfl rfl)
theorem dX9_undo_23 : decode cX9_undo 23 = .ok (.getfield 269, 3) := dk_180 1 13 (dk_at dksX9_undo_1 0 rfl rfl)
theorem dX9_undo_26 : decode cX9_undo 26 = .ok (.iconst 1, 1) := dk_4 (dk_at dksX9_undo_1 3 rfl rfl)
theorem dX9_undo_27 : decode cX9_undo 27 = .ok (.isub, 1) := dk_100 (dk_at dksX9_undo_1 4 rfl rfl)
theorem dX9_undo_28 : decode cX9_undo 28 = .ok (.putfield 269, 3) := dk_181 1 13 (dk_at dksX9_undo_1 5 rfl rfl)
theorem dX9_undo_31 : decode cX9_undo 31 = .ok (.aload_n 0, 1) := dk_42 (dk_at dksX9_undo_1 8 rfl rfl)
theorem dX9_undo_32 : decode cX9_undo 32 = .ok (.getfield 22, 3) := dk_180 0 22 (dk_at dksX9_undo_1 9 rfl rfl)
theorem dX9_undo_35 : decode cX9_undo 35 = .ok (.sipush 167, 3) := dk_17 0 167 (dk_at dksX9_undo_1 12 rfl rfl)
theorem dX9_undo_38 : decode cX9_undo 38 = .ok (.aload_n 0, 1) := dk_42 (dk_at dksX9_undo_1 15 rfl rfl)
theorem dX9_undo_39 : decode cX9_undo 39 = .ok (.getfield 269, 3) := dk_180 1 13 (dk_at dksX9_undo_1 16 rfl rfl)
theorem dX9_undo_42 : decode cX9_undo 42 = .ok (.imul, 1) := dk_104 (dk_at dksX9_undo_1 19 rfl rfl)
theorem dX9_undo_43 : decode cX9_undo 43 = .ok (.aload_n 0, 1) := dk_42 (dk_at dksX9_undo_1 20 rfl rfl)
theorem dX9_undo_44 : decode cX9_undo 44 = .ok (.getfield 7, 3) := dk_180 0 7 (dk_at dksX9_undo_1 21 rfl rfl)
theorem dX9_undo_47 : decode cX9_undo 47 = .ok (.iconst 0, 1) := dk_3 (dk_at dksX9_undo_2 0 rfl rfl)
theorem dX9_undo_48 : decode cX9_undo 48 = .ok (.invokestatic 58, 3) := dk_184 0 58 (dk_at dksX9_undo_2 1 rfl rfl)
theorem dX9_undo_51 : decode cX9_undo 51 = .ok (.aload_n 0, 1) := dk_42 (dk_at dksX9_undo_2 4 rfl rfl)
theorem dX9_undo_52 : decode cX9_undo 52 = .ok (.getfield 269, 3) := dk_180 1 13 (dk_at dksX9_undo_2 5 rfl rfl)
theorem dX9_undo_55 : decode cX9_undo 55 = .ok (.ireturn, 1) := dk_172 (dk_at dksX9_undo_2 8 rfl rfl)
abbrev cX9_save : ByteArray := prog_17_method_141_code
def yX9_save : MethodName := ⟨RX9, "save", "()I"⟩
def dkwX9_save_1 : List UInt8 := [180, 0, 7, 16, 7, 46, 172]
abbrev dktX9_save_1 : List UInt8 := dkwX9_save_1 ++ []
def dkwX9_save_0 : List UInt8 := [42, 3, 181, 0, 55, 42, 180, 0, 7, 3, 42, 180, 0, 13, 3, 184, 0, 58, 42, 4, 181, 1, 126, 42]
abbrev dktX9_save_0 : List UInt8 := dkwX9_save_0 ++ dktX9_save_1
theorem dksX9_save_0 : cX9_save.data.toList.drop 0 = dktX9_save_0 := by decide +kernel
theorem dksX9_save_1 : cX9_save.data.toList.drop 24 = dktX9_save_1 := dk_seg dksX9_save_0 24 rfl rfl
theorem dX9_save_0 : decode cX9_save 0 = .ok (.aload_n 0, 1) := dk_42 (dk_at dksX9_save_0 0 rfl rfl)
theorem dX9_save_1 : decode cX9_save 1 = .ok (.iconst 0, 1) := dk_3 (dk_at dksX9_save_0 1 rfl rfl)
theorem dX9_save_2 : decode cX9_save 2 = .ok (.putfield 55, 3) := dk_181 0 55 (dk_at dksX9_save_0 2 rfl rfl)
theorem dX9_save_5 : decode cX9_save 5 = .ok (.aload_n 0, 1) := dk_42 (dk_at dksX9_save_0 5 rfl rfl)
theorem dX9_save_6 : decode cX9_save 6 = .ok (.getfield 7, 3) := dk_180 0 7 (dk_at dksX9_save_0 6 rfl rfl)
theorem dX9_save_9 : decode cX9_save 9 = .ok (.iconst 0, 1) := dk_3 (dk_at dksX9_save_0 9 rfl rfl)
theorem dX9_save_10 : decode cX9_save 10 = .ok (.aload_n 0, 1) := dk_42 (dk_at dksX9_save_0 10 rfl rfl)
theorem dX9_save_11 : decode cX9_save 11 = .ok (.getfield 13, 3) := dk_180 0 13 (dk_at dksX9_save_0 11 rfl rfl)
theorem dX9_save_14 : decode cX9_save 14 = .ok (.iconst 0, 1) := dk_3 (dk_at dksX9_save_0 14 rfl rfl)
theorem dX9_save_15 : decode cX9_save 15 = .ok (.invokestatic 58, 3) := dk_184 0 58 (dk_at dksX9_save_0 15 rfl rfl)
theorem dX9_save_18 : decode cX9_save 18 = .ok (.aload_n 0, 1) := dk_42 (dk_at dksX9_save_0 18 rfl rfl)
theorem dX9_save_19 : decode cX9_save 19 = .ok (.iconst 1, 1) := dk_4 (dk_at dksX9_save_0 19 rfl rfl)
theorem dX9_save_20 : decode cX9_save 20 = .ok (.putfield 382, 3) := dk_181 1 126 (dk_at dksX9_save_0 20 rfl rfl)
theorem dX9_save_23 : decode cX9_save 23 = .ok (.aload_n 0, 1) := dk_42 (dk_at dksX9_save_0 23 rfl rfl)
theorem dX9_save_24 : decode cX9_save 24 = .ok (.getfield 7, 3) := dk_180 0 7 (dk_at dksX9_save_1 0 rfl rfl)
theorem dX9_save_27 : decode cX9_save 27 = .ok (.bipush 7, 2) := dk_16 7 (dk_at dksX9_save_1 3 rfl rfl)
theorem dX9_save_29 : decode cX9_save 29 = .ok (.iaload, 1) := dk_46 (dk_at dksX9_save_1 5 rfl rfl)
theorem dX9_save_30 : decode cX9_save 30 = .ok (.ireturn, 1) := dk_172 (dk_at dksX9_save_1 6 rfl rfl)
abbrev cX9_restore : ByteArray := prog_17_method_142_code
def yX9_restore : MethodName := ⟨RX9, "restore", "()I"⟩
def dkwX9_restore_1 : List UInt8 := [184, 0, 58, 42, 3, 181, 1, 13, 42, 180, 0, 7, 16, 7, 46, 172]
abbrev dktX9_restore_1 : List UInt8 := dkwX9_restore_1 ++ []
def dkwX9_restore_0 : List UInt8 := [42, 42, 180, 1, 126, 182, 0, 164, 154, 0, 5, 3, 172, 42, 180, 0, 13, 3, 42, 180, 0, 7, 3]
abbrev dktX9_restore_0 : List UInt8 := dkwX9_restore_0 ++ dktX9_restore_1
theorem dksX9_restore_0 : cX9_restore.data.toList.drop 0 = dktX9_restore_0 := by decide +kernel
theorem dksX9_restore_1 : cX9_restore.data.toList.drop 23 = dktX9_restore_1 := dk_seg dksX9_restore_0 23 rfl rfl
theorem dX9_restore_0 : decode cX9_restore 0 = .ok (.aload_n 0, 1) := dk_42 (dk_at dksX9_restore_0 0 rfl rfl)
theorem dX9_restore_1 : decode cX9_restore 1 = .ok (.aload_n 0, 1) := dk_42 (dk_at dksX9_restore_0 1 rfl rfl)
theorem dX9_restore_2 : decode cX9_restore 2 = .ok (.getfield 382, 3) := dk_180 1 126 (dk_at dksX9_restore_0 2 rfl rfl)
theorem dX9_restore_5 : decode cX9_restore 5 = .ok (.invokevirtual 164, 3) := dk_182 0 164 (dk_at dksX9_restore_0 5 rfl rfl)
theorem dX9_restore_8 : decode cX9_restore 8 = .ok (.ifCond .ne 5, 3) := dk_154 0 5 (dk_at dksX9_restore_0 8 rfl rfl)
theorem dX9_restore_11 : decode cX9_restore 11 = .ok (.iconst 0, 1) := dk_3 (dk_at dksX9_restore_0 11 rfl rfl)
theorem dX9_restore_12 : decode cX9_restore 12 = .ok (.ireturn, 1) := dk_172 (dk_at dksX9_restore_0 12 rfl rfl)
theorem dX9_restore_13 : decode cX9_restore 13 = .ok (.aload_n 0, 1) := dk_42 (dk_at dksX9_restore_0 13 rfl rfl)
theorem dX9_restore_14 : decode cX9_restore 14 = .ok (.getfield 13, 3) := dk_180 0 13 (dk_at dksX9_restore_0 14 rfl rfl)
theorem dX9_restore_17 : decode cX9_restore 17 = .ok (.iconst 0, 1) := dk_3 (dk_at dksX9_restore_0 17 rfl rfl)
theorem dX9_restore_18 : decode cX9_restore 18 = .ok (.aload_n 0, 1) := dk_42 (dk_at dksX9_restore_0 18 rfl rfl)
theorem dX9_restore_19 : decode cX9_restore 19 = .ok (.getfield 7, 3) := dk_180 0 7 (dk_at dksX9_restore_0 19 rfl rfl)
theorem dX9_restore_22 : decode cX9_restore 22 = .ok (.iconst 0, 1) := dk_3 (dk_at dksX9_restore_0 22 rfl rfl)
theorem dX9_restore_23 : decode cX9_restore 23 = .ok (.invokestatic 58, 3) := dk_184 0 58 (dk_at dksX9_restore_1 0 rfl rfl)
theorem dX9_restore_26 : decode cX9_restore 26 = .ok (.aload_n 0, 1) := dk_42 (dk_at dksX9_restore_1 3 rfl rfl)
theorem dX9_restore_27 : decode cX9_restore 27 = .ok (.iconst 0, 1) := dk_3 (dk_at dksX9_restore_1 4 rfl rfl)
theorem dX9_restore_28 : decode cX9_restore 28 = .ok (.putfield 269, 3) := dk_181 1 13 (dk_at dksX9_restore_1 5 rfl rfl)
theorem dX9_restore_31 : decode cX9_restore 31 = .ok (.aload_n 0, 1) := dk_42 (dk_at dksX9_restore_1 8 rfl rfl)
theorem dX9_restore_32 : decode cX9_restore 32 = .ok (.getfield 7, 3) := dk_180 0 7 (dk_at dksX9_restore_1 9 rfl rfl)
theorem dX9_restore_35 : decode cX9_restore 35 = .ok (.bipush 7, 2) := dk_16 7 (dk_at dksX9_restore_1 12 rfl rfl)
theorem dX9_restore_37 : decode cX9_restore 37 = .ok (.iaload, 1) := dk_46 (dk_at dksX9_restore_1 14 rfl rfl)
theorem dX9_restore_38 : decode cX9_restore 38 = .ok (.ireturn, 1) := dk_172 (dk_at dksX9_restore_1 15 rfl rfl)
abbrev cX9_formatRoad : ByteArray := prog_17_method_146_code
def yX9_formatRoad : MethodName := ⟨RX9, "formatRoad", "()I"⟩
def dkwX9_formatRoad_2 : List UInt8 := [172]
abbrev dktX9_formatRoad_2 : List UInt8 := dkwX9_formatRoad_2 ++ []
def dkwX9_formatRoad_1 : List UInt8 := [158, 0, 9, 42, 16, 32, 182, 1, 133, 42, 27, 182, 1, 139, 132, 1, 1, 167, 255, 228, 42, 180, 1, 130]
abbrev dktX9_formatRoad_1 : List UInt8 := dkwX9_formatRoad_1 ++ dktX9_formatRoad_2
def dkwX9_formatRoad_0 : List UInt8 := [42, 3, 181, 0, 55, 42, 3, 181, 1, 130, 3, 60, 27, 42, 180, 0, 7, 3, 46, 162, 0, 24, 27]
abbrev dktX9_formatRoad_0 : List UInt8 := dkwX9_formatRoad_0 ++ dktX9_formatRoad_1
theorem dksX9_formatRoad_0 : cX9_formatRoad.data.toList.drop 0 = dktX9_formatRoad_0 := by decide +kernel
theorem dksX9_formatRoad_1 : cX9_formatRoad.data.toList.drop 23 = dktX9_formatRoad_1 := dk_seg dksX9_formatRoad_0 23 rfl rfl
theorem dksX9_formatRoad_2 : cX9_formatRoad.data.toList.drop 47 = dktX9_formatRoad_2 := dk_seg dksX9_formatRoad_1 24 rfl rfl
theorem dX9_formatRoad_0 : decode cX9_formatRoad 0 = .ok (.aload_n 0, 1) := dk_42 (dk_at dksX9_formatRoad_0 0 rfl rfl)
theorem dX9_formatRoad_1 : decode cX9_formatRoad 1 = .ok (.iconst 0, 1) := dk_3 (dk_at dksX9_formatRoad_0 1 rfl rfl)
theorem dX9_formatRoad_2 : decode cX9_formatRoad 2 = .ok (.putfield 55, 3) := dk_181 0 55 (dk_at dksX9_formatRoad_0 2 rfl rfl)
theorem dX9_formatRoad_5 : decode cX9_formatRoad 5 = .ok (.aload_n 0, 1) := dk_42 (dk_at dksX9_formatRoad_0 5 rfl rfl)
theorem dX9_formatRoad_6 : decode cX9_formatRoad 6 = .ok (.iconst 0, 1) := dk_3 (dk_at dksX9_formatRoad_0 6 rfl rfl)
theorem dX9_formatRoad_7 : decode cX9_formatRoad 7 = .ok (.putfield 386, 3) := dk_181 1 130 (dk_at dksX9_formatRoad_0 7 rfl rfl)
theorem dX9_formatRoad_10 : decode cX9_formatRoad 10 = .ok (.iconst 0, 1) := dk_3 (dk_at dksX9_formatRoad_0 10 rfl rfl)
theorem dX9_formatRoad_11 : decode cX9_formatRoad 11 = .ok (.istore_n 1, 1) := dk_60 (dk_at dksX9_formatRoad_0 11 rfl rfl)
theorem dX9_formatRoad_12 : decode cX9_formatRoad 12 = .ok (.iload_n 1, 1) := dk_27 (dk_at dksX9_formatRoad_0 12 rfl rfl)
theorem dX9_formatRoad_13 : decode cX9_formatRoad 13 = .ok (.aload_n 0, 1) := dk_42 (dk_at dksX9_formatRoad_0 13 rfl rfl)
theorem dX9_formatRoad_14 : decode cX9_formatRoad 14 = .ok (.getfield 7, 3) := dk_180 0 7 (dk_at dksX9_formatRoad_0 14 rfl rfl)
theorem dX9_formatRoad_17 : decode cX9_formatRoad 17 = .ok (.iconst 0, 1) := dk_3 (dk_at dksX9_formatRoad_0 17 rfl rfl)
theorem dX9_formatRoad_18 : decode cX9_formatRoad 18 = .ok (.iaload, 1) := dk_46 (dk_at dksX9_formatRoad_0 18 rfl rfl)
theorem dX9_formatRoad_19 : decode cX9_formatRoad 19 = .ok (.if_icmp .ge 24, 3) := dk_162 0 24 (dk_at dksX9_formatRoad_0 19 rfl rfl)
theorem dX9_formatRoad_22 : decode cX9_formatRoad 22 = .ok (.iload_n 1, 1) := dk_27 (dk_at dksX9_formatRoad_0 22 rfl rfl)
theorem dX9_formatRoad_23 : decode cX9_formatRoad 23 = .ok (.ifCond .le 9, 3) := dk_158 0 9 (dk_at dksX9_formatRoad_1 0 rfl rfl)
theorem dX9_formatRoad_26 : decode cX9_formatRoad 26 = .ok (.aload_n 0, 1) := dk_42 (dk_at dksX9_formatRoad_1 3 rfl rfl)
theorem dX9_formatRoad_27 : decode cX9_formatRoad 27 = .ok (.bipush 32, 2) := dk_16 32 (dk_at dksX9_formatRoad_1 4 rfl rfl)
theorem dX9_formatRoad_29 : decode cX9_formatRoad 29 = .ok (.invokevirtual 389, 3) := dk_182 1 133 (dk_at dksX9_formatRoad_1 6 rfl rfl)
theorem dX9_formatRoad_32 : decode cX9_formatRoad 32 = .ok (.aload_n 0, 1) := dk_42 (dk_at dksX9_formatRoad_1 9 rfl rfl)
theorem dX9_formatRoad_33 : decode cX9_formatRoad 33 = .ok (.iload_n 1, 1) := dk_27 (dk_at dksX9_formatRoad_1 10 rfl rfl)
theorem dX9_formatRoad_34 : decode cX9_formatRoad 34 = .ok (.invokevirtual 395, 3) := dk_182 1 139 (dk_at dksX9_formatRoad_1 11 rfl rfl)
theorem dX9_formatRoad_37 : decode cX9_formatRoad 37 = .ok (.iinc 1 1, 3) := dk_132 1 1 (dk_at dksX9_formatRoad_1 14 rfl rfl)
theorem dX9_formatRoad_40 : decode cX9_formatRoad 40 = .ok (.goto (-28), 3) := dk_167 255 228 (dk_at dksX9_formatRoad_1 17 rfl rfl)
theorem dX9_formatRoad_43 : decode cX9_formatRoad 43 = .ok (.aload_n 0, 1) := dk_42 (dk_at dksX9_formatRoad_1 20 rfl rfl)
theorem dX9_formatRoad_44 : decode cX9_formatRoad 44 = .ok (.getfield 386, 3) := dk_180 1 130 (dk_at dksX9_formatRoad_1 21 rfl rfl)
theorem dX9_formatRoad_47 : decode cX9_formatRoad 47 = .ok (.ireturn, 1) := dk_172 (dk_at dksX9_formatRoad_2 0 rfl rfl)
abbrev cX9_writes : ByteArray := prog_17_method_143_code
def yX9_writes : MethodName := ⟨RX9, "writes", "(I)V"⟩
def dkwX9_writes_0 : List UInt8 := [42, 180, 0, 35, 42, 180, 1, 130, 27, 79, 42, 89, 180, 1, 130, 4, 96, 181, 1, 130, 177]
abbrev dktX9_writes_0 : List UInt8 := dkwX9_writes_0 ++ []
theorem dksX9_writes_0 : cX9_writes.data.toList.drop 0 = dktX9_writes_0 := by decide +kernel
theorem dX9_writes_0 : decode cX9_writes 0 = .ok (.aload_n 0, 1) := dk_42 (dk_at dksX9_writes_0 0 rfl rfl)
theorem dX9_writes_1 : decode cX9_writes 1 = .ok (.getfield 35, 3) := dk_180 0 35 (dk_at dksX9_writes_0 1 rfl rfl)
theorem dX9_writes_4 : decode cX9_writes 4 = .ok (.aload_n 0, 1) := dk_42 (dk_at dksX9_writes_0 4 rfl rfl)
theorem dX9_writes_5 : decode cX9_writes 5 = .ok (.getfield 386, 3) := dk_180 1 130 (dk_at dksX9_writes_0 5 rfl rfl)
theorem dX9_writes_8 : decode cX9_writes 8 = .ok (.iload_n 1, 1) := dk_27 (dk_at dksX9_writes_0 8 rfl rfl)
theorem dX9_writes_9 : decode cX9_writes 9 = .ok (.iastore, 1) := dk_79 (dk_at dksX9_writes_0 9 rfl rfl)
theorem dX9_writes_10 : decode cX9_writes 10 = .ok (.aload_n 0, 1) := dk_42 (dk_at dksX9_writes_0 10 rfl rfl)
theorem dX9_writes_11 : decode cX9_writes 11 = .ok (.dup, 1) := dk_89 (dk_at dksX9_writes_0 11 rfl rfl)
theorem dX9_writes_12 : decode cX9_writes 12 = .ok (.getfield 386, 3) := dk_180 1 130 (dk_at dksX9_writes_0 12 rfl rfl)
theorem dX9_writes_15 : decode cX9_writes 15 = .ok (.iconst 1, 1) := dk_4 (dk_at dksX9_writes_0 15 rfl rfl)
theorem dX9_writes_16 : decode cX9_writes 16 = .ok (.iadd, 1) := dk_96 (dk_at dksX9_writes_0 16 rfl rfl)
theorem dX9_writes_17 : decode cX9_writes 17 = .ok (.putfield 386, 3) := dk_181 1 130 (dk_at dksX9_writes_0 17 rfl rfl)
theorem dX9_writes_20 : decode cX9_writes 20 = .ok (.return_, 1) := dk_177 (dk_at dksX9_writes_0 20 rfl rfl)
abbrev cX9_writesSegment : ByteArray := prog_17_method_145_code
def yX9_writesSegment : MethodName := ⟨RX9, "writesSegment", "(I)V"⟩
def dkwX9_writesSegment_2 : List UInt8 := [182, 0, 70, 27, 160, 0, 9, 42, 16, 62, 182, 1, 133, 177]
abbrev dktX9_writesSegment_2 : List UInt8 := dkwX9_writesSegment_2 ++ []
def dkwX9_writesSegment_1 : List UInt8 := [182, 1, 133, 42, 3, 3, 182, 0, 70, 27, 160, 0, 9, 42, 16, 60, 182, 1, 133, 42, 4, 3]
abbrev dktX9_writesSegment_1 : List UInt8 := dkwX9_writesSegment_1 ++ dktX9_writesSegment_2
def dkwX9_writesSegment_0 : List UInt8 := [42, 42, 27, 3, 182, 0, 66, 182, 1, 136, 42, 27, 5, 182, 0, 66, 158, 0, 9, 42, 16, 42]
abbrev dktX9_writesSegment_0 : List UInt8 := dkwX9_writesSegment_0 ++ dktX9_writesSegment_1
theorem dksX9_writesSegment_0 : cX9_writesSegment.data.toList.drop 0 = dktX9_writesSegment_0 := by decide +kernel
theorem dksX9_writesSegment_1 : cX9_writesSegment.data.toList.drop 22 = dktX9_writesSegment_1 := dk_seg dksX9_writesSegment_0 22 rfl rfl
theorem dksX9_writesSegment_2 : cX9_writesSegment.data.toList.drop 44 = dktX9_writesSegment_2 := dk_seg dksX9_writesSegment_1 22 rfl rfl
theorem dX9_writesSegment_0 : decode cX9_writesSegment 0 = .ok (.aload_n 0, 1) := dk_42 (dk_at dksX9_writesSegment_0 0 rfl rfl)
theorem dX9_writesSegment_1 : decode cX9_writesSegment 1 = .ok (.aload_n 0, 1) := dk_42 (dk_at dksX9_writesSegment_0 1 rfl rfl)
theorem dX9_writesSegment_2 : decode cX9_writesSegment 2 = .ok (.iload_n 1, 1) := dk_27 (dk_at dksX9_writesSegment_0 2 rfl rfl)
theorem dX9_writesSegment_3 : decode cX9_writesSegment 3 = .ok (.iconst 0, 1) := dk_3 (dk_at dksX9_writesSegment_0 3 rfl rfl)
theorem dX9_writesSegment_4 : decode cX9_writesSegment 4 = .ok (.invokevirtual 66, 3) := dk_182 0 66 (dk_at dksX9_writesSegment_0 4 rfl rfl)
theorem dX9_writesSegment_7 : decode cX9_writesSegment 7 = .ok (.invokevirtual 392, 3) := dk_182 1 136 (dk_at dksX9_writesSegment_0 7 rfl rfl)
theorem dX9_writesSegment_10 : decode cX9_writesSegment 10 = .ok (.aload_n 0, 1) := dk_42 (dk_at dksX9_writesSegment_0 10 rfl rfl)
theorem dX9_writesSegment_11 : decode cX9_writesSegment 11 = .ok (.iload_n 1, 1) := dk_27 (dk_at dksX9_writesSegment_0 11 rfl rfl)
theorem dX9_writesSegment_12 : decode cX9_writesSegment 12 = .ok (.iconst 2, 1) := dk_5 (dk_at dksX9_writesSegment_0 12 rfl rfl)
theorem dX9_writesSegment_13 : decode cX9_writesSegment 13 = .ok (.invokevirtual 66, 3) := dk_182 0 66 (dk_at dksX9_writesSegment_0 13 rfl rfl)
theorem dX9_writesSegment_16 : decode cX9_writesSegment 16 = .ok (.ifCond .le 9, 3) := dk_158 0 9 (dk_at dksX9_writesSegment_0 16 rfl rfl)
theorem dX9_writesSegment_19 : decode cX9_writesSegment 19 = .ok (.aload_n 0, 1) := dk_42 (dk_at dksX9_writesSegment_0 19 rfl rfl)
theorem dX9_writesSegment_20 : decode cX9_writesSegment 20 = .ok (.bipush 42, 2) := dk_16 42 (dk_at dksX9_writesSegment_0 20 rfl rfl)
theorem dX9_writesSegment_22 : decode cX9_writesSegment 22 = .ok (.invokevirtual 389, 3) := dk_182 1 133 (dk_at dksX9_writesSegment_1 0 rfl rfl)
theorem dX9_writesSegment_25 : decode cX9_writesSegment 25 = .ok (.aload_n 0, 1) := dk_42 (dk_at dksX9_writesSegment_1 3 rfl rfl)
theorem dX9_writesSegment_26 : decode cX9_writesSegment 26 = .ok (.iconst 0, 1) := dk_3 (dk_at dksX9_writesSegment_1 4 rfl rfl)
theorem dX9_writesSegment_27 : decode cX9_writesSegment 27 = .ok (.iconst 0, 1) := dk_3 (dk_at dksX9_writesSegment_1 5 rfl rfl)
theorem dX9_writesSegment_28 : decode cX9_writesSegment 28 = .ok (.invokevirtual 70, 3) := dk_182 0 70 (dk_at dksX9_writesSegment_1 6 rfl rfl)
theorem dX9_writesSegment_31 : decode cX9_writesSegment 31 = .ok (.iload_n 1, 1) := dk_27 (dk_at dksX9_writesSegment_1 9 rfl rfl)
theorem dX9_writesSegment_32 : decode cX9_writesSegment 32 = .ok (.if_icmp .ne 9, 3) := dk_160 0 9 (dk_at dksX9_writesSegment_1 10 rfl rfl)
theorem dX9_writesSegment_35 : decode cX9_writesSegment 35 = .ok (.aload_n 0, 1) := dk_42 (dk_at dksX9_writesSegment_1 13 rfl rfl)
theorem dX9_writesSegment_36 : decode cX9_writesSegment 36 = .ok (.bipush 60, 2) := dk_16 60 (dk_at dksX9_writesSegment_1 14 rfl rfl)
theorem dX9_writesSegment_38 : decode cX9_writesSegment 38 = .ok (.invokevirtual 389, 3) := dk_182 1 133 (dk_at dksX9_writesSegment_1 16 rfl rfl)
theorem dX9_writesSegment_41 : decode cX9_writesSegment 41 = .ok (.aload_n 0, 1) := dk_42 (dk_at dksX9_writesSegment_1 19 rfl rfl)
theorem dX9_writesSegment_42 : decode cX9_writesSegment 42 = .ok (.iconst 1, 1) := dk_4 (dk_at dksX9_writesSegment_1 20 rfl rfl)
theorem dX9_writesSegment_43 : decode cX9_writesSegment 43 = .ok (.iconst 0, 1) := dk_3 (dk_at dksX9_writesSegment_1 21 rfl rfl)
theorem dX9_writesSegment_44 : decode cX9_writesSegment 44 = .ok (.invokevirtual 70, 3) := dk_182 0 70 (dk_at dksX9_writesSegment_2 0 rfl rfl)
theorem dX9_writesSegment_47 : decode cX9_writesSegment 47 = .ok (.iload_n 1, 1) := dk_27 (dk_at dksX9_writesSegment_2 3 rfl rfl)
theorem dX9_writesSegment_48 : decode cX9_writesSegment 48 = .ok (.if_icmp .ne 9, 3) := dk_160 0 9 (dk_at dksX9_writesSegment_2 4 rfl rfl)
theorem dX9_writesSegment_51 : decode cX9_writesSegment 51 = .ok (.aload_n 0, 1) := dk_42 (dk_at dksX9_writesSegment_2 7 rfl rfl)
theorem dX9_writesSegment_52 : decode cX9_writesSegment 52 = .ok (.bipush 62, 2) := dk_16 62 (dk_at dksX9_writesSegment_2 8 rfl rfl)
theorem dX9_writesSegment_54 : decode cX9_writesSegment 54 = .ok (.invokevirtual 389, 3) := dk_182 1 133 (dk_at dksX9_writesSegment_2 10 rfl rfl)
theorem dX9_writesSegment_57 : decode cX9_writesSegment 57 = .ok (.return_, 1) := dk_177 (dk_at dksX9_writesSegment_2 13 rfl rfl)
abbrev cX9_writesNumber : ByteArray := prog_17_method_144_code
def yX9_writesNumber : MethodName := ⟨RX9, "writesNumber", "(I)V"⟩
def dkwX9_writesNumber_1 : List UInt8 := [16, 48, 27, 28, 108, 16, 10, 112, 96, 182, 1, 133, 28, 16, 10, 108, 61, 167, 255, 234, 177]
abbrev dktX9_writesNumber_1 : List UInt8 := dkwX9_writesNumber_1 ++ []
def dkwX9_writesNumber_0 : List UInt8 := [4, 61, 27, 28, 108, 16, 9, 164, 0, 11, 28, 16, 10, 104, 61, 167, 255, 243, 28, 158, 0, 24, 42]
abbrev dktX9_writesNumber_0 : List UInt8 := dkwX9_writesNumber_0 ++ dktX9_writesNumber_1
theorem dksX9_writesNumber_0 : cX9_writesNumber.data.toList.drop 0 = dktX9_writesNumber_0 := by decide +kernel
theorem dksX9_writesNumber_1 : cX9_writesNumber.data.toList.drop 23 = dktX9_writesNumber_1 := dk_seg dksX9_writesNumber_0 23 rfl rfl
theorem dX9_writesNumber_0 : decode cX9_writesNumber 0 = .ok (.iconst 1, 1) := dk_4 (dk_at dksX9_writesNumber_0 0 rfl rfl)
theorem dX9_writesNumber_1 : decode cX9_writesNumber 1 = .ok (.istore_n 2, 1) := dk_61 (dk_at dksX9_writesNumber_0 1 rfl rfl)
theorem dX9_writesNumber_2 : decode cX9_writesNumber 2 = .ok (.iload_n 1, 1) := dk_27 (dk_at dksX9_writesNumber_0 2 rfl rfl)
theorem dX9_writesNumber_3 : decode cX9_writesNumber 3 = .ok (.iload_n 2, 1) := dk_28 (dk_at dksX9_writesNumber_0 3 rfl rfl)
theorem dX9_writesNumber_4 : decode cX9_writesNumber 4 = .ok (.idiv, 1) := dk_108 (dk_at dksX9_writesNumber_0 4 rfl rfl)
theorem dX9_writesNumber_5 : decode cX9_writesNumber 5 = .ok (.bipush 9, 2) := dk_16 9 (dk_at dksX9_writesNumber_0 5 rfl rfl)
theorem dX9_writesNumber_7 : decode cX9_writesNumber 7 = .ok (.if_icmp .le 11, 3) := dk_164 0 11 (dk_at dksX9_writesNumber_0 7 rfl rfl)
theorem dX9_writesNumber_10 : decode cX9_writesNumber 10 = .ok (.iload_n 2, 1) := dk_28 (dk_at dksX9_writesNumber_0 10 rfl rfl)
theorem dX9_writesNumber_11 : decode cX9_writesNumber 11 = .ok (.bipush 10, 2) := dk_16 10 (dk_at dksX9_writesNumber_0 11 rfl rfl)
theorem dX9_writesNumber_13 : decode cX9_writesNumber 13 = .ok (.imul, 1) := dk_104 (dk_at dksX9_writesNumber_0 13 rfl rfl)
theorem dX9_writesNumber_14 : decode cX9_writesNumber 14 = .ok (.istore_n 2, 1) := dk_61 (dk_at dksX9_writesNumber_0 14 rfl rfl)
theorem dX9_writesNumber_15 : decode cX9_writesNumber 15 = .ok (.goto (-13), 3) := dk_167 255 243 (dk_at dksX9_writesNumber_0 15 rfl rfl)
theorem dX9_writesNumber_18 : decode cX9_writesNumber 18 = .ok (.iload_n 2, 1) := dk_28 (dk_at dksX9_writesNumber_0 18 rfl rfl)
theorem dX9_writesNumber_19 : decode cX9_writesNumber 19 = .ok (.ifCond .le 24, 3) := dk_158 0 24 (dk_at dksX9_writesNumber_0 19 rfl rfl)
theorem dX9_writesNumber_22 : decode cX9_writesNumber 22 = .ok (.aload_n 0, 1) := dk_42 (dk_at dksX9_writesNumber_0 22 rfl rfl)
theorem dX9_writesNumber_23 : decode cX9_writesNumber 23 = .ok (.bipush 48, 2) := dk_16 48 (dk_at dksX9_writesNumber_1 0 rfl rfl)
theorem dX9_writesNumber_25 : decode cX9_writesNumber 25 = .ok (.iload_n 1, 1) := dk_27 (dk_at dksX9_writesNumber_1 2 rfl rfl)
theorem dX9_writesNumber_26 : decode cX9_writesNumber 26 = .ok (.iload_n 2, 1) := dk_28 (dk_at dksX9_writesNumber_1 3 rfl rfl)
theorem dX9_writesNumber_27 : decode cX9_writesNumber 27 = .ok (.idiv, 1) := dk_108 (dk_at dksX9_writesNumber_1 4 rfl rfl)
theorem dX9_writesNumber_28 : decode cX9_writesNumber 28 = .ok (.bipush 10, 2) := dk_16 10 (dk_at dksX9_writesNumber_1 5 rfl rfl)
theorem dX9_writesNumber_30 : decode cX9_writesNumber 30 = .ok (.irem, 1) := dk_112 (dk_at dksX9_writesNumber_1 7 rfl rfl)
theorem dX9_writesNumber_31 : decode cX9_writesNumber 31 = .ok (.iadd, 1) := dk_96 (dk_at dksX9_writesNumber_1 8 rfl rfl)
theorem dX9_writesNumber_32 : decode cX9_writesNumber 32 = .ok (.invokevirtual 389, 3) := dk_182 1 133 (dk_at dksX9_writesNumber_1 9 rfl rfl)
theorem dX9_writesNumber_35 : decode cX9_writesNumber 35 = .ok (.iload_n 2, 1) := dk_28 (dk_at dksX9_writesNumber_1 12 rfl rfl)
theorem dX9_writesNumber_36 : decode cX9_writesNumber 36 = .ok (.bipush 10, 2) := dk_16 10 (dk_at dksX9_writesNumber_1 13 rfl rfl)
theorem dX9_writesNumber_38 : decode cX9_writesNumber 38 = .ok (.idiv, 1) := dk_108 (dk_at dksX9_writesNumber_1 15 rfl rfl)
theorem dX9_writesNumber_39 : decode cX9_writesNumber 39 = .ok (.istore_n 2, 1) := dk_61 (dk_at dksX9_writesNumber_1 16 rfl rfl)
theorem dX9_writesNumber_40 : decode cX9_writesNumber 40 = .ok (.goto (-22), 3) := dk_167 255 234 (dk_at dksX9_writesNumber_1 17 rfl rfl)
theorem dX9_writesNumber_43 : decode cX9_writesNumber 43 = .ok (.return_, 1) := dk_177 (dk_at dksX9_writesNumber_1 20 rfl rfl)
abbrev cX9_outputByte : ByteArray := prog_17_method_147_code
def yX9_outputByte : MethodName := ⟨RX9, "outputByte", "(I)I"⟩
def dkwX9_outputByte_1 : List UInt8 := [180, 0, 35, 27, 46, 167, 0, 4, 2, 172]
abbrev dktX9_outputByte_1 : List UInt8 := dkwX9_outputByte_1 ++ []
def dkwX9_outputByte_0 : List UInt8 := [42, 3, 181, 0, 55, 27, 133, 9, 42, 180, 1, 130, 4, 100, 133, 184, 0, 62, 153, 0, 12, 42]
abbrev dktX9_outputByte_0 : List UInt8 := dkwX9_outputByte_0 ++ dktX9_outputByte_1
theorem dksX9_outputByte_0 : cX9_outputByte.data.toList.drop 0 = dktX9_outputByte_0 := by decide +kernel
theorem dksX9_outputByte_1 : cX9_outputByte.data.toList.drop 22 = dktX9_outputByte_1 := dk_seg dksX9_outputByte_0 22 rfl rfl
theorem dX9_outputByte_0 : decode cX9_outputByte 0 = .ok (.aload_n 0, 1) := dk_42 (dk_at dksX9_outputByte_0 0 rfl rfl)
theorem dX9_outputByte_1 : decode cX9_outputByte 1 = .ok (.iconst 0, 1) := dk_3 (dk_at dksX9_outputByte_0 1 rfl rfl)
theorem dX9_outputByte_2 : decode cX9_outputByte 2 = .ok (.putfield 55, 3) := dk_181 0 55 (dk_at dksX9_outputByte_0 2 rfl rfl)
theorem dX9_outputByte_5 : decode cX9_outputByte 5 = .ok (.iload_n 1, 1) := dk_27 (dk_at dksX9_outputByte_0 5 rfl rfl)
theorem dX9_outputByte_6 : decode cX9_outputByte 6 = .ok (.i2l, 1) := dk_133 (dk_at dksX9_outputByte_0 6 rfl rfl)
theorem dX9_outputByte_7 : decode cX9_outputByte 7 = .ok (.lconst 0, 1) := dk_9 (dk_at dksX9_outputByte_0 7 rfl rfl)
theorem dX9_outputByte_8 : decode cX9_outputByte 8 = .ok (.aload_n 0, 1) := dk_42 (dk_at dksX9_outputByte_0 8 rfl rfl)
theorem dX9_outputByte_9 : decode cX9_outputByte 9 = .ok (.getfield 386, 3) := dk_180 1 130 (dk_at dksX9_outputByte_0 9 rfl rfl)
theorem dX9_outputByte_12 : decode cX9_outputByte 12 = .ok (.iconst 1, 1) := dk_4 (dk_at dksX9_outputByte_0 12 rfl rfl)
theorem dX9_outputByte_13 : decode cX9_outputByte 13 = .ok (.isub, 1) := dk_100 (dk_at dksX9_outputByte_0 13 rfl rfl)
theorem dX9_outputByte_14 : decode cX9_outputByte 14 = .ok (.i2l, 1) := dk_133 (dk_at dksX9_outputByte_0 14 rfl rfl)
theorem dX9_outputByte_15 : decode cX9_outputByte 15 = .ok (.invokestatic 62, 3) := dk_184 0 62 (dk_at dksX9_outputByte_0 15 rfl rfl)
theorem dX9_outputByte_18 : decode cX9_outputByte 18 = .ok (.ifCond .eq 12, 3) := dk_153 0 12 (dk_at dksX9_outputByte_0 18 rfl rfl)
theorem dX9_outputByte_21 : decode cX9_outputByte 21 = .ok (.aload_n 0, 1) := dk_42 (dk_at dksX9_outputByte_0 21 rfl rfl)
theorem dX9_outputByte_22 : decode cX9_outputByte 22 = .ok (.getfield 35, 3) := dk_180 0 35 (dk_at dksX9_outputByte_1 0 rfl rfl)
theorem dX9_outputByte_25 : decode cX9_outputByte 25 = .ok (.iload_n 1, 1) := dk_27 (dk_at dksX9_outputByte_1 3 rfl rfl)
theorem dX9_outputByte_26 : decode cX9_outputByte 26 = .ok (.iaload, 1) := dk_46 (dk_at dksX9_outputByte_1 4 rfl rfl)
theorem dX9_outputByte_27 : decode cX9_outputByte 27 = .ok (.goto 4, 3) := dk_167 0 4 (dk_at dksX9_outputByte_1 5 rfl rfl)
theorem dX9_outputByte_30 : decode cX9_outputByte 30 = .ok (.iconst (-1), 1) := dk_2 (dk_at dksX9_outputByte_1 8 rfl rfl)
theorem dX9_outputByte_31 : decode cX9_outputByte 31 = .ok (.ireturn, 1) := dk_172 (dk_at dksX9_outputByte_1 9 rfl rfl)
theorem q161 : (Jvm.Cond.initialized "SnowPassModel") ∈ lw_all := lw_g (lw_at lw_m1 39 rfl) rfl
theorem q811 : (Jvm.Cond.selects "SnowPassModel" ({ cls := "java/lang/Object", name := "getClass", desc := "()Ljava/lang/Class;" } : Jvm.MethodName) ({ cls := "java/lang/Object", name := "getClass", desc := "()Ljava/lang/Class;" } : Jvm.MethodName)) ∈ lw_all := lw_g (lw_at lw_m3 209 rfl) rfl
theorem q953 : (Jvm.Cond.selects "SnowPassModel" ({ cls := "java/lang/Object", name := "hashCode", desc := "()I" } : Jvm.MethodName) ({ cls := "java/lang/Object", name := "hashCode", desc := "()I" } : Jvm.MethodName)) ∈ lw_all := lw_g (lw_at lw_m4 111 rfl) rfl
theorem q1390 : (Jvm.Cond.selects "SnowPassModel" ({ cls := "java/lang/Object", name := "equals", desc := "(Ljava/lang/Object;)Z" } : Jvm.MethodName) ({ cls := "java/lang/Object", name := "equals", desc := "(Ljava/lang/Object;)Z" } : Jvm.MethodName)) ∈ lw_all := lw_g (lw_at lw_m6 68 rfl) rfl
theorem q3271 : (Jvm.Cond.instantiable "SnowPassModel" (22 : Nat)) ∈ lw_all := lw_g (lw_at lw_m14 29 rfl) rfl
theorem q3273 : (Jvm.Cond.instanceMethod ({ cls := "SnowPassModel", name := "<init>", desc := "()V" } : Jvm.MethodName)) ∈ lw_all := lw_g (lw_at lw_m14 31 rfl) rfl
theorem q3274 : (Jvm.Cond.code ({ cls := "SnowPassModel", name := "<init>", desc := "()V" } : Jvm.MethodName) prog_17_method_1_code (3 : Nat) (Option.none : Option Jvm.ClassFile.FieldType)) ∈ lw_all := lw_g (lw_at lw_m14 32 rfl) rfl
theorem q3275 : (Jvm.Cond.methodLink "SnowPassModel" (1 : Nat) ({ cls := "java/lang/Object", name := "<init>", desc := "()V" } : Jvm.MethodName)) ∈ lw_all := lw_g (lw_at lw_m14 33 rfl) rfl
theorem q3276 : (Jvm.Cond.stringRef "SnowPassModel" (38 : Nat) "road 7 3 5 40 15 2 3;west 20 2;east 30 1;segment 0 0 10;segment 1 1 30;segment 2 2 25;segment 3 4 50;segment 4 2 20;segment 5 1 45;segment 6 0 5;cart west chains;cart west;cart east;") ∈ lw_tbl := lw_at lw_m14 34 rfl
theorem q3277 : (Jvm.Cond.methodLink "SnowPassModel" (40 : Nat) ({ cls := "java/lang/String", name := "length", desc := "()I" } : Jvm.MethodName)) ∈ lw_all := lw_g (lw_at lw_m14 35 rfl) rfl
theorem q3278 : (Jvm.Cond.methodLink "SnowPassModel" (46 : Nat) ({ cls := "java/lang/String", name := "charAt", desc := "(I)C" } : Jvm.MethodName)) ∈ lw_all := lw_g (lw_at lw_m14 36 rfl) rfl
theorem q3289 : (Jvm.Cond.methodLink "SnowPassModel" (52 : Nat) ({ cls := "SnowPassModel", name := "load", desc := "()I" } : Jvm.MethodName)) ∈ lw_all := lw_g (lw_at lw_m14 47 rfl) rfl
theorem q3290 : (Jvm.Cond.instanceMethod ({ cls := "SnowPassModel", name := "load", desc := "()I" } : Jvm.MethodName)) ∈ lw_all := lw_g (lw_at lw_m14 48 rfl) rfl
theorem q3291 : (Jvm.Cond.selects "SnowPassModel" ({ cls := "SnowPassModel", name := "load", desc := "()I" } : Jvm.MethodName) ({ cls := "SnowPassModel", name := "load", desc := "()I" } : Jvm.MethodName)) ∈ lw_all := lw_g (lw_at lw_m14 49 rfl) rfl
theorem q3292 : (Jvm.Cond.code ({ cls := "SnowPassModel", name := "load", desc := "()I" } : Jvm.MethodName) prog_17_method_71_code (2 : Nat) (Option.some Jvm.ClassFile.FieldType.int)) ∈ lw_all := lw_g (lw_at lw_m14 50 rfl) rfl
theorem q3293 : (Jvm.Cond.methodLink "SnowPassModel" (58 : Nat) ({ cls := "SnowPassModel", name := "copies", desc := "([II[II)V" } : Jvm.MethodName)) ∈ lw_all := lw_g (lw_at lw_m14 51 rfl) rfl
theorem q3294 : (Jvm.Cond.static ({ cls := "SnowPassModel", name := "copies", desc := "([II[II)V" } : Jvm.MethodName)) ∈ lw_all := lw_g (lw_at lw_m14 52 rfl) rfl
theorem q3295 : (Jvm.Cond.code ({ cls := "SnowPassModel", name := "copies", desc := "([II[II)V" } : Jvm.MethodName) prog_17_method_7_code (5 : Nat) (Option.none : Option Jvm.ClassFile.FieldType)) ∈ lw_all := lw_g (lw_at lw_m14 53 rfl) rfl
theorem q3296 : (Jvm.Cond.methodLink "SnowPassModel" (251 : Nat) ({ cls := "SnowPassModel", name := "startsText", desc := "()V" } : Jvm.MethodName)) ∈ lw_all := lw_g (lw_at lw_m14 54 rfl) rfl
theorem q3297 : (Jvm.Cond.privateMethod ({ cls := "SnowPassModel", name := "startsText", desc := "()V" } : Jvm.MethodName)) ∈ lw_tbl := lw_at lw_m14 55 rfl
theorem q3298 : (Jvm.Cond.instanceMethod ({ cls := "SnowPassModel", name := "startsText", desc := "()V" } : Jvm.MethodName)) ∈ lw_all := lw_g (lw_at lw_m14 56 rfl) rfl
theorem q3299 : (Jvm.Cond.code ({ cls := "SnowPassModel", name := "startsText", desc := "()V" } : Jvm.MethodName) prog_17_method_62_code (1 : Nat) (Option.none : Option Jvm.ClassFile.FieldType)) ∈ lw_all := lw_g (lw_at lw_m14 57 rfl) rfl
theorem q3300 : (Jvm.Cond.methodLink "SnowPassModel" (254 : Nat) ({ cls := "SnowPassModel", name := "roadLine", desc := "()V" } : Jvm.MethodName)) ∈ lw_all := lw_g (lw_at lw_m14 58 rfl) rfl
theorem q3301 : (Jvm.Cond.privateMethod ({ cls := "SnowPassModel", name := "roadLine", desc := "()V" } : Jvm.MethodName)) ∈ lw_tbl := lw_at lw_m14 59 rfl
theorem q3302 : (Jvm.Cond.instanceMethod ({ cls := "SnowPassModel", name := "roadLine", desc := "()V" } : Jvm.MethodName)) ∈ lw_all := lw_g (lw_at lw_m14 60 rfl) rfl
theorem q3303 : (Jvm.Cond.code ({ cls := "SnowPassModel", name := "roadLine", desc := "()V" } : Jvm.MethodName) prog_17_method_66_code (1 : Nat) (Option.none : Option Jvm.ClassFile.FieldType)) ∈ lw_all := lw_g (lw_at lw_m14 61 rfl) rfl
theorem q3304 : (Jvm.Cond.stringRef "SnowPassModel" (223 : Nat) "road") ∈ lw_tbl := lw_at lw_m14 62 rfl
theorem q3305 : (Jvm.Cond.methodLink "SnowPassModel" (225 : Nat) ({ cls := "SnowPassModel", name := "keyword", desc := "(Ljava/lang/String;)V" } : Jvm.MethodName)) ∈ lw_all := lw_g (lw_at lw_m14 63 rfl) rfl
theorem q3306 : (Jvm.Cond.privateMethod ({ cls := "SnowPassModel", name := "keyword", desc := "(Ljava/lang/String;)V" } : Jvm.MethodName)) ∈ lw_tbl := lw_at lw_m14 64 rfl
theorem q3307 : (Jvm.Cond.instanceMethod ({ cls := "SnowPassModel", name := "keyword", desc := "(Ljava/lang/String;)V" } : Jvm.MethodName)) ∈ lw_all := lw_g (lw_at lw_m14 65 rfl) rfl
theorem q3308 : (Jvm.Cond.code ({ cls := "SnowPassModel", name := "keyword", desc := "(Ljava/lang/String;)V" } : Jvm.MethodName) prog_17_method_56_code (2 : Nat) (Option.none : Option Jvm.ClassFile.FieldType)) ∈ lw_all := lw_g (lw_at lw_m14 66 rfl) rfl
theorem q3309 : (Jvm.Cond.methodLink "SnowPassModel" (196 : Nat) ({ cls := "SnowPassModel", name := "sees", desc := "(Ljava/lang/String;)Z" } : Jvm.MethodName)) ∈ lw_all := lw_g (lw_at lw_m14 67 rfl) rfl
theorem q3310 : (Jvm.Cond.privateMethod ({ cls := "SnowPassModel", name := "sees", desc := "(Ljava/lang/String;)Z" } : Jvm.MethodName)) ∈ lw_tbl := lw_at lw_m14 68 rfl
theorem q3311 : (Jvm.Cond.instanceMethod ({ cls := "SnowPassModel", name := "sees", desc := "(Ljava/lang/String;)Z" } : Jvm.MethodName)) ∈ lw_all := lw_g (lw_at lw_m14 69 rfl) rfl
theorem q3312 : (Jvm.Cond.code ({ cls := "SnowPassModel", name := "sees", desc := "(Ljava/lang/String;)Z" } : Jvm.MethodName) prog_17_method_54_code (4 : Nat) (Option.some Jvm.ClassFile.FieldType.boolean)) ∈ lw_all := lw_g (lw_at lw_m14 70 rfl) rfl
theorem q3313 : (Jvm.Cond.methodLink "SnowPassModel" (193 : Nat) ({ cls := "SnowPassModel", name := "next", desc := "()I" } : Jvm.MethodName)) ∈ lw_all := lw_g (lw_at lw_m14 71 rfl) rfl
theorem q3314 : (Jvm.Cond.privateMethod ({ cls := "SnowPassModel", name := "next", desc := "()I" } : Jvm.MethodName)) ∈ lw_tbl := lw_at lw_m14 72 rfl
theorem q3315 : (Jvm.Cond.instanceMethod ({ cls := "SnowPassModel", name := "next", desc := "()I" } : Jvm.MethodName)) ∈ lw_all := lw_g (lw_at lw_m14 73 rfl) rfl
theorem q3316 : (Jvm.Cond.code ({ cls := "SnowPassModel", name := "next", desc := "()I" } : Jvm.MethodName) prog_17_method_52_code (1 : Nat) (Option.some Jvm.ClassFile.FieldType.int)) ∈ lw_all := lw_g (lw_at lw_m14 74 rfl) rfl
theorem q3317 : (Jvm.Cond.methodLink "SnowPassModel" (174 : Nat) ({ cls := "SnowPassModel", name := "byteAt", desc := "(I)I" } : Jvm.MethodName)) ∈ lw_all := lw_g (lw_at lw_m14 75 rfl) rfl
theorem q3318 : (Jvm.Cond.privateMethod ({ cls := "SnowPassModel", name := "byteAt", desc := "(I)I" } : Jvm.MethodName)) ∈ lw_tbl := lw_at lw_m14 76 rfl
theorem q3319 : (Jvm.Cond.instanceMethod ({ cls := "SnowPassModel", name := "byteAt", desc := "(I)I" } : Jvm.MethodName)) ∈ lw_all := lw_g (lw_at lw_m14 77 rfl) rfl
theorem q3320 : (Jvm.Cond.code ({ cls := "SnowPassModel", name := "byteAt", desc := "(I)I" } : Jvm.MethodName) prog_17_method_51_code (2 : Nat) (Option.some Jvm.ClassFile.FieldType.int)) ∈ lw_all := lw_g (lw_at lw_m14 78 rfl) rfl
theorem q3321 : (Jvm.Cond.constantLong "SnowPassModel" (183 : Nat) (97 : Int64)) ∈ lw_all := lw_g (lw_at lw_m14 79 rfl) rfl
theorem q3322 : (Jvm.Cond.constantLong "SnowPassModel" (185 : Nat) (122 : Int64)) ∈ lw_all := lw_g (lw_at lw_m14 80 rfl) rfl
theorem q3323 : (Jvm.Cond.methodLink "SnowPassModel" (62 : Nat) ({ cls := "SnowPassModel", name := "in", desc := "(JJJ)Z" } : Jvm.MethodName)) ∈ lw_all := lw_g (lw_at lw_m14 81 rfl) rfl
theorem q3324 : (Jvm.Cond.static ({ cls := "SnowPassModel", name := "in", desc := "(JJJ)Z" } : Jvm.MethodName)) ∈ lw_all := lw_g (lw_at lw_m14 82 rfl) rfl
theorem q3325 : (Jvm.Cond.code ({ cls := "SnowPassModel", name := "in", desc := "(JJJ)Z" } : Jvm.MethodName) prog_17_method_3_code (6 : Nat) (Option.some Jvm.ClassFile.FieldType.boolean)) ∈ lw_all := lw_g (lw_at lw_m14 83 rfl) rfl
theorem q3326 : (Jvm.Cond.methodLink "SnowPassModel" (200 : Nat) ({ cls := "SnowPassModel", name := "must", desc := "(ZI)V" } : Jvm.MethodName)) ∈ lw_all := lw_g (lw_at lw_m14 84 rfl) rfl
theorem q3327 : (Jvm.Cond.privateMethod ({ cls := "SnowPassModel", name := "must", desc := "(ZI)V" } : Jvm.MethodName)) ∈ lw_tbl := lw_at lw_m14 85 rfl
theorem q3328 : (Jvm.Cond.instanceMethod ({ cls := "SnowPassModel", name := "must", desc := "(ZI)V" } : Jvm.MethodName)) ∈ lw_all := lw_g (lw_at lw_m14 86 rfl) rfl
theorem q3329 : (Jvm.Cond.code ({ cls := "SnowPassModel", name := "must", desc := "(ZI)V" } : Jvm.MethodName) prog_17_method_53_code (3 : Nat) (Option.none : Option Jvm.ClassFile.FieldType)) ∈ lw_all := lw_g (lw_at lw_m14 87 rfl) rfl
theorem q3330 : (Jvm.Cond.methodLink "SnowPassModel" (204 : Nat) ({ cls := "SnowPassModel", name := "goesPast", desc := "()V" } : Jvm.MethodName)) ∈ lw_all := lw_g (lw_at lw_m14 88 rfl) rfl
theorem q3331 : (Jvm.Cond.privateMethod ({ cls := "SnowPassModel", name := "goesPast", desc := "()V" } : Jvm.MethodName)) ∈ lw_tbl := lw_at lw_m14 89 rfl
theorem q3332 : (Jvm.Cond.instanceMethod ({ cls := "SnowPassModel", name := "goesPast", desc := "()V" } : Jvm.MethodName)) ∈ lw_all := lw_g (lw_at lw_m14 90 rfl) rfl
theorem q3333 : (Jvm.Cond.code ({ cls := "SnowPassModel", name := "goesPast", desc := "()V" } : Jvm.MethodName) prog_17_method_55_code (1 : Nat) (Option.none : Option Jvm.ClassFile.FieldType)) ∈ lw_all := lw_g (lw_at lw_m14 91 rfl) rfl
theorem q3334 : (Jvm.Cond.methodLink "SnowPassModel" (229 : Nat) ({ cls := "SnowPassModel", name := "number", desc := "(II)I" } : Jvm.MethodName)) ∈ lw_all := lw_g (lw_at lw_m14 92 rfl) rfl
theorem q3335 : (Jvm.Cond.privateMethod ({ cls := "SnowPassModel", name := "number", desc := "(II)I" } : Jvm.MethodName)) ∈ lw_tbl := lw_at lw_m14 93 rfl
theorem q3336 : (Jvm.Cond.instanceMethod ({ cls := "SnowPassModel", name := "number", desc := "(II)I" } : Jvm.MethodName)) ∈ lw_all := lw_g (lw_at lw_m14 94 rfl) rfl
theorem q3337 : (Jvm.Cond.code ({ cls := "SnowPassModel", name := "number", desc := "(II)I" } : Jvm.MethodName) prog_17_method_58_code (4 : Nat) (Option.some Jvm.ClassFile.FieldType.int)) ∈ lw_all := lw_g (lw_at lw_m14 95 rfl) rfl
theorem q3338 : (Jvm.Cond.constantLong "SnowPassModel" (207 : Nat) (48 : Int64)) ∈ lw_all := lw_g (lw_at lw_m14 96 rfl) rfl
theorem q3339 : (Jvm.Cond.constantLong "SnowPassModel" (209 : Nat) (57 : Int64)) ∈ lw_all := lw_g (lw_at lw_m14 97 rfl) rfl
theorem q3340 : (Jvm.Cond.methodLink "SnowPassModel" (232 : Nat) ({ cls := "SnowPassModel", name := "semicolon", desc := "()V" } : Jvm.MethodName)) ∈ lw_all := lw_g (lw_at lw_m14 98 rfl) rfl
theorem q3341 : (Jvm.Cond.privateMethod ({ cls := "SnowPassModel", name := "semicolon", desc := "()V" } : Jvm.MethodName)) ∈ lw_tbl := lw_at lw_m14 99 rfl
theorem q3342 : (Jvm.Cond.instanceMethod ({ cls := "SnowPassModel", name := "semicolon", desc := "()V" } : Jvm.MethodName)) ∈ lw_all := lw_g (lw_at lw_m14 100 rfl) rfl
theorem q3343 : (Jvm.Cond.code ({ cls := "SnowPassModel", name := "semicolon", desc := "()V" } : Jvm.MethodName) prog_17_method_57_code (1 : Nat) (Option.none : Option Jvm.ClassFile.FieldType)) ∈ lw_all := lw_g (lw_at lw_m14 101 rfl) rfl
theorem q3344 : (Jvm.Cond.methodLink "SnowPassModel" (257 : Nat) ({ cls := "SnowPassModel", name := "ploughLine", desc := "(I)V" } : Jvm.MethodName)) ∈ lw_all := lw_g (lw_at lw_m14 102 rfl) rfl
theorem q3345 : (Jvm.Cond.privateMethod ({ cls := "SnowPassModel", name := "ploughLine", desc := "(I)V" } : Jvm.MethodName)) ∈ lw_tbl := lw_at lw_m14 103 rfl
theorem q3346 : (Jvm.Cond.instanceMethod ({ cls := "SnowPassModel", name := "ploughLine", desc := "(I)V" } : Jvm.MethodName)) ∈ lw_all := lw_g (lw_at lw_m14 104 rfl) rfl
theorem q3347 : (Jvm.Cond.code ({ cls := "SnowPassModel", name := "ploughLine", desc := "(I)V" } : Jvm.MethodName) prog_17_method_67_code (2 : Nat) (Option.none : Option Jvm.ClassFile.FieldType)) ∈ lw_all := lw_g (lw_at lw_m14 105 rfl) rfl
theorem q3348 : (Jvm.Cond.stringRef "SnowPassModel" (211 : Nat) "west") ∈ lw_tbl := lw_at lw_m14 106 rfl
theorem q3349 : (Jvm.Cond.stringRef "SnowPassModel" (213 : Nat) "east") ∈ lw_tbl := lw_at lw_m14 107 rfl
theorem q3350 : (Jvm.Cond.methodLink "SnowPassModel" (76 : Nat) ({ cls := "SnowPassModel", name := "valleyOf", desc := "(I)I" } : Jvm.MethodName)) ∈ lw_all := lw_g (lw_at lw_m14 108 rfl) rfl
theorem q3351 : (Jvm.Cond.privateMethod ({ cls := "SnowPassModel", name := "valleyOf", desc := "(I)I" } : Jvm.MethodName)) ∈ lw_tbl := lw_at lw_m14 109 rfl
theorem q3352 : (Jvm.Cond.instanceMethod ({ cls := "SnowPassModel", name := "valleyOf", desc := "(I)I" } : Jvm.MethodName)) ∈ lw_all := lw_g (lw_at lw_m14 110 rfl) rfl
theorem q3353 : (Jvm.Cond.code ({ cls := "SnowPassModel", name := "valleyOf", desc := "(I)I" } : Jvm.MethodName) prog_17_method_24_code (2 : Nat) (Option.some Jvm.ClassFile.FieldType.int)) ∈ lw_all := lw_g (lw_at lw_m14 111 rfl) rfl
theorem q3354 : (Jvm.Cond.methodLink "SnowPassModel" (87 : Nat) ({ cls := "SnowPassModel", name := "putsPlough", desc := "(III)V" } : Jvm.MethodName)) ∈ lw_all := lw_g (lw_at lw_m14 112 rfl) rfl
theorem q3355 : (Jvm.Cond.privateMethod ({ cls := "SnowPassModel", name := "putsPlough", desc := "(III)V" } : Jvm.MethodName)) ∈ lw_tbl := lw_at lw_m14 113 rfl
theorem q3356 : (Jvm.Cond.instanceMethod ({ cls := "SnowPassModel", name := "putsPlough", desc := "(III)V" } : Jvm.MethodName)) ∈ lw_all := lw_g (lw_at lw_m14 114 rfl) rfl
theorem q3357 : (Jvm.Cond.code ({ cls := "SnowPassModel", name := "putsPlough", desc := "(III)V" } : Jvm.MethodName) prog_17_method_13_code (4 : Nat) (Option.none : Option Jvm.ClassFile.FieldType)) ∈ lw_all := lw_g (lw_at lw_m14 115 rfl) rfl
theorem q3358 : (Jvm.Cond.methodLink "SnowPassModel" (260 : Nat) ({ cls := "SnowPassModel", name := "statement", desc := "()V" } : Jvm.MethodName)) ∈ lw_all := lw_g (lw_at lw_m14 116 rfl) rfl
theorem q3359 : (Jvm.Cond.privateMethod ({ cls := "SnowPassModel", name := "statement", desc := "()V" } : Jvm.MethodName)) ∈ lw_tbl := lw_at lw_m14 117 rfl
theorem q3360 : (Jvm.Cond.instanceMethod ({ cls := "SnowPassModel", name := "statement", desc := "()V" } : Jvm.MethodName)) ∈ lw_all := lw_g (lw_at lw_m14 118 rfl) rfl
theorem q3361 : (Jvm.Cond.code ({ cls := "SnowPassModel", name := "statement", desc := "()V" } : Jvm.MethodName) prog_17_method_70_code (2 : Nat) (Option.none : Option Jvm.ClassFile.FieldType)) ∈ lw_all := lw_g (lw_at lw_m14 119 rfl) rfl
theorem q3362 : (Jvm.Cond.stringRef "SnowPassModel" (241 : Nat) "segment") ∈ lw_tbl := lw_at lw_m14 120 rfl
theorem q3363 : (Jvm.Cond.methodLink "SnowPassModel" (243 : Nat) ({ cls := "SnowPassModel", name := "segmentLine", desc := "()V" } : Jvm.MethodName)) ∈ lw_all := lw_g (lw_at lw_m14 121 rfl) rfl
theorem q3364 : (Jvm.Cond.privateMethod ({ cls := "SnowPassModel", name := "segmentLine", desc := "()V" } : Jvm.MethodName)) ∈ lw_tbl := lw_at lw_m14 122 rfl
theorem q3365 : (Jvm.Cond.instanceMethod ({ cls := "SnowPassModel", name := "segmentLine", desc := "()V" } : Jvm.MethodName)) ∈ lw_all := lw_g (lw_at lw_m14 123 rfl) rfl
theorem q3366 : (Jvm.Cond.code ({ cls := "SnowPassModel", name := "segmentLine", desc := "()V" } : Jvm.MethodName) prog_17_method_68_code (4 : Nat) (Option.none : Option Jvm.ClassFile.FieldType)) ∈ lw_all := lw_g (lw_at lw_m14 124 rfl) rfl
theorem q3367 : (Jvm.Cond.methodLink "SnowPassModel" (104 : Nat) ({ cls := "SnowPassModel", name := "puts", desc := "(III)V" } : Jvm.MethodName)) ∈ lw_all := lw_g (lw_at lw_m14 125 rfl) rfl
theorem q3368 : (Jvm.Cond.privateMethod ({ cls := "SnowPassModel", name := "puts", desc := "(III)V" } : Jvm.MethodName)) ∈ lw_tbl := lw_at lw_m14 126 rfl
theorem q3369 : (Jvm.Cond.instanceMethod ({ cls := "SnowPassModel", name := "puts", desc := "(III)V" } : Jvm.MethodName)) ∈ lw_all := lw_g (lw_at lw_m14 127 rfl) rfl
theorem q3370 : (Jvm.Cond.code ({ cls := "SnowPassModel", name := "puts", desc := "(III)V" } : Jvm.MethodName) prog_17_method_11_code (4 : Nat) (Option.none : Option Jvm.ClassFile.FieldType)) ∈ lw_all := lw_g (lw_at lw_m14 128 rfl) rfl
theorem q3371 : (Jvm.Cond.stringRef "SnowPassModel" (246 : Nat) "cart") ∈ lw_tbl := lw_at lw_m14 129 rfl
theorem q3372 : (Jvm.Cond.methodLink "SnowPassModel" (248 : Nat) ({ cls := "SnowPassModel", name := "cartLine", desc := "()V" } : Jvm.MethodName)) ∈ lw_all := lw_g (lw_at lw_m14 130 rfl) rfl
theorem q3373 : (Jvm.Cond.privateMethod ({ cls := "SnowPassModel", name := "cartLine", desc := "()V" } : Jvm.MethodName)) ∈ lw_tbl := lw_at lw_m14 131 rfl
theorem q3374 : (Jvm.Cond.instanceMethod ({ cls := "SnowPassModel", name := "cartLine", desc := "()V" } : Jvm.MethodName)) ∈ lw_all := lw_g (lw_at lw_m14 132 rfl) rfl
theorem q3375 : (Jvm.Cond.code ({ cls := "SnowPassModel", name := "cartLine", desc := "()V" } : Jvm.MethodName) prog_17_method_69_code (3 : Nat) (Option.none : Option Jvm.ClassFile.FieldType)) ∈ lw_all := lw_g (lw_at lw_m14 133 rfl) rfl
theorem q3376 : (Jvm.Cond.methodLink "SnowPassModel" (215 : Nat) ({ cls := "SnowPassModel", name := "sideHere", desc := "()I" } : Jvm.MethodName)) ∈ lw_all := lw_g (lw_at lw_m14 134 rfl) rfl
theorem q3377 : (Jvm.Cond.privateMethod ({ cls := "SnowPassModel", name := "sideHere", desc := "()I" } : Jvm.MethodName)) ∈ lw_tbl := lw_at lw_m14 135 rfl
theorem q3378 : (Jvm.Cond.instanceMethod ({ cls := "SnowPassModel", name := "sideHere", desc := "()I" } : Jvm.MethodName)) ∈ lw_all := lw_g (lw_at lw_m14 136 rfl) rfl
theorem q3379 : (Jvm.Cond.code ({ cls := "SnowPassModel", name := "sideHere", desc := "()I" } : Jvm.MethodName) prog_17_method_59_code (1 : Nat) (Option.some Jvm.ClassFile.FieldType.int)) ∈ lw_all := lw_g (lw_at lw_m14 137 rfl) rfl
theorem q3380 : (Jvm.Cond.methodLink "SnowPassModel" (235 : Nat) ({ cls := "SnowPassModel", name := "chainsHere", desc := "()I" } : Jvm.MethodName)) ∈ lw_all := lw_g (lw_at lw_m14 138 rfl) rfl
theorem q3381 : (Jvm.Cond.privateMethod ({ cls := "SnowPassModel", name := "chainsHere", desc := "()I" } : Jvm.MethodName)) ∈ lw_tbl := lw_at lw_m14 139 rfl
theorem q3382 : (Jvm.Cond.instanceMethod ({ cls := "SnowPassModel", name := "chainsHere", desc := "()I" } : Jvm.MethodName)) ∈ lw_all := lw_g (lw_at lw_m14 140 rfl) rfl
theorem q3383 : (Jvm.Cond.code ({ cls := "SnowPassModel", name := "chainsHere", desc := "()I" } : Jvm.MethodName) prog_17_method_61_code (1 : Nat) (Option.some Jvm.ClassFile.FieldType.int)) ∈ lw_all := lw_g (lw_at lw_m14 141 rfl) rfl
theorem q3384 : (Jvm.Cond.stringRef "SnowPassModel" (218 : Nat) "chains") ∈ lw_tbl := lw_at lw_m14 142 rfl
theorem q3385 : (Jvm.Cond.methodLink "SnowPassModel" (238 : Nat) ({ cls := "SnowPassModel", name := "cartNow", desc := "(II)Z" } : Jvm.MethodName)) ∈ lw_all := lw_g (lw_at lw_m14 143 rfl) rfl
theorem q3386 : (Jvm.Cond.privateMethod ({ cls := "SnowPassModel", name := "cartNow", desc := "(II)Z" } : Jvm.MethodName)) ∈ lw_tbl := lw_at lw_m14 144 rfl
theorem q3387 : (Jvm.Cond.instanceMethod ({ cls := "SnowPassModel", name := "cartNow", desc := "(II)Z" } : Jvm.MethodName)) ∈ lw_all := lw_g (lw_at lw_m14 145 rfl) rfl
theorem q3388 : (Jvm.Cond.code ({ cls := "SnowPassModel", name := "cartNow", desc := "(II)Z" } : Jvm.MethodName) prog_17_method_43_code (4 : Nat) (Option.some Jvm.ClassFile.FieldType.boolean)) ∈ lw_all := lw_g (lw_at lw_m14 146 rfl) rfl
theorem q3389 : (Jvm.Cond.methodLink "SnowPassModel" (263 : Nat) ({ cls := "SnowPassModel", name := "endsText", desc := "()Z" } : Jvm.MethodName)) ∈ lw_all := lw_g (lw_at lw_m14 147 rfl) rfl
theorem q3390 : (Jvm.Cond.privateMethod ({ cls := "SnowPassModel", name := "endsText", desc := "()Z" } : Jvm.MethodName)) ∈ lw_tbl := lw_at lw_m14 148 rfl
theorem q3391 : (Jvm.Cond.instanceMethod ({ cls := "SnowPassModel", name := "endsText", desc := "()Z" } : Jvm.MethodName)) ∈ lw_all := lw_g (lw_at lw_m14 149 rfl) rfl
theorem q3392 : (Jvm.Cond.code ({ cls := "SnowPassModel", name := "endsText", desc := "()Z" } : Jvm.MethodName) prog_17_method_63_code (1 : Nat) (Option.some Jvm.ClassFile.FieldType.boolean)) ∈ lw_all := lw_g (lw_at lw_m14 150 rfl) rfl
theorem q3393 : (Jvm.Cond.methodLink "SnowPassModel" (164 : Nat) ({ cls := "SnowPassModel", name := "passes", desc := "(Z)Z" } : Jvm.MethodName)) ∈ lw_all := lw_g (lw_at lw_m14 151 rfl) rfl
theorem q3394 : (Jvm.Cond.privateMethod ({ cls := "SnowPassModel", name := "passes", desc := "(Z)Z" } : Jvm.MethodName)) ∈ lw_tbl := lw_at lw_m14 152 rfl
theorem q3395 : (Jvm.Cond.instanceMethod ({ cls := "SnowPassModel", name := "passes", desc := "(Z)Z" } : Jvm.MethodName)) ∈ lw_all := lw_g (lw_at lw_m14 153 rfl) rfl
theorem q3396 : (Jvm.Cond.code ({ cls := "SnowPassModel", name := "passes", desc := "(Z)Z" } : Jvm.MethodName) prog_17_method_5_code (2 : Nat) (Option.some Jvm.ClassFile.FieldType.boolean)) ∈ lw_all := lw_g (lw_at lw_m14 154 rfl) rfl
theorem q3397 : (Jvm.Cond.methodLink "SnowPassModel" (266 : Nat) ({ cls := "SnowPassModel", name := "depths", desc := "()I" } : Jvm.MethodName)) ∈ lw_all := lw_g (lw_at lw_m14 155 rfl) rfl
theorem q3398 : (Jvm.Cond.privateMethod ({ cls := "SnowPassModel", name := "depths", desc := "()I" } : Jvm.MethodName)) ∈ lw_tbl := lw_at lw_m14 156 rfl
theorem q3399 : (Jvm.Cond.instanceMethod ({ cls := "SnowPassModel", name := "depths", desc := "()I" } : Jvm.MethodName)) ∈ lw_all := lw_g (lw_at lw_m14 157 rfl) rfl
theorem q3400 : (Jvm.Cond.code ({ cls := "SnowPassModel", name := "depths", desc := "()I" } : Jvm.MethodName) prog_17_method_22_code (3 : Nat) (Option.some Jvm.ClassFile.FieldType.int)) ∈ lw_all := lw_g (lw_at lw_m14 158 rfl) rfl
theorem q3401 : (Jvm.Cond.methodLink "SnowPassModel" (66 : Nat) ({ cls := "SnowPassModel", name := "of", desc := "(II)I" } : Jvm.MethodName)) ∈ lw_all := lw_g (lw_at lw_m14 159 rfl) rfl
theorem q3402 : (Jvm.Cond.privateMethod ({ cls := "SnowPassModel", name := "of", desc := "(II)I" } : Jvm.MethodName)) ∈ lw_tbl := lw_at lw_m14 160 rfl
theorem q3403 : (Jvm.Cond.instanceMethod ({ cls := "SnowPassModel", name := "of", desc := "(II)I" } : Jvm.MethodName)) ∈ lw_all := lw_g (lw_at lw_m14 161 rfl) rfl
theorem q3404 : (Jvm.Cond.code ({ cls := "SnowPassModel", name := "of", desc := "(II)I" } : Jvm.MethodName) prog_17_method_10_code (3 : Nat) (Option.some Jvm.ClassFile.FieldType.int)) ∈ lw_all := lw_g (lw_at lw_m14 162 rfl) rfl
theorem q3405 : (Jvm.Cond.fieldLink "SnowPassModel" (7 : Nat) "SnowPassModel" "s" "[I") ∈ lw_all := lw_g (lw_at lw_m14 163 rfl) rfl
theorem q3406 : (Jvm.Cond.fieldLink "SnowPassModel" (13 : Nat) "SnowPassModel" "saved" "[I") ∈ lw_all := lw_g (lw_at lw_m14 164 rfl) rfl
theorem q3407 : (Jvm.Cond.fieldLink "SnowPassModel" (16 : Nat) "SnowPassModel" "held" "[I") ∈ lw_all := lw_g (lw_at lw_m14 165 rfl) rfl
theorem q3408 : (Jvm.Cond.fieldLink "SnowPassModel" (19 : Nat) "SnowPassModel" "aside" "[I") ∈ lw_all := lw_g (lw_at lw_m14 166 rfl) rfl
theorem q3409 : (Jvm.Cond.fieldLink "SnowPassModel" (22 : Nat) "SnowPassModel" "past" "[I") ∈ lw_all := lw_g (lw_at lw_m14 167 rfl) rfl
theorem q3410 : (Jvm.Cond.fieldLink "SnowPassModel" (269 : Nat) "SnowPassModel" "pastMany" "I") ∈ lw_all := lw_g (lw_at lw_m14 168 rfl) rfl
theorem q3411 : (Jvm.Cond.fieldLink "SnowPassModel" (55 : Nat) "SnowPassModel" "thrown" "I") ∈ lw_all := lw_g (lw_at lw_m14 169 rfl) rfl
theorem q3412 : (Jvm.Cond.fieldLink "SnowPassModel" (382 : Nat) "SnowPassModel" "isSaved" "Z") ∈ lw_all := lw_g (lw_at lw_m14 170 rfl) rfl
theorem q3413 : (Jvm.Cond.fieldLink "SnowPassModel" (155 : Nat) "SnowPassModel" "answer" "I") ∈ lw_all := lw_g (lw_at lw_m14 171 rfl) rfl
theorem q3414 : (Jvm.Cond.fieldLink "SnowPassModel" (25 : Nat) "SnowPassModel" "buffer" "[I") ∈ lw_all := lw_g (lw_at lw_m14 172 rfl) rfl
theorem q3415 : (Jvm.Cond.fieldLink "SnowPassModel" (50 : Nat) "SnowPassModel" "length" "I") ∈ lw_all := lw_g (lw_at lw_m14 173 rfl) rfl
theorem q3416 : (Jvm.Cond.fieldLink "SnowPassModel" (171 : Nat) "SnowPassModel" "at" "I") ∈ lw_all := lw_g (lw_at lw_m14 174 rfl) rfl
theorem q3417 : (Jvm.Cond.fieldLink "SnowPassModel" (177 : Nat) "SnowPassModel" "begin" "I") ∈ lw_all := lw_g (lw_at lw_m14 175 rfl) rfl
theorem q3418 : (Jvm.Cond.fieldLink "SnowPassModel" (180 : Nat) "SnowPassModel" "wordLong" "I") ∈ lw_all := lw_g (lw_at lw_m14 176 rfl) rfl
theorem q3419 : (Jvm.Cond.fieldLink "SnowPassModel" (187 : Nat) "SnowPassModel" "error" "I") ∈ lw_all := lw_g (lw_at lw_m14 177 rfl) rfl
theorem q3420 : (Jvm.Cond.fieldLink "SnowPassModel" (190 : Nat) "SnowPassModel" "errorAt" "I") ∈ lw_all := lw_g (lw_at lw_m14 178 rfl) rfl
theorem q3421 : (Jvm.Cond.fieldLink "SnowPassModel" (220 : Nat) "SnowPassModel" "toldError" "I") ∈ lw_all := lw_g (lw_at lw_m14 179 rfl) rfl
theorem q3422 : (Jvm.Cond.fieldLink "SnowPassModel" (28 : Nat) "SnowPassModel" "toldAt" "I") ∈ lw_all := lw_g (lw_at lw_m14 180 rfl) rfl
theorem q3423 : (Jvm.Cond.fieldLink "SnowPassModel" (32 : Nat) "SnowPassModel" "told" "[I") ∈ lw_all := lw_g (lw_at lw_m14 181 rfl) rfl
theorem q3424 : (Jvm.Cond.fieldLink "SnowPassModel" (295 : Nat) "SnowPassModel" "toldMany" "I") ∈ lw_all := lw_g (lw_at lw_m14 182 rfl) rfl
theorem q3425 : (Jvm.Cond.fieldLink "SnowPassModel" (35 : Nat) "SnowPassModel" "output" "[I") ∈ lw_all := lw_g (lw_at lw_m14 183 rfl) rfl
theorem q3426 : (Jvm.Cond.fieldLink "SnowPassModel" (386 : Nat) "SnowPassModel" "outputLong" "I") ∈ lw_all := lw_g (lw_at lw_m14 184 rfl) rfl
theorem q3427 : (Jvm.Cond.laysFinal "SnowPassModel" "SnowPassModel" "s" "[I") ∈ lw_all := lw_g (lw_at lw_m14 185 rfl) rfl
theorem q3428 : (Jvm.Cond.soleField "SnowPassModel" "s") ∈ lw_all := lw_g (lw_at lw_m14 186 rfl) rfl
theorem q3429 : (Jvm.Cond.laysFinal "SnowPassModel" "SnowPassModel" "saved" "[I") ∈ lw_all := lw_g (lw_at lw_m14 187 rfl) rfl
theorem q3430 : (Jvm.Cond.soleField "SnowPassModel" "saved") ∈ lw_all := lw_g (lw_at lw_m14 188 rfl) rfl
theorem q3431 : (Jvm.Cond.laysFinal "SnowPassModel" "SnowPassModel" "held" "[I") ∈ lw_all := lw_g (lw_at lw_m14 189 rfl) rfl
theorem q3432 : (Jvm.Cond.soleField "SnowPassModel" "held") ∈ lw_all := lw_g (lw_at lw_m14 190 rfl) rfl
theorem q3433 : (Jvm.Cond.laysFinal "SnowPassModel" "SnowPassModel" "aside" "[I") ∈ lw_all := lw_g (lw_at lw_m14 191 rfl) rfl
theorem q3434 : (Jvm.Cond.soleField "SnowPassModel" "aside") ∈ lw_all := lw_g (lw_at lw_m14 192 rfl) rfl
theorem q3435 : (Jvm.Cond.laysFinal "SnowPassModel" "SnowPassModel" "past" "[I") ∈ lw_all := lw_g (lw_at lw_m14 193 rfl) rfl
theorem q3436 : (Jvm.Cond.soleField "SnowPassModel" "past") ∈ lw_all := lw_g (lw_at lw_m14 194 rfl) rfl
theorem q3437 : (Jvm.Cond.lays "SnowPassModel" "SnowPassModel" "pastMany" "I") ∈ lw_all := lw_g (lw_at lw_m14 195 rfl) rfl
theorem q3438 : (Jvm.Cond.soleField "SnowPassModel" "pastMany") ∈ lw_all := lw_g (lw_at lw_m14 196 rfl) rfl
theorem q3439 : (Jvm.Cond.lays "SnowPassModel" "SnowPassModel" "thrown" "I") ∈ lw_all := lw_g (lw_at lw_m14 197 rfl) rfl
theorem q3440 : (Jvm.Cond.soleField "SnowPassModel" "thrown") ∈ lw_all := lw_g (lw_at lw_m14 198 rfl) rfl
theorem q3441 : (Jvm.Cond.lays "SnowPassModel" "SnowPassModel" "isSaved" "Z") ∈ lw_all := lw_g (lw_at lw_m14 199 rfl) rfl
theorem q3442 : (Jvm.Cond.soleField "SnowPassModel" "isSaved") ∈ lw_all := lw_g (lw_at lw_m14 200 rfl) rfl
theorem q3443 : (Jvm.Cond.lays "SnowPassModel" "SnowPassModel" "answer" "I") ∈ lw_all := lw_g (lw_at lw_m14 201 rfl) rfl
theorem q3444 : (Jvm.Cond.soleField "SnowPassModel" "answer") ∈ lw_all := lw_g (lw_at lw_m14 202 rfl) rfl
theorem q3445 : (Jvm.Cond.laysFinal "SnowPassModel" "SnowPassModel" "buffer" "[I") ∈ lw_all := lw_g (lw_at lw_m14 203 rfl) rfl
theorem q3446 : (Jvm.Cond.soleField "SnowPassModel" "buffer") ∈ lw_all := lw_g (lw_at lw_m14 204 rfl) rfl
theorem q3447 : (Jvm.Cond.lays "SnowPassModel" "SnowPassModel" "length" "I") ∈ lw_all := lw_g (lw_at lw_m14 205 rfl) rfl
theorem q3448 : (Jvm.Cond.soleField "SnowPassModel" "length") ∈ lw_all := lw_g (lw_at lw_m14 206 rfl) rfl
theorem q3449 : (Jvm.Cond.lays "SnowPassModel" "SnowPassModel" "at" "I") ∈ lw_all := lw_g (lw_at lw_m14 207 rfl) rfl
theorem q3450 : (Jvm.Cond.soleField "SnowPassModel" "at") ∈ lw_all := lw_g (lw_at lw_m14 208 rfl) rfl
theorem q3451 : (Jvm.Cond.lays "SnowPassModel" "SnowPassModel" "begin" "I") ∈ lw_all := lw_g (lw_at lw_m14 209 rfl) rfl
theorem q3452 : (Jvm.Cond.soleField "SnowPassModel" "begin") ∈ lw_all := lw_g (lw_at lw_m14 210 rfl) rfl
theorem q3453 : (Jvm.Cond.lays "SnowPassModel" "SnowPassModel" "wordLong" "I") ∈ lw_all := lw_g (lw_at lw_m14 211 rfl) rfl
theorem q3454 : (Jvm.Cond.soleField "SnowPassModel" "wordLong") ∈ lw_all := lw_g (lw_at lw_m14 212 rfl) rfl
theorem q3455 : (Jvm.Cond.lays "SnowPassModel" "SnowPassModel" "error" "I") ∈ lw_all := lw_g (lw_at lw_m14 213 rfl) rfl
theorem q3456 : (Jvm.Cond.soleField "SnowPassModel" "error") ∈ lw_all := lw_g (lw_at lw_m14 214 rfl) rfl
theorem q3457 : (Jvm.Cond.lays "SnowPassModel" "SnowPassModel" "errorAt" "I") ∈ lw_all := lw_g (lw_at lw_m14 215 rfl) rfl
theorem q3458 : (Jvm.Cond.soleField "SnowPassModel" "errorAt") ∈ lw_all := lw_g (lw_at lw_m14 216 rfl) rfl
theorem q3459 : (Jvm.Cond.lays "SnowPassModel" "SnowPassModel" "toldError" "I") ∈ lw_all := lw_g (lw_at lw_m14 217 rfl) rfl
theorem q3460 : (Jvm.Cond.soleField "SnowPassModel" "toldError") ∈ lw_all := lw_g (lw_at lw_m14 218 rfl) rfl
theorem q3461 : (Jvm.Cond.lays "SnowPassModel" "SnowPassModel" "toldAt" "I") ∈ lw_all := lw_g (lw_at lw_m14 219 rfl) rfl
theorem q3462 : (Jvm.Cond.soleField "SnowPassModel" "toldAt") ∈ lw_all := lw_g (lw_at lw_m14 220 rfl) rfl
theorem q3463 : (Jvm.Cond.laysFinal "SnowPassModel" "SnowPassModel" "told" "[I") ∈ lw_all := lw_g (lw_at lw_m14 221 rfl) rfl
theorem q3464 : (Jvm.Cond.soleField "SnowPassModel" "told") ∈ lw_all := lw_g (lw_at lw_m14 222 rfl) rfl
theorem q3465 : (Jvm.Cond.lays "SnowPassModel" "SnowPassModel" "toldMany" "I") ∈ lw_all := lw_g (lw_at lw_m14 223 rfl) rfl
theorem q3466 : (Jvm.Cond.soleField "SnowPassModel" "toldMany") ∈ lw_all := lw_g (lw_at lw_m14 224 rfl) rfl
theorem q3467 : (Jvm.Cond.laysFinal "SnowPassModel" "SnowPassModel" "output" "[I") ∈ lw_all := lw_g (lw_at lw_m14 225 rfl) rfl
theorem q3468 : (Jvm.Cond.soleField "SnowPassModel" "output") ∈ lw_all := lw_g (lw_at lw_m14 226 rfl) rfl
theorem q3469 : (Jvm.Cond.lays "SnowPassModel" "SnowPassModel" "outputLong" "I") ∈ lw_all := lw_g (lw_at lw_m14 227 rfl) rfl
theorem q3470 : (Jvm.Cond.soleField "SnowPassModel" "outputLong") ∈ lw_all := lw_g (lw_at lw_m14 228 rfl) rfl
theorem q3471 : (Jvm.Cond.superclass "SnowPassModel" "java/lang/Object") ∈ lw_all := lw_g (lw_at lw_m14 229 rfl) rfl
theorem q3473 : (Jvm.Cond.instanceMethod ({ cls := "SnowPassModel", name := "thrown", desc := "()I" } : Jvm.MethodName)) ∈ lw_all := lw_g (lw_at lw_m14 231 rfl) rfl
theorem q3474 : (Jvm.Cond.selects "SnowPassModel" ({ cls := "SnowPassModel", name := "thrown", desc := "()I" } : Jvm.MethodName) ({ cls := "SnowPassModel", name := "thrown", desc := "()I" } : Jvm.MethodName)) ∈ lw_all := lw_g (lw_at lw_m14 232 rfl) rfl
theorem q3475 : (Jvm.Cond.code ({ cls := "SnowPassModel", name := "thrown", desc := "()I" } : Jvm.MethodName) prog_17_method_2_code (1 : Nat) (Option.some Jvm.ClassFile.FieldType.int)) ∈ lw_all := lw_g (lw_at lw_m14 233 rfl) rfl
theorem q3477 : (Jvm.Cond.instanceMethod ({ cls := "SnowPassModel", name := "append", desc := "(IIIII)I" } : Jvm.MethodName)) ∈ lw_all := lw_g (lw_at lw_m14 235 rfl) rfl
theorem q3478 : (Jvm.Cond.selects "SnowPassModel" ({ cls := "SnowPassModel", name := "append", desc := "(IIIII)I" } : Jvm.MethodName) ({ cls := "SnowPassModel", name := "append", desc := "(IIIII)I" } : Jvm.MethodName)) ∈ lw_all := lw_g (lw_at lw_m14 236 rfl) rfl
theorem q3479 : (Jvm.Cond.code ({ cls := "SnowPassModel", name := "append", desc := "(IIIII)I" } : Jvm.MethodName) prog_17_method_49_code (6 : Nat) (Option.some Jvm.ClassFile.FieldType.int)) ∈ lw_all := lw_g (lw_at lw_m14 237 rfl) rfl
theorem q3480 : (Jvm.Cond.methodLink "SnowPassModel" (168 : Nat) ({ cls := "SnowPassModel", name := "four", desc := "(I)V" } : Jvm.MethodName)) ∈ lw_all := lw_g (lw_at lw_m14 238 rfl) rfl
theorem q3481 : (Jvm.Cond.privateMethod ({ cls := "SnowPassModel", name := "four", desc := "(I)V" } : Jvm.MethodName)) ∈ lw_tbl := lw_at lw_m14 239 rfl
theorem q3482 : (Jvm.Cond.instanceMethod ({ cls := "SnowPassModel", name := "four", desc := "(I)V" } : Jvm.MethodName)) ∈ lw_all := lw_g (lw_at lw_m15 0 rfl) rfl
theorem q3483 : (Jvm.Cond.code ({ cls := "SnowPassModel", name := "four", desc := "(I)V" } : Jvm.MethodName) prog_17_method_48_code (3 : Nat) (Option.none : Option Jvm.ClassFile.FieldType)) ∈ lw_all := lw_g (lw_at lw_m15 1 rfl) rfl
theorem q3485 : (Jvm.Cond.instanceMethod ({ cls := "SnowPassModel", name := "truncate", desc := "(I)I" } : Jvm.MethodName)) ∈ lw_all := lw_g (lw_at lw_m15 3 rfl) rfl
theorem q3486 : (Jvm.Cond.selects "SnowPassModel" ({ cls := "SnowPassModel", name := "truncate", desc := "(I)I" } : Jvm.MethodName) ({ cls := "SnowPassModel", name := "truncate", desc := "(I)I" } : Jvm.MethodName)) ∈ lw_all := lw_g (lw_at lw_m15 4 rfl) rfl
theorem q3487 : (Jvm.Cond.code ({ cls := "SnowPassModel", name := "truncate", desc := "(I)I" } : Jvm.MethodName) prog_17_method_50_code (2 : Nat) (Option.some Jvm.ClassFile.FieldType.int)) ∈ lw_all := lw_g (lw_at lw_m15 5 rfl) rfl
theorem q3489 : (Jvm.Cond.instanceMethod ({ cls := "SnowPassModel", name := "errorCode", desc := "()I" } : Jvm.MethodName)) ∈ lw_all := lw_g (lw_at lw_m15 7 rfl) rfl
theorem q3490 : (Jvm.Cond.selects "SnowPassModel" ({ cls := "SnowPassModel", name := "errorCode", desc := "()I" } : Jvm.MethodName) ({ cls := "SnowPassModel", name := "errorCode", desc := "()I" } : Jvm.MethodName)) ∈ lw_all := lw_g (lw_at lw_m15 8 rfl) rfl
theorem q3491 : (Jvm.Cond.code ({ cls := "SnowPassModel", name := "errorCode", desc := "()I" } : Jvm.MethodName) prog_17_method_64_code (1 : Nat) (Option.some Jvm.ClassFile.FieldType.int)) ∈ lw_all := lw_g (lw_at lw_m15 9 rfl) rfl
theorem q3493 : (Jvm.Cond.instanceMethod ({ cls := "SnowPassModel", name := "errorPosition", desc := "()I" } : Jvm.MethodName)) ∈ lw_all := lw_g (lw_at lw_m15 11 rfl) rfl
theorem q3494 : (Jvm.Cond.selects "SnowPassModel" ({ cls := "SnowPassModel", name := "errorPosition", desc := "()I" } : Jvm.MethodName) ({ cls := "SnowPassModel", name := "errorPosition", desc := "()I" } : Jvm.MethodName)) ∈ lw_all := lw_g (lw_at lw_m15 12 rfl) rfl
theorem q3495 : (Jvm.Cond.code ({ cls := "SnowPassModel", name := "errorPosition", desc := "()I" } : Jvm.MethodName) prog_17_method_65_code (1 : Nat) (Option.some Jvm.ClassFile.FieldType.int)) ∈ lw_all := lw_g (lw_at lw_m15 13 rfl) rfl
theorem q3498 : (Jvm.Cond.instanceMethod ({ cls := "SnowPassModel", name := "executeCommands", desc := "()I" } : Jvm.MethodName)) ∈ lw_all := lw_g (lw_at lw_m15 16 rfl) rfl
theorem q3499 : (Jvm.Cond.selects "SnowPassModel" ({ cls := "SnowPassModel", name := "executeCommands", desc := "()I" } : Jvm.MethodName) ({ cls := "SnowPassModel", name := "executeCommands", desc := "()I" } : Jvm.MethodName)) ∈ lw_all := lw_g (lw_at lw_m15 17 rfl) rfl
theorem q3500 : (Jvm.Cond.code ({ cls := "SnowPassModel", name := "executeCommands", desc := "()I" } : Jvm.MethodName) prog_17_method_78_code (2 : Nat) (Option.some Jvm.ClassFile.FieldType.int)) ∈ lw_all := lw_g (lw_at lw_m15 18 rfl) rfl
theorem q3501 : (Jvm.Cond.methodLink "SnowPassModel" (319 : Nat) ({ cls := "SnowPassModel", name := "readsOne", desc := "()V" } : Jvm.MethodName)) ∈ lw_all := lw_g (lw_at lw_m15 19 rfl) rfl
theorem q3502 : (Jvm.Cond.privateMethod ({ cls := "SnowPassModel", name := "readsOne", desc := "()V" } : Jvm.MethodName)) ∈ lw_tbl := lw_at lw_m15 20 rfl
theorem q3503 : (Jvm.Cond.instanceMethod ({ cls := "SnowPassModel", name := "readsOne", desc := "()V" } : Jvm.MethodName)) ∈ lw_all := lw_g (lw_at lw_m15 21 rfl) rfl
theorem q3504 : (Jvm.Cond.code ({ cls := "SnowPassModel", name := "readsOne", desc := "()V" } : Jvm.MethodName) prog_17_method_75_code (2 : Nat) (Option.none : Option Jvm.ClassFile.FieldType)) ∈ lw_all := lw_g (lw_at lw_m15 22 rfl) rfl
theorem q3505 : (Jvm.Cond.methodLink "SnowPassModel" (292 : Nat) ({ cls := "SnowPassModel", name := "commandHere", desc := "()I" } : Jvm.MethodName)) ∈ lw_all := lw_g (lw_at lw_m15 23 rfl) rfl
theorem q3506 : (Jvm.Cond.privateMethod ({ cls := "SnowPassModel", name := "commandHere", desc := "()I" } : Jvm.MethodName)) ∈ lw_tbl := lw_at lw_m15 24 rfl
theorem q3507 : (Jvm.Cond.instanceMethod ({ cls := "SnowPassModel", name := "commandHere", desc := "()I" } : Jvm.MethodName)) ∈ lw_all := lw_g (lw_at lw_m15 25 rfl) rfl
theorem q3508 : (Jvm.Cond.code ({ cls := "SnowPassModel", name := "commandHere", desc := "()I" } : Jvm.MethodName) prog_17_method_73_code (1 : Nat) (Option.some Jvm.ClassFile.FieldType.int)) ∈ lw_all := lw_g (lw_at lw_m15 26 rfl) rfl
theorem q3509 : (Jvm.Cond.stringRef "SnowPassModel" (278 : Nat) "pass") ∈ lw_tbl := lw_at lw_m15 27 rfl
theorem q3510 : (Jvm.Cond.stringRef "SnowPassModel" (280 : Nat) "salt") ∈ lw_tbl := lw_at lw_m15 28 rfl
theorem q3511 : (Jvm.Cond.stringRef "SnowPassModel" (282 : Nat) "recall") ∈ lw_tbl := lw_at lw_m15 29 rfl
theorem q3512 : (Jvm.Cond.stringRef "SnowPassModel" (284 : Nat) "sacks") ∈ lw_tbl := lw_at lw_m15 30 rfl
theorem q3513 : (Jvm.Cond.methodLink "SnowPassModel" (286 : Nat) ({ cls := "SnowPassModel", name := "otherCommand", desc := "()I" } : Jvm.MethodName)) ∈ lw_all := lw_g (lw_at lw_m15 31 rfl) rfl
theorem q3514 : (Jvm.Cond.privateMethod ({ cls := "SnowPassModel", name := "otherCommand", desc := "()I" } : Jvm.MethodName)) ∈ lw_tbl := lw_at lw_m15 32 rfl
theorem q3515 : (Jvm.Cond.instanceMethod ({ cls := "SnowPassModel", name := "otherCommand", desc := "()I" } : Jvm.MethodName)) ∈ lw_all := lw_g (lw_at lw_m15 33 rfl) rfl
theorem q3516 : (Jvm.Cond.code ({ cls := "SnowPassModel", name := "otherCommand", desc := "()I" } : Jvm.MethodName) prog_17_method_72_code (1 : Nat) (Option.some Jvm.ClassFile.FieldType.int)) ∈ lw_all := lw_g (lw_at lw_m15 34 rfl) rfl
theorem q3517 : (Jvm.Cond.stringRef "SnowPassModel" (272 : Nat) "snowfall") ∈ lw_tbl := lw_at lw_m15 35 rfl
theorem q3518 : (Jvm.Cond.stringRef "SnowPassModel" (274 : Nat) "wind") ∈ lw_tbl := lw_at lw_m15 36 rfl
theorem q3519 : (Jvm.Cond.stringRef "SnowPassModel" (276 : Nat) "cancel") ∈ lw_tbl := lw_at lw_m15 37 rfl
theorem q3520 : (Jvm.Cond.methodLink "SnowPassModel" (298 : Nat) ({ cls := "SnowPassModel", name := "partsOf", desc := "(II)V" } : Jvm.MethodName)) ∈ lw_all := lw_g (lw_at lw_m15 38 rfl) rfl
theorem q3521 : (Jvm.Cond.privateMethod ({ cls := "SnowPassModel", name := "partsOf", desc := "(II)V" } : Jvm.MethodName)) ∈ lw_tbl := lw_at lw_m15 39 rfl
theorem q3522 : (Jvm.Cond.instanceMethod ({ cls := "SnowPassModel", name := "partsOf", desc := "(II)V" } : Jvm.MethodName)) ∈ lw_all := lw_g (lw_at lw_m15 40 rfl) rfl
theorem q3523 : (Jvm.Cond.code ({ cls := "SnowPassModel", name := "partsOf", desc := "(II)V" } : Jvm.MethodName) prog_17_method_74_code (3 : Nat) (Option.none : Option Jvm.ClassFile.FieldType)) ∈ lw_all := lw_g (lw_at lw_m15 41 rfl) rfl
theorem q3524 : (Jvm.Cond.methodLink "SnowPassModel" (289 : Nat) ({ cls := "SnowPassModel", name := "sidePast", desc := "()I" } : Jvm.MethodName)) ∈ lw_all := lw_g (lw_at lw_m15 42 rfl) rfl
theorem q3525 : (Jvm.Cond.privateMethod ({ cls := "SnowPassModel", name := "sidePast", desc := "()I" } : Jvm.MethodName)) ∈ lw_tbl := lw_at lw_m15 43 rfl
theorem q3526 : (Jvm.Cond.instanceMethod ({ cls := "SnowPassModel", name := "sidePast", desc := "()I" } : Jvm.MethodName)) ∈ lw_all := lw_g (lw_at lw_m15 44 rfl) rfl
theorem q3527 : (Jvm.Cond.code ({ cls := "SnowPassModel", name := "sidePast", desc := "()I" } : Jvm.MethodName) prog_17_method_60_code (2 : Nat) (Option.some Jvm.ClassFile.FieldType.int)) ∈ lw_all := lw_g (lw_at lw_m15 45 rfl) rfl
theorem q3528 : (Jvm.Cond.methodLink "SnowPassModel" (322 : Nat) ({ cls := "SnowPassModel", name := "keeps", desc := "([I)V" } : Jvm.MethodName)) ∈ lw_all := lw_g (lw_at lw_m15 46 rfl) rfl
theorem q3529 : (Jvm.Cond.privateMethod ({ cls := "SnowPassModel", name := "keeps", desc := "([I)V" } : Jvm.MethodName)) ∈ lw_tbl := lw_at lw_m15 47 rfl
theorem q3530 : (Jvm.Cond.instanceMethod ({ cls := "SnowPassModel", name := "keeps", desc := "([I)V" } : Jvm.MethodName)) ∈ lw_all := lw_g (lw_at lw_m15 48 rfl) rfl
theorem q3531 : (Jvm.Cond.code ({ cls := "SnowPassModel", name := "keeps", desc := "([I)V" } : Jvm.MethodName) prog_17_method_77_code (3 : Nat) (Option.none : Option Jvm.ClassFile.FieldType)) ∈ lw_all := lw_g (lw_at lw_m15 49 rfl) rfl
theorem q3532 : (Jvm.Cond.methodLink "SnowPassModel" (326 : Nat) ({ cls := "SnowPassModel", name := "doesOne", desc := "(I)Z" } : Jvm.MethodName)) ∈ lw_all := lw_g (lw_at lw_m15 50 rfl) rfl
theorem q3533 : (Jvm.Cond.privateMethod ({ cls := "SnowPassModel", name := "doesOne", desc := "(I)Z" } : Jvm.MethodName)) ∈ lw_tbl := lw_at lw_m15 51 rfl
theorem q3534 : (Jvm.Cond.instanceMethod ({ cls := "SnowPassModel", name := "doesOne", desc := "(I)Z" } : Jvm.MethodName)) ∈ lw_all := lw_g (lw_at lw_m15 52 rfl) rfl
theorem q3535 : (Jvm.Cond.code ({ cls := "SnowPassModel", name := "doesOne", desc := "(I)Z" } : Jvm.MethodName) prog_17_method_76_code (4 : Nat) (Option.some Jvm.ClassFile.FieldType.boolean)) ∈ lw_all := lw_g (lw_at lw_m15 53 rfl) rfl
theorem q3536 : (Jvm.Cond.methodLink "SnowPassModel" (301 : Nat) ({ cls := "SnowPassModel", name := "passNow", desc := "(I)Z" } : Jvm.MethodName)) ∈ lw_all := lw_g (lw_at lw_m15 54 rfl) rfl
theorem q3537 : (Jvm.Cond.privateMethod ({ cls := "SnowPassModel", name := "passNow", desc := "(I)Z" } : Jvm.MethodName)) ∈ lw_tbl := lw_at lw_m15 55 rfl
theorem q3538 : (Jvm.Cond.instanceMethod ({ cls := "SnowPassModel", name := "passNow", desc := "(I)Z" } : Jvm.MethodName)) ∈ lw_all := lw_g (lw_at lw_m15 56 rfl) rfl
theorem q3539 : (Jvm.Cond.code ({ cls := "SnowPassModel", name := "passNow", desc := "(I)Z" } : Jvm.MethodName) prog_17_method_38_code (3 : Nat) (Option.some Jvm.ClassFile.FieldType.boolean)) ∈ lw_all := lw_g (lw_at lw_m15 57 rfl) rfl
theorem q3540 : (Jvm.Cond.methodLink "SnowPassModel" (149 : Nat) ({ cls := "SnowPassModel", name := "crossed", desc := "()I" } : Jvm.MethodName)) ∈ lw_all := lw_g (lw_at lw_m15 58 rfl) rfl
theorem q3541 : (Jvm.Cond.privateMethod ({ cls := "SnowPassModel", name := "crossed", desc := "()I" } : Jvm.MethodName)) ∈ lw_tbl := lw_at lw_m15 59 rfl
theorem q3542 : (Jvm.Cond.instanceMethod ({ cls := "SnowPassModel", name := "crossed", desc := "()I" } : Jvm.MethodName)) ∈ lw_all := lw_g (lw_at lw_m15 60 rfl) rfl
theorem q3543 : (Jvm.Cond.code ({ cls := "SnowPassModel", name := "crossed", desc := "()I" } : Jvm.MethodName) prog_17_method_37_code (1 : Nat) (Option.some Jvm.ClassFile.FieldType.int)) ∈ lw_all := lw_g (lw_at lw_m15 61 rfl) rfl
theorem q3544 : (Jvm.Cond.methodLink "SnowPassModel" (152 : Nat) ({ cls := "SnowPassModel", name := "goBy", desc := "(I)V" } : Jvm.MethodName)) ∈ lw_all := lw_g (lw_at lw_m15 62 rfl) rfl
theorem q3545 : (Jvm.Cond.privateMethod ({ cls := "SnowPassModel", name := "goBy", desc := "(I)V" } : Jvm.MethodName)) ∈ lw_tbl := lw_at lw_m15 63 rfl
theorem q3546 : (Jvm.Cond.instanceMethod ({ cls := "SnowPassModel", name := "goBy", desc := "(I)V" } : Jvm.MethodName)) ∈ lw_all := lw_g (lw_at lw_m15 64 rfl) rfl
theorem q3547 : (Jvm.Cond.code ({ cls := "SnowPassModel", name := "goBy", desc := "(I)V" } : Jvm.MethodName) prog_17_method_36_code (3 : Nat) (Option.none : Option Jvm.ClassFile.FieldType)) ∈ lw_all := lw_g (lw_at lw_m15 65 rfl) rfl
theorem q3548 : (Jvm.Cond.methodLink "SnowPassModel" (146 : Nat) ({ cls := "SnowPassModel", name := "hourOnce", desc := "()V" } : Jvm.MethodName)) ∈ lw_all := lw_g (lw_at lw_m15 66 rfl) rfl
theorem q3549 : (Jvm.Cond.privateMethod ({ cls := "SnowPassModel", name := "hourOnce", desc := "()V" } : Jvm.MethodName)) ∈ lw_tbl := lw_at lw_m15 67 rfl
theorem q3550 : (Jvm.Cond.instanceMethod ({ cls := "SnowPassModel", name := "hourOnce", desc := "()V" } : Jvm.MethodName)) ∈ lw_all := lw_g (lw_at lw_m15 68 rfl) rfl
theorem q3551 : (Jvm.Cond.code ({ cls := "SnowPassModel", name := "hourOnce", desc := "()V" } : Jvm.MethodName) prog_17_method_35_code (2 : Nat) (Option.none : Option Jvm.ClassFile.FieldType)) ∈ lw_all := lw_g (lw_at lw_m15 69 rfl) rfl
theorem q3552 : (Jvm.Cond.methodLink "SnowPassModel" (131 : Nat) ({ cls := "SnowPassModel", name := "melts", desc := "(I)V" } : Jvm.MethodName)) ∈ lw_all := lw_g (lw_at lw_m15 70 rfl) rfl
theorem q3553 : (Jvm.Cond.privateMethod ({ cls := "SnowPassModel", name := "melts", desc := "(I)V" } : Jvm.MethodName)) ∈ lw_tbl := lw_at lw_m15 71 rfl
theorem q3554 : (Jvm.Cond.instanceMethod ({ cls := "SnowPassModel", name := "melts", desc := "(I)V" } : Jvm.MethodName)) ∈ lw_all := lw_g (lw_at lw_m15 72 rfl) rfl
theorem q3555 : (Jvm.Cond.code ({ cls := "SnowPassModel", name := "melts", desc := "(I)V" } : Jvm.MethodName) prog_17_method_30_code (3 : Nat) (Option.none : Option Jvm.ClassFile.FieldType)) ∈ lw_all := lw_g (lw_at lw_m15 73 rfl) rfl
theorem q3556 : (Jvm.Cond.methodLink "SnowPassModel" (99 : Nat) ({ cls := "java/lang/Math", name := "min", desc := "(II)I" } : Jvm.MethodName)) ∈ lw_all := lw_g (lw_at lw_m15 74 rfl) rfl
theorem q3557 : (Jvm.Cond.methodLink "SnowPassModel" (134 : Nat) ({ cls := "SnowPassModel", name := "snows", desc := "(I)V" } : Jvm.MethodName)) ∈ lw_all := lw_g (lw_at lw_m15 75 rfl) rfl
theorem q3558 : (Jvm.Cond.privateMethod ({ cls := "SnowPassModel", name := "snows", desc := "(I)V" } : Jvm.MethodName)) ∈ lw_tbl := lw_at lw_m15 76 rfl
theorem q3559 : (Jvm.Cond.instanceMethod ({ cls := "SnowPassModel", name := "snows", desc := "(I)V" } : Jvm.MethodName)) ∈ lw_all := lw_g (lw_at lw_m15 77 rfl) rfl
theorem q3560 : (Jvm.Cond.code ({ cls := "SnowPassModel", name := "snows", desc := "(I)V" } : Jvm.MethodName) prog_17_method_29_code (3 : Nat) (Option.none : Option Jvm.ClassFile.FieldType)) ∈ lw_all := lw_g (lw_at lw_m15 78 rfl) rfl
theorem q3561 : (Jvm.Cond.methodLink "SnowPassModel" (110 : Nat) ({ cls := "SnowPassModel", name := "isNightNow", desc := "()Z" } : Jvm.MethodName)) ∈ lw_all := lw_g (lw_at lw_m15 79 rfl) rfl
theorem q3562 : (Jvm.Cond.privateMethod ({ cls := "SnowPassModel", name := "isNightNow", desc := "()Z" } : Jvm.MethodName)) ∈ lw_tbl := lw_at lw_m15 80 rfl
theorem q3563 : (Jvm.Cond.instanceMethod ({ cls := "SnowPassModel", name := "isNightNow", desc := "()Z" } : Jvm.MethodName)) ∈ lw_all := lw_g (lw_at lw_m15 81 rfl) rfl
theorem q3564 : (Jvm.Cond.code ({ cls := "SnowPassModel", name := "isNightNow", desc := "()Z" } : Jvm.MethodName) prog_17_method_18_code (2 : Nat) (Option.some Jvm.ClassFile.FieldType.boolean)) ∈ lw_all := lw_g (lw_at lw_m15 82 rfl) rfl
theorem q3565 : (Jvm.Cond.methodLink "SnowPassModel" (95 : Nat) ({ cls := "SnowPassModel", name := "isOpenNow", desc := "()Z" } : Jvm.MethodName)) ∈ lw_all := lw_g (lw_at lw_m15 83 rfl) rfl
theorem q3566 : (Jvm.Cond.privateMethod ({ cls := "SnowPassModel", name := "isOpenNow", desc := "()Z" } : Jvm.MethodName)) ∈ lw_tbl := lw_at lw_m15 84 rfl
theorem q3567 : (Jvm.Cond.instanceMethod ({ cls := "SnowPassModel", name := "isOpenNow", desc := "()Z" } : Jvm.MethodName)) ∈ lw_all := lw_g (lw_at lw_m15 85 rfl) rfl
theorem q3568 : (Jvm.Cond.code ({ cls := "SnowPassModel", name := "isOpenNow", desc := "()Z" } : Jvm.MethodName) prog_17_method_19_code (1 : Nat) (Option.some Jvm.ClassFile.FieldType.boolean)) ∈ lw_all := lw_g (lw_at lw_m15 86 rfl) rfl
theorem q3569 : (Jvm.Cond.methodLink "SnowPassModel" (70 : Nat) ({ cls := "SnowPassModel", name := "ofPlough", desc := "(II)I" } : Jvm.MethodName)) ∈ lw_all := lw_g (lw_at lw_m15 87 rfl) rfl
theorem q3570 : (Jvm.Cond.privateMethod ({ cls := "SnowPassModel", name := "ofPlough", desc := "(II)I" } : Jvm.MethodName)) ∈ lw_tbl := lw_at lw_m15 88 rfl
theorem q3571 : (Jvm.Cond.instanceMethod ({ cls := "SnowPassModel", name := "ofPlough", desc := "(II)I" } : Jvm.MethodName)) ∈ lw_all := lw_g (lw_at lw_m15 89 rfl) rfl
theorem q3572 : (Jvm.Cond.code ({ cls := "SnowPassModel", name := "ofPlough", desc := "(II)I" } : Jvm.MethodName) prog_17_method_12_code (3 : Nat) (Option.some Jvm.ClassFile.FieldType.int)) ∈ lw_all := lw_g (lw_at lw_m15 90 rfl) rfl
theorem q3573 : (Jvm.Cond.methodLink "SnowPassModel" (120 : Nat) ({ cls := "SnowPassModel", name := "depthNow", desc := "()I" } : Jvm.MethodName)) ∈ lw_all := lw_g (lw_at lw_m15 91 rfl) rfl
theorem q3574 : (Jvm.Cond.privateMethod ({ cls := "SnowPassModel", name := "depthNow", desc := "()I" } : Jvm.MethodName)) ∈ lw_tbl := lw_at lw_m15 92 rfl
theorem q3575 : (Jvm.Cond.instanceMethod ({ cls := "SnowPassModel", name := "depthNow", desc := "()I" } : Jvm.MethodName)) ∈ lw_all := lw_g (lw_at lw_m15 93 rfl) rfl
theorem q3576 : (Jvm.Cond.code ({ cls := "SnowPassModel", name := "depthNow", desc := "()I" } : Jvm.MethodName) prog_17_method_21_code (1 : Nat) (Option.some Jvm.ClassFile.FieldType.int)) ∈ lw_all := lw_g (lw_at lw_m15 94 rfl) rfl
theorem q3577 : (Jvm.Cond.methodLink "SnowPassModel" (73 : Nat) ({ cls := "SnowPassModel", name := "deepest", desc := "()I" } : Jvm.MethodName)) ∈ lw_all := lw_g (lw_at lw_m15 95 rfl) rfl
theorem q3578 : (Jvm.Cond.privateMethod ({ cls := "SnowPassModel", name := "deepest", desc := "()I" } : Jvm.MethodName)) ∈ lw_tbl := lw_at lw_m15 96 rfl
theorem q3579 : (Jvm.Cond.instanceMethod ({ cls := "SnowPassModel", name := "deepest", desc := "()I" } : Jvm.MethodName)) ∈ lw_all := lw_g (lw_at lw_m15 97 rfl) rfl
theorem q3580 : (Jvm.Cond.code ({ cls := "SnowPassModel", name := "deepest", desc := "()I" } : Jvm.MethodName) prog_17_method_20_code (3 : Nat) (Option.some Jvm.ClassFile.FieldType.int)) ∈ lw_all := lw_g (lw_at lw_m15 98 rfl) rfl
theorem q3581 : (Jvm.Cond.methodLink "SnowPassModel" (137 : Nat) ({ cls := "SnowPassModel", name := "closes", desc := "()V" } : Jvm.MethodName)) ∈ lw_all := lw_g (lw_at lw_m15 99 rfl) rfl
theorem q3582 : (Jvm.Cond.privateMethod ({ cls := "SnowPassModel", name := "closes", desc := "()V" } : Jvm.MethodName)) ∈ lw_tbl := lw_at lw_m15 100 rfl
theorem q3583 : (Jvm.Cond.instanceMethod ({ cls := "SnowPassModel", name := "closes", desc := "()V" } : Jvm.MethodName)) ∈ lw_all := lw_g (lw_at lw_m15 101 rfl) rfl
theorem q3584 : (Jvm.Cond.code ({ cls := "SnowPassModel", name := "closes", desc := "()V" } : Jvm.MethodName) prog_17_method_31_code (1 : Nat) (Option.none : Option Jvm.ClassFile.FieldType)) ∈ lw_all := lw_g (lw_at lw_m15 102 rfl) rfl
theorem q3585 : (Jvm.Cond.methodLink "SnowPassModel" (91 : Nat) ({ cls := "SnowPassModel", name := "enters", desc := "(I)V" } : Jvm.MethodName)) ∈ lw_all := lw_g (lw_at lw_m15 103 rfl) rfl
theorem q3586 : (Jvm.Cond.privateMethod ({ cls := "SnowPassModel", name := "enters", desc := "(I)V" } : Jvm.MethodName)) ∈ lw_tbl := lw_at lw_m15 104 rfl
theorem q3587 : (Jvm.Cond.instanceMethod ({ cls := "SnowPassModel", name := "enters", desc := "(I)V" } : Jvm.MethodName)) ∈ lw_all := lw_g (lw_at lw_m15 105 rfl) rfl
theorem q3588 : (Jvm.Cond.code ({ cls := "SnowPassModel", name := "enters", desc := "(I)V" } : Jvm.MethodName) prog_17_method_25_code (3 : Nat) (Option.none : Option Jvm.ClassFile.FieldType)) ∈ lw_all := lw_g (lw_at lw_m15 106 rfl) rfl
theorem q3589 : (Jvm.Cond.methodLink "SnowPassModel" (113 : Nat) ({ cls := "SnowPassModel", name := "sendsBack", desc := "(I)V" } : Jvm.MethodName)) ∈ lw_all := lw_g (lw_at lw_m15 107 rfl) rfl
theorem q3590 : (Jvm.Cond.privateMethod ({ cls := "SnowPassModel", name := "sendsBack", desc := "(I)V" } : Jvm.MethodName)) ∈ lw_tbl := lw_at lw_m15 108 rfl
theorem q3591 : (Jvm.Cond.instanceMethod ({ cls := "SnowPassModel", name := "sendsBack", desc := "(I)V" } : Jvm.MethodName)) ∈ lw_all := lw_g (lw_at lw_m15 109 rfl) rfl
theorem q3592 : (Jvm.Cond.code ({ cls := "SnowPassModel", name := "sendsBack", desc := "(I)V" } : Jvm.MethodName) prog_17_method_26_code (3 : Nat) (Option.none : Option Jvm.ClassFile.FieldType)) ∈ lw_all := lw_g (lw_at lw_m15 110 rfl) rfl
theorem q3593 : (Jvm.Cond.methodLink "SnowPassModel" (80 : Nat) ({ cls := "SnowPassModel", name := "isClearNow", desc := "(I)Z" } : Jvm.MethodName)) ∈ lw_all := lw_g (lw_at lw_m15 111 rfl) rfl
theorem q3594 : (Jvm.Cond.privateMethod ({ cls := "SnowPassModel", name := "isClearNow", desc := "(I)Z" } : Jvm.MethodName)) ∈ lw_tbl := lw_at lw_m15 112 rfl
theorem q3595 : (Jvm.Cond.instanceMethod ({ cls := "SnowPassModel", name := "isClearNow", desc := "(I)Z" } : Jvm.MethodName)) ∈ lw_all := lw_g (lw_at lw_m15 113 rfl) rfl
theorem q3596 : (Jvm.Cond.code ({ cls := "SnowPassModel", name := "isClearNow", desc := "(I)Z" } : Jvm.MethodName) prog_17_method_17_code (2 : Nat) (Option.some Jvm.ClassFile.FieldType.boolean)) ∈ lw_all := lw_g (lw_at lw_m15 114 rfl) rfl
theorem q3597 : (Jvm.Cond.methodLink "SnowPassModel" (84 : Nat) ({ cls := "SnowPassModel", name := "stepOf", desc := "(I)I" } : Jvm.MethodName)) ∈ lw_all := lw_g (lw_at lw_m15 115 rfl) rfl
theorem q3598 : (Jvm.Cond.static ({ cls := "SnowPassModel", name := "stepOf", desc := "(I)I" } : Jvm.MethodName)) ∈ lw_all := lw_g (lw_at lw_m15 116 rfl) rfl
theorem q3599 : (Jvm.Cond.code ({ cls := "SnowPassModel", name := "stepOf", desc := "(I)I" } : Jvm.MethodName) prog_17_method_23_code (1 : Nat) (Option.some Jvm.ClassFile.FieldType.int)) ∈ lw_all := lw_g (lw_at lw_m15 117 rfl) rfl
theorem q3600 : (Jvm.Cond.methodLink "SnowPassModel" (140 : Nat) ({ cls := "SnowPassModel", name := "works", desc := "(I)V" } : Jvm.MethodName)) ∈ lw_all := lw_g (lw_at lw_m15 118 rfl) rfl
theorem q3601 : (Jvm.Cond.privateMethod ({ cls := "SnowPassModel", name := "works", desc := "(I)V" } : Jvm.MethodName)) ∈ lw_tbl := lw_at lw_m15 119 rfl
theorem q3602 : (Jvm.Cond.instanceMethod ({ cls := "SnowPassModel", name := "works", desc := "(I)V" } : Jvm.MethodName)) ∈ lw_all := lw_g (lw_at lw_m15 120 rfl) rfl
theorem q3603 : (Jvm.Cond.code ({ cls := "SnowPassModel", name := "works", desc := "(I)V" } : Jvm.MethodName) prog_17_method_28_code (4 : Nat) (Option.none : Option Jvm.ClassFile.FieldType)) ∈ lw_all := lw_g (lw_at lw_m15 121 rfl) rfl
theorem q3604 : (Jvm.Cond.methodLink "SnowPassModel" (107 : Nat) ({ cls := "SnowPassModel", name := "signs", desc := "(I)V" } : Jvm.MethodName)) ∈ lw_all := lw_g (lw_at lw_m15 122 rfl) rfl
theorem q3605 : (Jvm.Cond.privateMethod ({ cls := "SnowPassModel", name := "signs", desc := "(I)V" } : Jvm.MethodName)) ∈ lw_tbl := lw_at lw_m15 123 rfl
theorem q3606 : (Jvm.Cond.instanceMethod ({ cls := "SnowPassModel", name := "signs", desc := "(I)V" } : Jvm.MethodName)) ∈ lw_all := lw_g (lw_at lw_m15 124 rfl) rfl
theorem q3607 : (Jvm.Cond.code ({ cls := "SnowPassModel", name := "signs", desc := "(I)V" } : Jvm.MethodName) prog_17_method_27_code (2 : Nat) (Option.none : Option Jvm.ClassFile.FieldType)) ∈ lw_all := lw_g (lw_at lw_m15 125 rfl) rfl
theorem q3608 : (Jvm.Cond.methodLink "SnowPassModel" (143 : Nat) ({ cls := "SnowPassModel", name := "crosses", desc := "(I)V" } : Jvm.MethodName)) ∈ lw_all := lw_g (lw_at lw_m15 126 rfl) rfl
theorem q3609 : (Jvm.Cond.privateMethod ({ cls := "SnowPassModel", name := "crosses", desc := "(I)V" } : Jvm.MethodName)) ∈ lw_tbl := lw_at lw_m15 127 rfl
theorem q3610 : (Jvm.Cond.instanceMethod ({ cls := "SnowPassModel", name := "crosses", desc := "(I)V" } : Jvm.MethodName)) ∈ lw_all := lw_g (lw_at lw_m15 128 rfl) rfl
theorem q3611 : (Jvm.Cond.code ({ cls := "SnowPassModel", name := "crosses", desc := "(I)V" } : Jvm.MethodName) prog_17_method_34_code (2 : Nat) (Option.none : Option Jvm.ClassFile.FieldType)) ∈ lw_all := lw_g (lw_at lw_m15 129 rfl) rfl
theorem q3612 : (Jvm.Cond.methodLink "SnowPassModel" (123 : Nat) ({ cls := "SnowPassModel", name := "mayCross", desc := "(II)Z" } : Jvm.MethodName)) ∈ lw_all := lw_g (lw_at lw_m15 130 rfl) rfl
theorem q3613 : (Jvm.Cond.privateMethod ({ cls := "SnowPassModel", name := "mayCross", desc := "(II)Z" } : Jvm.MethodName)) ∈ lw_tbl := lw_at lw_m15 131 rfl
theorem q3614 : (Jvm.Cond.instanceMethod ({ cls := "SnowPassModel", name := "mayCross", desc := "(II)Z" } : Jvm.MethodName)) ∈ lw_all := lw_g (lw_at lw_m15 132 rfl) rfl
theorem q3615 : (Jvm.Cond.code ({ cls := "SnowPassModel", name := "mayCross", desc := "(II)Z" } : Jvm.MethodName) prog_17_method_32_code (3 : Nat) (Option.some Jvm.ClassFile.FieldType.boolean)) ∈ lw_all := lw_g (lw_at lw_m15 133 rfl) rfl
theorem q3616 : (Jvm.Cond.methodLink "SnowPassModel" (116 : Nat) ({ cls := "SnowPassModel", name := "cartAt", desc := "(III)I" } : Jvm.MethodName)) ∈ lw_all := lw_g (lw_at lw_m15 134 rfl) rfl
theorem q3617 : (Jvm.Cond.privateMethod ({ cls := "SnowPassModel", name := "cartAt", desc := "(III)I" } : Jvm.MethodName)) ∈ lw_tbl := lw_at lw_m15 135 rfl
theorem q3618 : (Jvm.Cond.instanceMethod ({ cls := "SnowPassModel", name := "cartAt", desc := "(III)I" } : Jvm.MethodName)) ∈ lw_all := lw_g (lw_at lw_m15 136 rfl) rfl
theorem q3619 : (Jvm.Cond.code ({ cls := "SnowPassModel", name := "cartAt", desc := "(III)I" } : Jvm.MethodName) prog_17_method_14_code (4 : Nat) (Option.some Jvm.ClassFile.FieldType.int)) ∈ lw_all := lw_g (lw_at lw_m15 137 rfl) rfl
theorem q3620 : (Jvm.Cond.methodLink "SnowPassModel" (127 : Nat) ({ cls := "SnowPassModel", name := "cartGoes", desc := "(II)V" } : Jvm.MethodName)) ∈ lw_all := lw_g (lw_at lw_m15 138 rfl) rfl
theorem q3621 : (Jvm.Cond.privateMethod ({ cls := "SnowPassModel", name := "cartGoes", desc := "(II)V" } : Jvm.MethodName)) ∈ lw_tbl := lw_at lw_m15 139 rfl
theorem q3622 : (Jvm.Cond.instanceMethod ({ cls := "SnowPassModel", name := "cartGoes", desc := "(II)V" } : Jvm.MethodName)) ∈ lw_all := lw_g (lw_at lw_m15 140 rfl) rfl
theorem q3623 : (Jvm.Cond.code ({ cls := "SnowPassModel", name := "cartGoes", desc := "(II)V" } : Jvm.MethodName) prog_17_method_33_code (5 : Nat) (Option.none : Option Jvm.ClassFile.FieldType)) ∈ lw_all := lw_g (lw_at lw_m15 141 rfl) rfl
theorem q3624 : (Jvm.Cond.methodLink "SnowPassModel" (304 : Nat) ({ cls := "SnowPassModel", name := "saltNow", desc := "(I)Z" } : Jvm.MethodName)) ∈ lw_all := lw_g (lw_at lw_m15 142 rfl) rfl
theorem q3625 : (Jvm.Cond.privateMethod ({ cls := "SnowPassModel", name := "saltNow", desc := "(I)Z" } : Jvm.MethodName)) ∈ lw_tbl := lw_at lw_m15 143 rfl
theorem q3626 : (Jvm.Cond.instanceMethod ({ cls := "SnowPassModel", name := "saltNow", desc := "(I)Z" } : Jvm.MethodName)) ∈ lw_all := lw_g (lw_at lw_m15 144 rfl) rfl
theorem q3627 : (Jvm.Cond.code ({ cls := "SnowPassModel", name := "saltNow", desc := "(I)Z" } : Jvm.MethodName) prog_17_method_39_code (3 : Nat) (Option.some Jvm.ClassFile.FieldType.boolean)) ∈ lw_all := lw_g (lw_at lw_m15 145 rfl) rfl
theorem q3628 : (Jvm.Cond.methodLink "SnowPassModel" (307 : Nat) ({ cls := "SnowPassModel", name := "recallNow", desc := "(I)Z" } : Jvm.MethodName)) ∈ lw_all := lw_g (lw_at lw_m15 146 rfl) rfl
theorem q3629 : (Jvm.Cond.privateMethod ({ cls := "SnowPassModel", name := "recallNow", desc := "(I)Z" } : Jvm.MethodName)) ∈ lw_tbl := lw_at lw_m15 147 rfl
theorem q3630 : (Jvm.Cond.instanceMethod ({ cls := "SnowPassModel", name := "recallNow", desc := "(I)Z" } : Jvm.MethodName)) ∈ lw_all := lw_g (lw_at lw_m15 148 rfl) rfl
theorem q3631 : (Jvm.Cond.code ({ cls := "SnowPassModel", name := "recallNow", desc := "(I)Z" } : Jvm.MethodName) prog_17_method_40_code (2 : Nat) (Option.some Jvm.ClassFile.FieldType.boolean)) ∈ lw_all := lw_g (lw_at lw_m15 149 rfl) rfl
theorem q3632 : (Jvm.Cond.methodLink "SnowPassModel" (310 : Nat) ({ cls := "SnowPassModel", name := "sacksNow", desc := "(II)Z" } : Jvm.MethodName)) ∈ lw_all := lw_g (lw_at lw_m15 150 rfl) rfl
theorem q3633 : (Jvm.Cond.privateMethod ({ cls := "SnowPassModel", name := "sacksNow", desc := "(II)Z" } : Jvm.MethodName)) ∈ lw_tbl := lw_at lw_m15 151 rfl
theorem q3634 : (Jvm.Cond.instanceMethod ({ cls := "SnowPassModel", name := "sacksNow", desc := "(II)Z" } : Jvm.MethodName)) ∈ lw_all := lw_g (lw_at lw_m15 152 rfl) rfl
theorem q3635 : (Jvm.Cond.code ({ cls := "SnowPassModel", name := "sacksNow", desc := "(II)Z" } : Jvm.MethodName) prog_17_method_41_code (3 : Nat) (Option.some Jvm.ClassFile.FieldType.boolean)) ∈ lw_all := lw_g (lw_at lw_m15 153 rfl) rfl
theorem q3636 : (Jvm.Cond.methodLink "SnowPassModel" (313 : Nat) ({ cls := "SnowPassModel", name := "setNow", desc := "(II)Z" } : Jvm.MethodName)) ∈ lw_all := lw_g (lw_at lw_m15 154 rfl) rfl
theorem q3637 : (Jvm.Cond.privateMethod ({ cls := "SnowPassModel", name := "setNow", desc := "(II)Z" } : Jvm.MethodName)) ∈ lw_tbl := lw_at lw_m15 155 rfl
theorem q3638 : (Jvm.Cond.instanceMethod ({ cls := "SnowPassModel", name := "setNow", desc := "(II)Z" } : Jvm.MethodName)) ∈ lw_all := lw_g (lw_at lw_m15 156 rfl) rfl
theorem q3639 : (Jvm.Cond.code ({ cls := "SnowPassModel", name := "setNow", desc := "(II)Z" } : Jvm.MethodName) prog_17_method_42_code (3 : Nat) (Option.some Jvm.ClassFile.FieldType.boolean)) ∈ lw_all := lw_g (lw_at lw_m15 157 rfl) rfl
theorem q3640 : (Jvm.Cond.methodLink "SnowPassModel" (316 : Nat) ({ cls := "SnowPassModel", name := "cancelNow", desc := "(I)Z" } : Jvm.MethodName)) ∈ lw_all := lw_g (lw_at lw_m15 158 rfl) rfl
theorem q3641 : (Jvm.Cond.privateMethod ({ cls := "SnowPassModel", name := "cancelNow", desc := "(I)Z" } : Jvm.MethodName)) ∈ lw_tbl := lw_at lw_m15 159 rfl
theorem q3642 : (Jvm.Cond.instanceMethod ({ cls := "SnowPassModel", name := "cancelNow", desc := "(I)Z" } : Jvm.MethodName)) ∈ lw_all := lw_g (lw_at lw_m15 160 rfl) rfl
theorem q3643 : (Jvm.Cond.code ({ cls := "SnowPassModel", name := "cancelNow", desc := "(I)Z" } : Jvm.MethodName) prog_17_method_47_code (3 : Nat) (Option.some Jvm.ClassFile.FieldType.boolean)) ∈ lw_all := lw_g (lw_at lw_m15 161 rfl) rfl
theorem q3644 : (Jvm.Cond.methodLink "SnowPassModel" (161 : Nat) ({ cls := "SnowPassModel", name := "sideOf", desc := "(I)I" } : Jvm.MethodName)) ∈ lw_all := lw_g (lw_at lw_m15 162 rfl) rfl
theorem q3645 : (Jvm.Cond.privateMethod ({ cls := "SnowPassModel", name := "sideOf", desc := "(I)I" } : Jvm.MethodName)) ∈ lw_tbl := lw_at lw_m15 163 rfl
theorem q3646 : (Jvm.Cond.instanceMethod ({ cls := "SnowPassModel", name := "sideOf", desc := "(I)I" } : Jvm.MethodName)) ∈ lw_all := lw_g (lw_at lw_m15 164 rfl) rfl
theorem q3647 : (Jvm.Cond.code ({ cls := "SnowPassModel", name := "sideOf", desc := "(I)I" } : Jvm.MethodName) prog_17_method_45_code (2 : Nat) (Option.some Jvm.ClassFile.FieldType.int)) ∈ lw_all := lw_g (lw_at lw_m15 165 rfl) rfl
theorem q3648 : (Jvm.Cond.methodLink "SnowPassModel" (158 : Nat) ({ cls := "SnowPassModel", name := "placeOf", desc := "(II)I" } : Jvm.MethodName)) ∈ lw_all := lw_g (lw_at lw_m15 166 rfl) rfl
theorem q3649 : (Jvm.Cond.privateMethod ({ cls := "SnowPassModel", name := "placeOf", desc := "(II)I" } : Jvm.MethodName)) ∈ lw_tbl := lw_at lw_m15 167 rfl
theorem q3650 : (Jvm.Cond.instanceMethod ({ cls := "SnowPassModel", name := "placeOf", desc := "(II)I" } : Jvm.MethodName)) ∈ lw_all := lw_g (lw_at lw_m15 168 rfl) rfl
theorem q3651 : (Jvm.Cond.code ({ cls := "SnowPassModel", name := "placeOf", desc := "(II)I" } : Jvm.MethodName) prog_17_method_44_code (4 : Nat) (Option.some Jvm.ClassFile.FieldType.int)) ∈ lw_all := lw_g (lw_at lw_m15 169 rfl) rfl
theorem q3653 : (Jvm.Cond.instanceMethod ({ cls := "SnowPassModel", name := "segmentCount", desc := "()I" } : Jvm.MethodName)) ∈ lw_all := lw_g (lw_at lw_m15 171 rfl) rfl
theorem q3654 : (Jvm.Cond.selects "SnowPassModel" ({ cls := "SnowPassModel", name := "segmentCount", desc := "()I" } : Jvm.MethodName) ({ cls := "SnowPassModel", name := "segmentCount", desc := "()I" } : Jvm.MethodName)) ∈ lw_all := lw_g (lw_at lw_m15 172 rfl) rfl
theorem q3655 : (Jvm.Cond.code ({ cls := "SnowPassModel", name := "segmentCount", desc := "()I" } : Jvm.MethodName) prog_17_method_80_code (1 : Nat) (Option.some Jvm.ClassFile.FieldType.int)) ∈ lw_all := lw_g (lw_at lw_m15 173 rfl) rfl
theorem q3656 : (Jvm.Cond.methodLink "SnowPassModel" (329 : Nat) ({ cls := "SnowPassModel", name := "tells", desc := "(I)I" } : Jvm.MethodName)) ∈ lw_all := lw_g (lw_at lw_m15 174 rfl) rfl
theorem q3657 : (Jvm.Cond.privateMethod ({ cls := "SnowPassModel", name := "tells", desc := "(I)I" } : Jvm.MethodName)) ∈ lw_tbl := lw_at lw_m15 175 rfl
theorem q3658 : (Jvm.Cond.instanceMethod ({ cls := "SnowPassModel", name := "tells", desc := "(I)I" } : Jvm.MethodName)) ∈ lw_all := lw_g (lw_at lw_m15 176 rfl) rfl
theorem q3659 : (Jvm.Cond.code ({ cls := "SnowPassModel", name := "tells", desc := "(I)I" } : Jvm.MethodName) prog_17_method_79_code (2 : Nat) (Option.some Jvm.ClassFile.FieldType.int)) ∈ lw_all := lw_g (lw_at lw_m15 177 rfl) rfl
theorem q3661 : (Jvm.Cond.instanceMethod ({ cls := "SnowPassModel", name := "summit", desc := "()I" } : Jvm.MethodName)) ∈ lw_all := lw_g (lw_at lw_m15 179 rfl) rfl
theorem q3662 : (Jvm.Cond.selects "SnowPassModel" ({ cls := "SnowPassModel", name := "summit", desc := "()I" } : Jvm.MethodName) ({ cls := "SnowPassModel", name := "summit", desc := "()I" } : Jvm.MethodName)) ∈ lw_all := lw_g (lw_at lw_m15 180 rfl) rfl
theorem q3663 : (Jvm.Cond.code ({ cls := "SnowPassModel", name := "summit", desc := "()I" } : Jvm.MethodName) prog_17_method_81_code (1 : Nat) (Option.some Jvm.ClassFile.FieldType.int)) ∈ lw_all := lw_g (lw_at lw_m15 181 rfl) rfl
theorem q3665 : (Jvm.Cond.instanceMethod ({ cls := "SnowPassModel", name := "clock", desc := "()I" } : Jvm.MethodName)) ∈ lw_all := lw_g (lw_at lw_m15 183 rfl) rfl
theorem q3666 : (Jvm.Cond.selects "SnowPassModel" ({ cls := "SnowPassModel", name := "clock", desc := "()I" } : Jvm.MethodName) ({ cls := "SnowPassModel", name := "clock", desc := "()I" } : Jvm.MethodName)) ∈ lw_all := lw_g (lw_at lw_m15 184 rfl) rfl
theorem q3667 : (Jvm.Cond.code ({ cls := "SnowPassModel", name := "clock", desc := "()I" } : Jvm.MethodName) prog_17_method_82_code (1 : Nat) (Option.some Jvm.ClassFile.FieldType.int)) ∈ lw_all := lw_g (lw_at lw_m15 185 rfl) rfl
theorem q3669 : (Jvm.Cond.instanceMethod ({ cls := "SnowPassModel", name := "isNight", desc := "()Z" } : Jvm.MethodName)) ∈ lw_all := lw_g (lw_at lw_m15 187 rfl) rfl
theorem q3670 : (Jvm.Cond.selects "SnowPassModel" ({ cls := "SnowPassModel", name := "isNight", desc := "()Z" } : Jvm.MethodName) ({ cls := "SnowPassModel", name := "isNight", desc := "()Z" } : Jvm.MethodName)) ∈ lw_all := lw_g (lw_at lw_m15 188 rfl) rfl
theorem q3671 : (Jvm.Cond.code ({ cls := "SnowPassModel", name := "isNight", desc := "()Z" } : Jvm.MethodName) prog_17_method_83_code (1 : Nat) (Option.some Jvm.ClassFile.FieldType.boolean)) ∈ lw_all := lw_g (lw_at lw_m15 189 rfl) rfl
theorem q3673 : (Jvm.Cond.instanceMethod ({ cls := "SnowPassModel", name := "depthOf", desc := "(I)I" } : Jvm.MethodName)) ∈ lw_all := lw_g (lw_at lw_m15 191 rfl) rfl
theorem q3674 : (Jvm.Cond.selects "SnowPassModel" ({ cls := "SnowPassModel", name := "depthOf", desc := "(I)I" } : Jvm.MethodName) ({ cls := "SnowPassModel", name := "depthOf", desc := "(I)I" } : Jvm.MethodName)) ∈ lw_all := lw_g (lw_at lw_m15 192 rfl) rfl
theorem q3675 : (Jvm.Cond.code ({ cls := "SnowPassModel", name := "depthOf", desc := "(I)I" } : Jvm.MethodName) prog_17_method_84_code (2 : Nat) (Option.some Jvm.ClassFile.FieldType.int)) ∈ lw_all := lw_g (lw_at lw_m15 193 rfl) rfl
theorem q3676 : (Jvm.Cond.methodLink "SnowPassModel" (332 : Nat) ({ cls := "SnowPassModel", name := "isSegment", desc := "(I)Z" } : Jvm.MethodName)) ∈ lw_all := lw_g (lw_at lw_m15 194 rfl) rfl
theorem q3677 : (Jvm.Cond.privateMethod ({ cls := "SnowPassModel", name := "isSegment", desc := "(I)Z" } : Jvm.MethodName)) ∈ lw_tbl := lw_at lw_m15 195 rfl
theorem q3678 : (Jvm.Cond.instanceMethod ({ cls := "SnowPassModel", name := "isSegment", desc := "(I)Z" } : Jvm.MethodName)) ∈ lw_all := lw_g (lw_at lw_m15 196 rfl) rfl
theorem q3679 : (Jvm.Cond.code ({ cls := "SnowPassModel", name := "isSegment", desc := "(I)Z" } : Jvm.MethodName) prog_17_method_15_code (2 : Nat) (Option.some Jvm.ClassFile.FieldType.boolean)) ∈ lw_all := lw_g (lw_at lw_m15 197 rfl) rfl
theorem q3681 : (Jvm.Cond.instanceMethod ({ cls := "SnowPassModel", name := "exposureOf", desc := "(I)I" } : Jvm.MethodName)) ∈ lw_all := lw_g (lw_at lw_m15 199 rfl) rfl
theorem q3682 : (Jvm.Cond.selects "SnowPassModel" ({ cls := "SnowPassModel", name := "exposureOf", desc := "(I)I" } : Jvm.MethodName) ({ cls := "SnowPassModel", name := "exposureOf", desc := "(I)I" } : Jvm.MethodName)) ∈ lw_all := lw_g (lw_at lw_m15 200 rfl) rfl
theorem q3683 : (Jvm.Cond.code ({ cls := "SnowPassModel", name := "exposureOf", desc := "(I)I" } : Jvm.MethodName) prog_17_method_85_code (2 : Nat) (Option.some Jvm.ClassFile.FieldType.int)) ∈ lw_all := lw_g (lw_at lw_m15 201 rfl) rfl
theorem q3685 : (Jvm.Cond.instanceMethod ({ cls := "SnowPassModel", name := "saltHours", desc := "(I)I" } : Jvm.MethodName)) ∈ lw_all := lw_g (lw_at lw_m15 203 rfl) rfl
theorem q3686 : (Jvm.Cond.selects "SnowPassModel" ({ cls := "SnowPassModel", name := "saltHours", desc := "(I)I" } : Jvm.MethodName) ({ cls := "SnowPassModel", name := "saltHours", desc := "(I)I" } : Jvm.MethodName)) ∈ lw_all := lw_g (lw_at lw_m15 204 rfl) rfl
theorem q3687 : (Jvm.Cond.code ({ cls := "SnowPassModel", name := "saltHours", desc := "(I)I" } : Jvm.MethodName) prog_17_method_86_code (2 : Nat) (Option.some Jvm.ClassFile.FieldType.int)) ∈ lw_all := lw_g (lw_at lw_m15 205 rfl) rfl
theorem q3689 : (Jvm.Cond.instanceMethod ({ cls := "SnowPassModel", name := "isClear", desc := "(I)Z" } : Jvm.MethodName)) ∈ lw_all := lw_g (lw_at lw_m15 207 rfl) rfl
theorem q3690 : (Jvm.Cond.selects "SnowPassModel" ({ cls := "SnowPassModel", name := "isClear", desc := "(I)Z" } : Jvm.MethodName) ({ cls := "SnowPassModel", name := "isClear", desc := "(I)Z" } : Jvm.MethodName)) ∈ lw_all := lw_g (lw_at lw_m15 208 rfl) rfl
theorem q3691 : (Jvm.Cond.code ({ cls := "SnowPassModel", name := "isClear", desc := "(I)Z" } : Jvm.MethodName) prog_17_method_87_code (2 : Nat) (Option.some Jvm.ClassFile.FieldType.boolean)) ∈ lw_all := lw_g (lw_at lw_m15 209 rfl) rfl
theorem q3693 : (Jvm.Cond.instanceMethod ({ cls := "SnowPassModel", name := "snowfall", desc := "()I" } : Jvm.MethodName)) ∈ lw_all := lw_g (lw_at lw_m15 211 rfl) rfl
theorem q3694 : (Jvm.Cond.selects "SnowPassModel" ({ cls := "SnowPassModel", name := "snowfall", desc := "()I" } : Jvm.MethodName) ({ cls := "SnowPassModel", name := "snowfall", desc := "()I" } : Jvm.MethodName)) ∈ lw_all := lw_g (lw_at lw_m15 212 rfl) rfl
theorem q3695 : (Jvm.Cond.code ({ cls := "SnowPassModel", name := "snowfall", desc := "()I" } : Jvm.MethodName) prog_17_method_88_code (1 : Nat) (Option.some Jvm.ClassFile.FieldType.int)) ∈ lw_all := lw_g (lw_at lw_m15 213 rfl) rfl
theorem q3697 : (Jvm.Cond.instanceMethod ({ cls := "SnowPassModel", name := "wind", desc := "()I" } : Jvm.MethodName)) ∈ lw_all := lw_g (lw_at lw_m15 215 rfl) rfl
theorem q3698 : (Jvm.Cond.selects "SnowPassModel" ({ cls := "SnowPassModel", name := "wind", desc := "()I" } : Jvm.MethodName) ({ cls := "SnowPassModel", name := "wind", desc := "()I" } : Jvm.MethodName)) ∈ lw_all := lw_g (lw_at lw_m15 216 rfl) rfl
theorem q3699 : (Jvm.Cond.code ({ cls := "SnowPassModel", name := "wind", desc := "()I" } : Jvm.MethodName) prog_17_method_89_code (1 : Nat) (Option.some Jvm.ClassFile.FieldType.int)) ∈ lw_all := lw_g (lw_at lw_m15 217 rfl) rfl
theorem q3701 : (Jvm.Cond.instanceMethod ({ cls := "SnowPassModel", name := "clearCount", desc := "()I" } : Jvm.MethodName)) ∈ lw_all := lw_g (lw_at lw_m15 219 rfl) rfl
theorem q3702 : (Jvm.Cond.selects "SnowPassModel" ({ cls := "SnowPassModel", name := "clearCount", desc := "()I" } : Jvm.MethodName) ({ cls := "SnowPassModel", name := "clearCount", desc := "()I" } : Jvm.MethodName)) ∈ lw_all := lw_g (lw_at lw_m15 220 rfl) rfl
theorem q3703 : (Jvm.Cond.code ({ cls := "SnowPassModel", name := "clearCount", desc := "()I" } : Jvm.MethodName) prog_17_method_91_code (1 : Nat) (Option.some Jvm.ClassFile.FieldType.int)) ∈ lw_all := lw_g (lw_at lw_m15 221 rfl) rfl
theorem q3704 : (Jvm.Cond.methodLink "SnowPassModel" (339 : Nat) ({ cls := "SnowPassModel", name := "clears", desc := "()I" } : Jvm.MethodName)) ∈ lw_all := lw_g (lw_at lw_m15 222 rfl) rfl
theorem q3705 : (Jvm.Cond.privateMethod ({ cls := "SnowPassModel", name := "clears", desc := "()I" } : Jvm.MethodName)) ∈ lw_tbl := lw_at lw_m15 223 rfl
theorem q3706 : (Jvm.Cond.instanceMethod ({ cls := "SnowPassModel", name := "clears", desc := "()I" } : Jvm.MethodName)) ∈ lw_all := lw_g (lw_at lw_m15 224 rfl) rfl
theorem q3707 : (Jvm.Cond.code ({ cls := "SnowPassModel", name := "clears", desc := "()I" } : Jvm.MethodName) prog_17_method_90_code (3 : Nat) (Option.some Jvm.ClassFile.FieldType.int)) ∈ lw_all := lw_g (lw_at lw_m15 225 rfl) rfl
theorem q3708 : (Jvm.Cond.methodLink "SnowPassModel" (335 : Nat) ({ cls := "SnowPassModel", name := "truth", desc := "(Z)I" } : Jvm.MethodName)) ∈ lw_all := lw_g (lw_at lw_m15 226 rfl) rfl
theorem q3709 : (Jvm.Cond.static ({ cls := "SnowPassModel", name := "truth", desc := "(Z)I" } : Jvm.MethodName)) ∈ lw_all := lw_g (lw_at lw_m15 227 rfl) rfl
theorem q3710 : (Jvm.Cond.code ({ cls := "SnowPassModel", name := "truth", desc := "(Z)I" } : Jvm.MethodName) prog_17_method_4_code (1 : Nat) (Option.some Jvm.ClassFile.FieldType.int)) ∈ lw_all := lw_g (lw_at lw_m15 228 rfl) rfl
theorem q3712 : (Jvm.Cond.instanceMethod ({ cls := "SnowPassModel", name := "deepestSegment", desc := "()I" } : Jvm.MethodName)) ∈ lw_all := lw_g (lw_at lw_m15 230 rfl) rfl
theorem q3713 : (Jvm.Cond.selects "SnowPassModel" ({ cls := "SnowPassModel", name := "deepestSegment", desc := "()I" } : Jvm.MethodName) ({ cls := "SnowPassModel", name := "deepestSegment", desc := "()I" } : Jvm.MethodName)) ∈ lw_all := lw_g (lw_at lw_m15 231 rfl) rfl
theorem q3714 : (Jvm.Cond.code ({ cls := "SnowPassModel", name := "deepestSegment", desc := "()I" } : Jvm.MethodName) prog_17_method_92_code (1 : Nat) (Option.some Jvm.ClassFile.FieldType.int)) ∈ lw_all := lw_g (lw_at lw_m15 232 rfl) rfl
theorem q3716 : (Jvm.Cond.instanceMethod ({ cls := "SnowPassModel", name := "totalDepth", desc := "()I" } : Jvm.MethodName)) ∈ lw_all := lw_g (lw_at lw_m15 234 rfl) rfl
theorem q3717 : (Jvm.Cond.selects "SnowPassModel" ({ cls := "SnowPassModel", name := "totalDepth", desc := "()I" } : Jvm.MethodName) ({ cls := "SnowPassModel", name := "totalDepth", desc := "()I" } : Jvm.MethodName)) ∈ lw_all := lw_g (lw_at lw_m15 235 rfl) rfl
theorem q3718 : (Jvm.Cond.code ({ cls := "SnowPassModel", name := "totalDepth", desc := "()I" } : Jvm.MethodName) prog_17_method_93_code (1 : Nat) (Option.some Jvm.ClassFile.FieldType.int)) ∈ lw_all := lw_g (lw_at lw_m15 236 rfl) rfl
theorem q3720 : (Jvm.Cond.instanceMethod ({ cls := "SnowPassModel", name := "ploughPosition", desc := "(I)I" } : Jvm.MethodName)) ∈ lw_all := lw_g (lw_at lw_m15 238 rfl) rfl
theorem q3721 : (Jvm.Cond.selects "SnowPassModel" ({ cls := "SnowPassModel", name := "ploughPosition", desc := "(I)I" } : Jvm.MethodName) ({ cls := "SnowPassModel", name := "ploughPosition", desc := "(I)I" } : Jvm.MethodName)) ∈ lw_all := lw_g (lw_at lw_m15 239 rfl) rfl
theorem q3722 : (Jvm.Cond.code ({ cls := "SnowPassModel", name := "ploughPosition", desc := "(I)I" } : Jvm.MethodName) prog_17_method_94_code (2 : Nat) (Option.some Jvm.ClassFile.FieldType.int)) ∈ lw_all := lw_g (lw_at lw_m16 0 rfl) rfl
theorem q3723 : (Jvm.Cond.methodLink "SnowPassModel" (342 : Nat) ({ cls := "SnowPassModel", name := "isSide", desc := "(I)Z" } : Jvm.MethodName)) ∈ lw_all := lw_g (lw_at lw_m16 1 rfl) rfl
theorem q3724 : (Jvm.Cond.static ({ cls := "SnowPassModel", name := "isSide", desc := "(I)Z" } : Jvm.MethodName)) ∈ lw_all := lw_g (lw_at lw_m16 2 rfl) rfl
theorem q3725 : (Jvm.Cond.code ({ cls := "SnowPassModel", name := "isSide", desc := "(I)Z" } : Jvm.MethodName) prog_17_method_16_code (1 : Nat) (Option.some Jvm.ClassFile.FieldType.boolean)) ∈ lw_all := lw_g (lw_at lw_m16 3 rfl) rfl
theorem q3727 : (Jvm.Cond.instanceMethod ({ cls := "SnowPassModel", name := "ploughCapacity", desc := "(I)I" } : Jvm.MethodName)) ∈ lw_all := lw_g (lw_at lw_m16 5 rfl) rfl
theorem q3728 : (Jvm.Cond.selects "SnowPassModel" ({ cls := "SnowPassModel", name := "ploughCapacity", desc := "(I)I" } : Jvm.MethodName) ({ cls := "SnowPassModel", name := "ploughCapacity", desc := "(I)I" } : Jvm.MethodName)) ∈ lw_all := lw_g (lw_at lw_m16 6 rfl) rfl
theorem q3729 : (Jvm.Cond.code ({ cls := "SnowPassModel", name := "ploughCapacity", desc := "(I)I" } : Jvm.MethodName) prog_17_method_95_code (2 : Nat) (Option.some Jvm.ClassFile.FieldType.int)) ∈ lw_all := lw_g (lw_at lw_m16 7 rfl) rfl
theorem q3731 : (Jvm.Cond.instanceMethod ({ cls := "SnowPassModel", name := "sackCount", desc := "(I)I" } : Jvm.MethodName)) ∈ lw_all := lw_g (lw_at lw_m16 9 rfl) rfl
theorem q3732 : (Jvm.Cond.selects "SnowPassModel" ({ cls := "SnowPassModel", name := "sackCount", desc := "(I)I" } : Jvm.MethodName) ({ cls := "SnowPassModel", name := "sackCount", desc := "(I)I" } : Jvm.MethodName)) ∈ lw_all := lw_g (lw_at lw_m16 10 rfl) rfl
theorem q3733 : (Jvm.Cond.code ({ cls := "SnowPassModel", name := "sackCount", desc := "(I)I" } : Jvm.MethodName) prog_17_method_96_code (2 : Nat) (Option.some Jvm.ClassFile.FieldType.int)) ∈ lw_all := lw_g (lw_at lw_m16 11 rfl) rfl
theorem q3735 : (Jvm.Cond.instanceMethod ({ cls := "SnowPassModel", name := "hasSigned", desc := "(I)Z" } : Jvm.MethodName)) ∈ lw_all := lw_g (lw_at lw_m16 13 rfl) rfl
theorem q3736 : (Jvm.Cond.selects "SnowPassModel" ({ cls := "SnowPassModel", name := "hasSigned", desc := "(I)Z" } : Jvm.MethodName) ({ cls := "SnowPassModel", name := "hasSigned", desc := "(I)Z" } : Jvm.MethodName)) ∈ lw_all := lw_g (lw_at lw_m16 14 rfl) rfl
theorem q3737 : (Jvm.Cond.code ({ cls := "SnowPassModel", name := "hasSigned", desc := "(I)Z" } : Jvm.MethodName) prog_17_method_97_code (2 : Nat) (Option.some Jvm.ClassFile.FieldType.boolean)) ∈ lw_all := lw_g (lw_at lw_m16 15 rfl) rfl
theorem q3739 : (Jvm.Cond.instanceMethod ({ cls := "SnowPassModel", name := "isOpen", desc := "()Z" } : Jvm.MethodName)) ∈ lw_all := lw_g (lw_at lw_m16 17 rfl) rfl
theorem q3740 : (Jvm.Cond.selects "SnowPassModel" ({ cls := "SnowPassModel", name := "isOpen", desc := "()Z" } : Jvm.MethodName) ({ cls := "SnowPassModel", name := "isOpen", desc := "()Z" } : Jvm.MethodName)) ∈ lw_all := lw_g (lw_at lw_m16 18 rfl) rfl
theorem q3741 : (Jvm.Cond.code ({ cls := "SnowPassModel", name := "isOpen", desc := "()Z" } : Jvm.MethodName) prog_17_method_98_code (1 : Nat) (Option.some Jvm.ClassFile.FieldType.boolean)) ∈ lw_all := lw_g (lw_at lw_m16 19 rfl) rfl
theorem q3743 : (Jvm.Cond.instanceMethod ({ cls := "SnowPassModel", name := "unclearedOnSide", desc := "(I)I" } : Jvm.MethodName)) ∈ lw_all := lw_g (lw_at lw_m16 21 rfl) rfl
theorem q3744 : (Jvm.Cond.selects "SnowPassModel" ({ cls := "SnowPassModel", name := "unclearedOnSide", desc := "(I)I" } : Jvm.MethodName) ({ cls := "SnowPassModel", name := "unclearedOnSide", desc := "(I)I" } : Jvm.MethodName)) ∈ lw_all := lw_g (lw_at lw_m16 22 rfl) rfl
theorem q3745 : (Jvm.Cond.code ({ cls := "SnowPassModel", name := "unclearedOnSide", desc := "(I)I" } : Jvm.MethodName) prog_17_method_99_code (5 : Nat) (Option.some Jvm.ClassFile.FieldType.int)) ∈ lw_all := lw_g (lw_at lw_m16 23 rfl) rfl
theorem q3747 : (Jvm.Cond.instanceMethod ({ cls := "SnowPassModel", name := "bookSize", desc := "()I" } : Jvm.MethodName)) ∈ lw_all := lw_g (lw_at lw_m16 25 rfl) rfl
theorem q3748 : (Jvm.Cond.selects "SnowPassModel" ({ cls := "SnowPassModel", name := "bookSize", desc := "()I" } : Jvm.MethodName) ({ cls := "SnowPassModel", name := "bookSize", desc := "()I" } : Jvm.MethodName)) ∈ lw_all := lw_g (lw_at lw_m16 26 rfl) rfl
theorem q3749 : (Jvm.Cond.code ({ cls := "SnowPassModel", name := "bookSize", desc := "()I" } : Jvm.MethodName) prog_17_method_100_code (1 : Nat) (Option.some Jvm.ClassFile.FieldType.int)) ∈ lw_all := lw_g (lw_at lw_m16 27 rfl) rfl
theorem q3751 : (Jvm.Cond.instanceMethod ({ cls := "SnowPassModel", name := "entryKind", desc := "(I)I" } : Jvm.MethodName)) ∈ lw_all := lw_g (lw_at lw_m16 29 rfl) rfl
theorem q3752 : (Jvm.Cond.selects "SnowPassModel" ({ cls := "SnowPassModel", name := "entryKind", desc := "(I)I" } : Jvm.MethodName) ({ cls := "SnowPassModel", name := "entryKind", desc := "(I)I" } : Jvm.MethodName)) ∈ lw_all := lw_g (lw_at lw_m16 30 rfl) rfl
theorem q3753 : (Jvm.Cond.code ({ cls := "SnowPassModel", name := "entryKind", desc := "(I)I" } : Jvm.MethodName) prog_17_method_102_code (2 : Nat) (Option.some Jvm.ClassFile.FieldType.int)) ∈ lw_all := lw_g (lw_at lw_m16 31 rfl) rfl
theorem q3754 : (Jvm.Cond.methodLink "SnowPassModel" (345 : Nat) ({ cls := "SnowPassModel", name := "entry", desc := "(II)I" } : Jvm.MethodName)) ∈ lw_all := lw_g (lw_at lw_m16 32 rfl) rfl
theorem q3755 : (Jvm.Cond.privateMethod ({ cls := "SnowPassModel", name := "entry", desc := "(II)I" } : Jvm.MethodName)) ∈ lw_tbl := lw_at lw_m16 33 rfl
theorem q3756 : (Jvm.Cond.instanceMethod ({ cls := "SnowPassModel", name := "entry", desc := "(II)I" } : Jvm.MethodName)) ∈ lw_all := lw_g (lw_at lw_m16 34 rfl) rfl
theorem q3757 : (Jvm.Cond.code ({ cls := "SnowPassModel", name := "entry", desc := "(II)I" } : Jvm.MethodName) prog_17_method_101_code (3 : Nat) (Option.some Jvm.ClassFile.FieldType.int)) ∈ lw_all := lw_g (lw_at lw_m16 35 rfl) rfl
theorem q3759 : (Jvm.Cond.instanceMethod ({ cls := "SnowPassModel", name := "entryClock", desc := "(I)I" } : Jvm.MethodName)) ∈ lw_all := lw_g (lw_at lw_m16 37 rfl) rfl
theorem q3760 : (Jvm.Cond.selects "SnowPassModel" ({ cls := "SnowPassModel", name := "entryClock", desc := "(I)I" } : Jvm.MethodName) ({ cls := "SnowPassModel", name := "entryClock", desc := "(I)I" } : Jvm.MethodName)) ∈ lw_all := lw_g (lw_at lw_m16 38 rfl) rfl
theorem q3761 : (Jvm.Cond.code ({ cls := "SnowPassModel", name := "entryClock", desc := "(I)I" } : Jvm.MethodName) prog_17_method_103_code (2 : Nat) (Option.some Jvm.ClassFile.FieldType.int)) ∈ lw_all := lw_g (lw_at lw_m16 39 rfl) rfl
theorem q3763 : (Jvm.Cond.instanceMethod ({ cls := "SnowPassModel", name := "waitingCount", desc := "(I)I" } : Jvm.MethodName)) ∈ lw_all := lw_g (lw_at lw_m16 41 rfl) rfl
theorem q3764 : (Jvm.Cond.selects "SnowPassModel" ({ cls := "SnowPassModel", name := "waitingCount", desc := "(I)I" } : Jvm.MethodName) ({ cls := "SnowPassModel", name := "waitingCount", desc := "(I)I" } : Jvm.MethodName)) ∈ lw_all := lw_g (lw_at lw_m16 42 rfl) rfl
theorem q3765 : (Jvm.Cond.code ({ cls := "SnowPassModel", name := "waitingCount", desc := "(I)I" } : Jvm.MethodName) prog_17_method_104_code (2 : Nat) (Option.some Jvm.ClassFile.FieldType.int)) ∈ lw_all := lw_g (lw_at lw_m16 43 rfl) rfl
theorem q3767 : (Jvm.Cond.instanceMethod ({ cls := "SnowPassModel", name := "waitingTicket", desc := "(II)I" } : Jvm.MethodName)) ∈ lw_all := lw_g (lw_at lw_m16 45 rfl) rfl
theorem q3768 : (Jvm.Cond.selects "SnowPassModel" ({ cls := "SnowPassModel", name := "waitingTicket", desc := "(II)I" } : Jvm.MethodName) ({ cls := "SnowPassModel", name := "waitingTicket", desc := "(II)I" } : Jvm.MethodName)) ∈ lw_all := lw_g (lw_at lw_m16 46 rfl) rfl
theorem q3769 : (Jvm.Cond.code ({ cls := "SnowPassModel", name := "waitingTicket", desc := "(II)I" } : Jvm.MethodName) prog_17_method_105_code (3 : Nat) (Option.some Jvm.ClassFile.FieldType.int)) ∈ lw_all := lw_g (lw_at lw_m16 47 rfl) rfl
theorem q3771 : (Jvm.Cond.instanceMethod ({ cls := "SnowPassModel", name := "sideOfTicket", desc := "(I)I" } : Jvm.MethodName)) ∈ lw_all := lw_g (lw_at lw_m16 49 rfl) rfl
theorem q3772 : (Jvm.Cond.selects "SnowPassModel" ({ cls := "SnowPassModel", name := "sideOfTicket", desc := "(I)I" } : Jvm.MethodName) ({ cls := "SnowPassModel", name := "sideOfTicket", desc := "(I)I" } : Jvm.MethodName)) ∈ lw_all := lw_g (lw_at lw_m16 50 rfl) rfl
theorem q3773 : (Jvm.Cond.code ({ cls := "SnowPassModel", name := "sideOfTicket", desc := "(I)I" } : Jvm.MethodName) prog_17_method_106_code (2 : Nat) (Option.some Jvm.ClassFile.FieldType.int)) ∈ lw_all := lw_g (lw_at lw_m16 51 rfl) rfl
theorem q3775 : (Jvm.Cond.instanceMethod ({ cls := "SnowPassModel", name := "hasChains", desc := "(I)Z" } : Jvm.MethodName)) ∈ lw_all := lw_g (lw_at lw_m16 53 rfl) rfl
theorem q3776 : (Jvm.Cond.selects "SnowPassModel" ({ cls := "SnowPassModel", name := "hasChains", desc := "(I)Z" } : Jvm.MethodName) ({ cls := "SnowPassModel", name := "hasChains", desc := "(I)Z" } : Jvm.MethodName)) ∈ lw_all := lw_g (lw_at lw_m16 54 rfl) rfl
theorem q3777 : (Jvm.Cond.code ({ cls := "SnowPassModel", name := "hasChains", desc := "(I)Z" } : Jvm.MethodName) prog_17_method_107_code (2 : Nat) (Option.some Jvm.ClassFile.FieldType.boolean)) ∈ lw_all := lw_g (lw_at lw_m16 55 rfl) rfl
theorem q3778 : (Jvm.Cond.methodLink "SnowPassModel" (348 : Nat) ({ cls := "SnowPassModel", name := "waits", desc := "(I)Z" } : Jvm.MethodName)) ∈ lw_all := lw_g (lw_at lw_m16 56 rfl) rfl
theorem q3779 : (Jvm.Cond.privateMethod ({ cls := "SnowPassModel", name := "waits", desc := "(I)Z" } : Jvm.MethodName)) ∈ lw_tbl := lw_at lw_m16 57 rfl
theorem q3780 : (Jvm.Cond.instanceMethod ({ cls := "SnowPassModel", name := "waits", desc := "(I)Z" } : Jvm.MethodName)) ∈ lw_all := lw_g (lw_at lw_m16 58 rfl) rfl
theorem q3781 : (Jvm.Cond.code ({ cls := "SnowPassModel", name := "waits", desc := "(I)Z" } : Jvm.MethodName) prog_17_method_46_code (2 : Nat) (Option.some Jvm.ClassFile.FieldType.boolean)) ∈ lw_all := lw_g (lw_at lw_m16 59 rfl) rfl
theorem q3783 : (Jvm.Cond.instanceMethod ({ cls := "SnowPassModel", name := "crossingReason", desc := "(I)I" } : Jvm.MethodName)) ∈ lw_all := lw_g (lw_at lw_m16 61 rfl) rfl
theorem q3784 : (Jvm.Cond.selects "SnowPassModel" ({ cls := "SnowPassModel", name := "crossingReason", desc := "(I)I" } : Jvm.MethodName) ({ cls := "SnowPassModel", name := "crossingReason", desc := "(I)I" } : Jvm.MethodName)) ∈ lw_all := lw_g (lw_at lw_m16 62 rfl) rfl
theorem q3785 : (Jvm.Cond.code ({ cls := "SnowPassModel", name := "crossingReason", desc := "(I)I" } : Jvm.MethodName) prog_17_method_108_code (4 : Nat) (Option.some Jvm.ClassFile.FieldType.int)) ∈ lw_all := lw_g (lw_at lw_m16 63 rfl) rfl
theorem q3787 : (Jvm.Cond.instanceMethod ({ cls := "SnowPassModel", name := "depthAfter", desc := "(II)I" } : Jvm.MethodName)) ∈ lw_all := lw_g (lw_at lw_m16 65 rfl) rfl
theorem q3788 : (Jvm.Cond.selects "SnowPassModel" ({ cls := "SnowPassModel", name := "depthAfter", desc := "(II)I" } : Jvm.MethodName) ({ cls := "SnowPassModel", name := "depthAfter", desc := "(II)I" } : Jvm.MethodName)) ∈ lw_all := lw_g (lw_at lw_m16 66 rfl) rfl
theorem q3789 : (Jvm.Cond.code ({ cls := "SnowPassModel", name := "depthAfter", desc := "(II)I" } : Jvm.MethodName) prog_17_method_110_code (3 : Nat) (Option.some Jvm.ClassFile.FieldType.int)) ∈ lw_all := lw_g (lw_at lw_m16 67 rfl) rfl
theorem q3790 : (Jvm.Cond.methodLink "SnowPassModel" (353 : Nat) ({ cls := "SnowPassModel", name := "areHours", desc := "(I)Z" } : Jvm.MethodName)) ∈ lw_all := lw_g (lw_at lw_m16 68 rfl) rfl
theorem q3791 : (Jvm.Cond.static ({ cls := "SnowPassModel", name := "areHours", desc := "(I)Z" } : Jvm.MethodName)) ∈ lw_all := lw_g (lw_at lw_m16 69 rfl) rfl
theorem q3792 : (Jvm.Cond.code ({ cls := "SnowPassModel", name := "areHours", desc := "(I)Z" } : Jvm.MethodName) prog_17_method_109_code (1 : Nat) (Option.some Jvm.ClassFile.FieldType.boolean)) ∈ lw_all := lw_g (lw_at lw_m16 70 rfl) rfl
theorem q3793 : (Jvm.Cond.constantLong "SnowPassModel" (351 : Nat) (240 : Int64)) ∈ lw_all := lw_g (lw_at lw_m16 71 rfl) rfl
theorem q3794 : (Jvm.Cond.methodLink "SnowPassModel" (356 : Nat) ({ cls := "SnowPassModel", name := "passesBoth", desc := "(ZZ)Z" } : Jvm.MethodName)) ∈ lw_all := lw_g (lw_at lw_m16 72 rfl) rfl
theorem q3795 : (Jvm.Cond.privateMethod ({ cls := "SnowPassModel", name := "passesBoth", desc := "(ZZ)Z" } : Jvm.MethodName)) ∈ lw_tbl := lw_at lw_m16 73 rfl
theorem q3796 : (Jvm.Cond.instanceMethod ({ cls := "SnowPassModel", name := "passesBoth", desc := "(ZZ)Z" } : Jvm.MethodName)) ∈ lw_all := lw_g (lw_at lw_m16 74 rfl) rfl
theorem q3797 : (Jvm.Cond.code ({ cls := "SnowPassModel", name := "passesBoth", desc := "(ZZ)Z" } : Jvm.MethodName) prog_17_method_6_code (3 : Nat) (Option.some Jvm.ClassFile.FieldType.boolean)) ∈ lw_all := lw_g (lw_at lw_m16 75 rfl) rfl
theorem q3798 : (Jvm.Cond.methodLink "SnowPassModel" (360 : Nat) ({ cls := "SnowPassModel", name := "tries", desc := "()V" } : Jvm.MethodName)) ∈ lw_all := lw_g (lw_at lw_m16 76 rfl) rfl
theorem q3799 : (Jvm.Cond.privateMethod ({ cls := "SnowPassModel", name := "tries", desc := "()V" } : Jvm.MethodName)) ∈ lw_tbl := lw_at lw_m16 77 rfl
theorem q3800 : (Jvm.Cond.instanceMethod ({ cls := "SnowPassModel", name := "tries", desc := "()V" } : Jvm.MethodName)) ∈ lw_all := lw_g (lw_at lw_m16 78 rfl) rfl
theorem q3801 : (Jvm.Cond.code ({ cls := "SnowPassModel", name := "tries", desc := "()V" } : Jvm.MethodName) prog_17_method_8_code (1 : Nat) (Option.none : Option Jvm.ClassFile.FieldType)) ∈ lw_all := lw_g (lw_at lw_m16 79 rfl) rfl
theorem q3802 : (Jvm.Cond.methodLink "SnowPassModel" (363 : Nat) ({ cls := "SnowPassModel", name := "laidBack", desc := "(I)I" } : Jvm.MethodName)) ∈ lw_all := lw_g (lw_at lw_m16 80 rfl) rfl
theorem q3803 : (Jvm.Cond.privateMethod ({ cls := "SnowPassModel", name := "laidBack", desc := "(I)I" } : Jvm.MethodName)) ∈ lw_tbl := lw_at lw_m16 81 rfl
theorem q3804 : (Jvm.Cond.instanceMethod ({ cls := "SnowPassModel", name := "laidBack", desc := "(I)I" } : Jvm.MethodName)) ∈ lw_all := lw_g (lw_at lw_m16 82 rfl) rfl
theorem q3805 : (Jvm.Cond.code ({ cls := "SnowPassModel", name := "laidBack", desc := "(I)I" } : Jvm.MethodName) prog_17_method_9_code (2 : Nat) (Option.some Jvm.ClassFile.FieldType.int)) ∈ lw_all := lw_g (lw_at lw_m16 83 rfl) rfl
theorem q3807 : (Jvm.Cond.instanceMethod ({ cls := "SnowPassModel", name := "hoursUntilOpen", desc := "()I" } : Jvm.MethodName)) ∈ lw_all := lw_g (lw_at lw_m16 85 rfl) rfl
theorem q3808 : (Jvm.Cond.selects "SnowPassModel" ({ cls := "SnowPassModel", name := "hoursUntilOpen", desc := "()I" } : Jvm.MethodName) ({ cls := "SnowPassModel", name := "hoursUntilOpen", desc := "()I" } : Jvm.MethodName)) ∈ lw_all := lw_g (lw_at lw_m16 86 rfl) rfl
theorem q3809 : (Jvm.Cond.code ({ cls := "SnowPassModel", name := "hoursUntilOpen", desc := "()I" } : Jvm.MethodName) prog_17_method_112_code (1 : Nat) (Option.some Jvm.ClassFile.FieldType.int)) ∈ lw_all := lw_g (lw_at lw_m16 87 rfl) rfl
theorem q3810 : (Jvm.Cond.methodLink "SnowPassModel" (366 : Nat) ({ cls := "SnowPassModel", name := "hoursUntil", desc := "(Z)I" } : Jvm.MethodName)) ∈ lw_all := lw_g (lw_at lw_m16 88 rfl) rfl
theorem q3811 : (Jvm.Cond.privateMethod ({ cls := "SnowPassModel", name := "hoursUntil", desc := "(Z)I" } : Jvm.MethodName)) ∈ lw_tbl := lw_at lw_m16 89 rfl
theorem q3812 : (Jvm.Cond.instanceMethod ({ cls := "SnowPassModel", name := "hoursUntil", desc := "(Z)I" } : Jvm.MethodName)) ∈ lw_all := lw_g (lw_at lw_m16 90 rfl) rfl
theorem q3813 : (Jvm.Cond.code ({ cls := "SnowPassModel", name := "hoursUntil", desc := "(Z)I" } : Jvm.MethodName) prog_17_method_111_code (3 : Nat) (Option.some Jvm.ClassFile.FieldType.int)) ∈ lw_all := lw_g (lw_at lw_m16 91 rfl) rfl
theorem q3815 : (Jvm.Cond.instanceMethod ({ cls := "SnowPassModel", name := "hoursUntilClosed", desc := "()I" } : Jvm.MethodName)) ∈ lw_all := lw_g (lw_at lw_m16 93 rfl) rfl
theorem q3816 : (Jvm.Cond.selects "SnowPassModel" ({ cls := "SnowPassModel", name := "hoursUntilClosed", desc := "()I" } : Jvm.MethodName) ({ cls := "SnowPassModel", name := "hoursUntilClosed", desc := "()I" } : Jvm.MethodName)) ∈ lw_all := lw_g (lw_at lw_m16 94 rfl) rfl
theorem q3817 : (Jvm.Cond.code ({ cls := "SnowPassModel", name := "hoursUntilClosed", desc := "()I" } : Jvm.MethodName) prog_17_method_113_code (1 : Nat) (Option.some Jvm.ClassFile.FieldType.int)) ∈ lw_all := lw_g (lw_at lw_m16 95 rfl) rfl
theorem q3819 : (Jvm.Cond.instanceMethod ({ cls := "SnowPassModel", name := "hoursUntilCrossed", desc := "(I)I" } : Jvm.MethodName)) ∈ lw_all := lw_g (lw_at lw_m16 97 rfl) rfl
theorem q3820 : (Jvm.Cond.selects "SnowPassModel" ({ cls := "SnowPassModel", name := "hoursUntilCrossed", desc := "(I)I" } : Jvm.MethodName) ({ cls := "SnowPassModel", name := "hoursUntilCrossed", desc := "(I)I" } : Jvm.MethodName)) ∈ lw_all := lw_g (lw_at lw_m16 98 rfl) rfl
theorem q3821 : (Jvm.Cond.code ({ cls := "SnowPassModel", name := "hoursUntilCrossed", desc := "(I)I" } : Jvm.MethodName) prog_17_method_114_code (3 : Nat) (Option.some Jvm.ClassFile.FieldType.int)) ∈ lw_all := lw_g (lw_at lw_m16 99 rfl) rfl
theorem q3823 : (Jvm.Cond.instanceMethod ({ cls := "SnowPassModel", name := "crossedAfter", desc := "(II)I" } : Jvm.MethodName)) ∈ lw_all := lw_g (lw_at lw_m16 101 rfl) rfl
theorem q3824 : (Jvm.Cond.selects "SnowPassModel" ({ cls := "SnowPassModel", name := "crossedAfter", desc := "(II)I" } : Jvm.MethodName) ({ cls := "SnowPassModel", name := "crossedAfter", desc := "(II)I" } : Jvm.MethodName)) ∈ lw_all := lw_g (lw_at lw_m16 102 rfl) rfl
theorem q3825 : (Jvm.Cond.code ({ cls := "SnowPassModel", name := "crossedAfter", desc := "(II)I" } : Jvm.MethodName) prog_17_method_115_code (4 : Nat) (Option.some Jvm.ClassFile.FieldType.int)) ∈ lw_all := lw_g (lw_at lw_m16 103 rfl) rfl
theorem q3827 : (Jvm.Cond.instanceMethod ({ cls := "SnowPassModel", name := "leastCapacity", desc := "(II)I" } : Jvm.MethodName)) ∈ lw_all := lw_g (lw_at lw_m16 105 rfl) rfl
theorem q3828 : (Jvm.Cond.selects "SnowPassModel" ({ cls := "SnowPassModel", name := "leastCapacity", desc := "(II)I" } : Jvm.MethodName) ({ cls := "SnowPassModel", name := "leastCapacity", desc := "(II)I" } : Jvm.MethodName)) ∈ lw_all := lw_g (lw_at lw_m16 106 rfl) rfl
theorem q3829 : (Jvm.Cond.code ({ cls := "SnowPassModel", name := "leastCapacity", desc := "(II)I" } : Jvm.MethodName) prog_17_method_116_code (4 : Nat) (Option.some Jvm.ClassFile.FieldType.int)) ∈ lw_all := lw_g (lw_at lw_m16 107 rfl) rfl
theorem q3831 : (Jvm.Cond.instanceMethod ({ cls := "SnowPassModel", name := "bestSaltSegment", desc := "(I)I" } : Jvm.MethodName)) ∈ lw_all := lw_g (lw_at lw_m16 109 rfl) rfl
theorem q3832 : (Jvm.Cond.selects "SnowPassModel" ({ cls := "SnowPassModel", name := "bestSaltSegment", desc := "(I)I" } : Jvm.MethodName) ({ cls := "SnowPassModel", name := "bestSaltSegment", desc := "(I)I" } : Jvm.MethodName)) ∈ lw_all := lw_g (lw_at lw_m16 110 rfl) rfl
theorem q3833 : (Jvm.Cond.code ({ cls := "SnowPassModel", name := "bestSaltSegment", desc := "(I)I" } : Jvm.MethodName) prog_17_method_118_code (6 : Nat) (Option.some Jvm.ClassFile.FieldType.int)) ∈ lw_all := lw_g (lw_at lw_m16 111 rfl) rfl
theorem q3834 : (Jvm.Cond.methodLink "SnowPassModel" (369 : Nat) ({ cls := "SnowPassModel", name := "depthsWithSalt", desc := "(II)I" } : Jvm.MethodName)) ∈ lw_all := lw_g (lw_at lw_m16 112 rfl) rfl
theorem q3835 : (Jvm.Cond.privateMethod ({ cls := "SnowPassModel", name := "depthsWithSalt", desc := "(II)I" } : Jvm.MethodName)) ∈ lw_tbl := lw_at lw_m16 113 rfl
theorem q3836 : (Jvm.Cond.instanceMethod ({ cls := "SnowPassModel", name := "depthsWithSalt", desc := "(II)I" } : Jvm.MethodName)) ∈ lw_all := lw_g (lw_at lw_m16 114 rfl) rfl
theorem q3837 : (Jvm.Cond.code ({ cls := "SnowPassModel", name := "depthsWithSalt", desc := "(II)I" } : Jvm.MethodName) prog_17_method_117_code (3 : Nat) (Option.some Jvm.ClassFile.FieldType.int)) ∈ lw_all := lw_g (lw_at lw_m16 115 rfl) rfl
theorem q3839 : (Jvm.Cond.instanceMethod ({ cls := "SnowPassModel", name := "snowFallen", desc := "()I" } : Jvm.MethodName)) ∈ lw_all := lw_g (lw_at lw_m16 117 rfl) rfl
theorem q3840 : (Jvm.Cond.selects "SnowPassModel" ({ cls := "SnowPassModel", name := "snowFallen", desc := "()I" } : Jvm.MethodName) ({ cls := "SnowPassModel", name := "snowFallen", desc := "()I" } : Jvm.MethodName)) ∈ lw_all := lw_g (lw_at lw_m16 118 rfl) rfl
theorem q3841 : (Jvm.Cond.code ({ cls := "SnowPassModel", name := "snowFallen", desc := "()I" } : Jvm.MethodName) prog_17_method_119_code (1 : Nat) (Option.some Jvm.ClassFile.FieldType.int)) ∈ lw_all := lw_g (lw_at lw_m16 119 rfl) rfl
theorem q3843 : (Jvm.Cond.instanceMethod ({ cls := "SnowPassModel", name := "snowCleared", desc := "()I" } : Jvm.MethodName)) ∈ lw_all := lw_g (lw_at lw_m16 121 rfl) rfl
theorem q3844 : (Jvm.Cond.selects "SnowPassModel" ({ cls := "SnowPassModel", name := "snowCleared", desc := "()I" } : Jvm.MethodName) ({ cls := "SnowPassModel", name := "snowCleared", desc := "()I" } : Jvm.MethodName)) ∈ lw_all := lw_g (lw_at lw_m16 122 rfl) rfl
theorem q3845 : (Jvm.Cond.code ({ cls := "SnowPassModel", name := "snowCleared", desc := "()I" } : Jvm.MethodName) prog_17_method_120_code (1 : Nat) (Option.some Jvm.ClassFile.FieldType.int)) ∈ lw_all := lw_g (lw_at lw_m16 123 rfl) rfl
theorem q3847 : (Jvm.Cond.instanceMethod ({ cls := "SnowPassModel", name := "snowMelted", desc := "()I" } : Jvm.MethodName)) ∈ lw_all := lw_g (lw_at lw_m16 125 rfl) rfl
theorem q3848 : (Jvm.Cond.selects "SnowPassModel" ({ cls := "SnowPassModel", name := "snowMelted", desc := "()I" } : Jvm.MethodName) ({ cls := "SnowPassModel", name := "snowMelted", desc := "()I" } : Jvm.MethodName)) ∈ lw_all := lw_g (lw_at lw_m16 126 rfl) rfl
theorem q3849 : (Jvm.Cond.code ({ cls := "SnowPassModel", name := "snowMelted", desc := "()I" } : Jvm.MethodName) prog_17_method_121_code (1 : Nat) (Option.some Jvm.ClassFile.FieldType.int)) ∈ lw_all := lw_g (lw_at lw_m16 127 rfl) rfl
theorem q3851 : (Jvm.Cond.instanceMethod ({ cls := "SnowPassModel", name := "cartsCrossed", desc := "(I)I" } : Jvm.MethodName)) ∈ lw_all := lw_g (lw_at lw_m16 129 rfl) rfl
theorem q3852 : (Jvm.Cond.selects "SnowPassModel" ({ cls := "SnowPassModel", name := "cartsCrossed", desc := "(I)I" } : Jvm.MethodName) ({ cls := "SnowPassModel", name := "cartsCrossed", desc := "(I)I" } : Jvm.MethodName)) ∈ lw_all := lw_g (lw_at lw_m16 130 rfl) rfl
theorem q3853 : (Jvm.Cond.code ({ cls := "SnowPassModel", name := "cartsCrossed", desc := "(I)I" } : Jvm.MethodName) prog_17_method_122_code (2 : Nat) (Option.some Jvm.ClassFile.FieldType.int)) ∈ lw_all := lw_g (lw_at lw_m16 131 rfl) rfl
theorem q3855 : (Jvm.Cond.instanceMethod ({ cls := "SnowPassModel", name := "cartsCancelled", desc := "()I" } : Jvm.MethodName)) ∈ lw_all := lw_g (lw_at lw_m16 133 rfl) rfl
theorem q3856 : (Jvm.Cond.selects "SnowPassModel" ({ cls := "SnowPassModel", name := "cartsCancelled", desc := "()I" } : Jvm.MethodName) ({ cls := "SnowPassModel", name := "cartsCancelled", desc := "()I" } : Jvm.MethodName)) ∈ lw_all := lw_g (lw_at lw_m16 134 rfl) rfl
theorem q3857 : (Jvm.Cond.code ({ cls := "SnowPassModel", name := "cartsCancelled", desc := "()I" } : Jvm.MethodName) prog_17_method_123_code (1 : Nat) (Option.some Jvm.ClassFile.FieldType.int)) ∈ lw_all := lw_g (lw_at lw_m16 135 rfl) rfl
theorem q3859 : (Jvm.Cond.instanceMethod ({ cls := "SnowPassModel", name := "ticketCount", desc := "()I" } : Jvm.MethodName)) ∈ lw_all := lw_g (lw_at lw_m16 137 rfl) rfl
theorem q3860 : (Jvm.Cond.selects "SnowPassModel" ({ cls := "SnowPassModel", name := "ticketCount", desc := "()I" } : Jvm.MethodName) ({ cls := "SnowPassModel", name := "ticketCount", desc := "()I" } : Jvm.MethodName)) ∈ lw_all := lw_g (lw_at lw_m16 138 rfl) rfl
theorem q3861 : (Jvm.Cond.code ({ cls := "SnowPassModel", name := "ticketCount", desc := "()I" } : Jvm.MethodName) prog_17_method_124_code (1 : Nat) (Option.some Jvm.ClassFile.FieldType.int)) ∈ lw_all := lw_g (lw_at lw_m16 139 rfl) rfl
theorem q3863 : (Jvm.Cond.instanceMethod ({ cls := "SnowPassModel", name := "sacksUsed", desc := "()I" } : Jvm.MethodName)) ∈ lw_all := lw_g (lw_at lw_m16 141 rfl) rfl
theorem q3864 : (Jvm.Cond.selects "SnowPassModel" ({ cls := "SnowPassModel", name := "sacksUsed", desc := "()I" } : Jvm.MethodName) ({ cls := "SnowPassModel", name := "sacksUsed", desc := "()I" } : Jvm.MethodName)) ∈ lw_all := lw_g (lw_at lw_m16 142 rfl) rfl
theorem q3865 : (Jvm.Cond.code ({ cls := "SnowPassModel", name := "sacksUsed", desc := "()I" } : Jvm.MethodName) prog_17_method_125_code (1 : Nat) (Option.some Jvm.ClassFile.FieldType.int)) ∈ lw_all := lw_g (lw_at lw_m16 143 rfl) rfl
theorem q3867 : (Jvm.Cond.instanceMethod ({ cls := "SnowPassModel", name := "snowImbalance", desc := "()I" } : Jvm.MethodName)) ∈ lw_all := lw_g (lw_at lw_m16 145 rfl) rfl
theorem q3868 : (Jvm.Cond.selects "SnowPassModel" ({ cls := "SnowPassModel", name := "snowImbalance", desc := "()I" } : Jvm.MethodName) ({ cls := "SnowPassModel", name := "snowImbalance", desc := "()I" } : Jvm.MethodName)) ∈ lw_all := lw_g (lw_at lw_m16 146 rfl) rfl
theorem q3869 : (Jvm.Cond.code ({ cls := "SnowPassModel", name := "snowImbalance", desc := "()I" } : Jvm.MethodName) prog_17_method_126_code (1 : Nat) (Option.some Jvm.ClassFile.FieldType.int)) ∈ lw_all := lw_g (lw_at lw_m16 147 rfl) rfl
theorem q3871 : (Jvm.Cond.instanceMethod ({ cls := "SnowPassModel", name := "cartImbalance", desc := "()I" } : Jvm.MethodName)) ∈ lw_all := lw_g (lw_at lw_m16 149 rfl) rfl
theorem q3872 : (Jvm.Cond.selects "SnowPassModel" ({ cls := "SnowPassModel", name := "cartImbalance", desc := "()I" } : Jvm.MethodName) ({ cls := "SnowPassModel", name := "cartImbalance", desc := "()I" } : Jvm.MethodName)) ∈ lw_all := lw_g (lw_at lw_m16 150 rfl) rfl
theorem q3873 : (Jvm.Cond.code ({ cls := "SnowPassModel", name := "cartImbalance", desc := "()I" } : Jvm.MethodName) prog_17_method_127_code (1 : Nat) (Option.some Jvm.ClassFile.FieldType.int)) ∈ lw_all := lw_g (lw_at lw_m16 151 rfl) rfl
theorem q3875 : (Jvm.Cond.instanceMethod ({ cls := "SnowPassModel", name := "meanDepth", desc := "()D" } : Jvm.MethodName)) ∈ lw_all := lw_g (lw_at lw_m16 153 rfl) rfl
theorem q3876 : (Jvm.Cond.selects "SnowPassModel" ({ cls := "SnowPassModel", name := "meanDepth", desc := "()D" } : Jvm.MethodName) ({ cls := "SnowPassModel", name := "meanDepth", desc := "()D" } : Jvm.MethodName)) ∈ lw_all := lw_g (lw_at lw_m16 154 rfl) rfl
theorem q3877 : (Jvm.Cond.code ({ cls := "SnowPassModel", name := "meanDepth", desc := "()D" } : Jvm.MethodName) prog_17_method_128_code (1 : Nat) (Option.some Jvm.ClassFile.FieldType.double)) ∈ lw_all := lw_g (lw_at lw_m16 155 rfl) rfl
theorem q3879 : (Jvm.Cond.instanceMethod ({ cls := "SnowPassModel", name := "clearShare", desc := "()F" } : Jvm.MethodName)) ∈ lw_all := lw_g (lw_at lw_m16 157 rfl) rfl
theorem q3880 : (Jvm.Cond.selects "SnowPassModel" ({ cls := "SnowPassModel", name := "clearShare", desc := "()F" } : Jvm.MethodName) ({ cls := "SnowPassModel", name := "clearShare", desc := "()F" } : Jvm.MethodName)) ∈ lw_all := lw_g (lw_at lw_m16 158 rfl) rfl
theorem q3881 : (Jvm.Cond.code ({ cls := "SnowPassModel", name := "clearShare", desc := "()F" } : Jvm.MethodName) prog_17_method_129_code (1 : Nat) (Option.some Jvm.ClassFile.FieldType.float)) ∈ lw_all := lw_g (lw_at lw_m16 159 rfl) rfl
theorem q3883 : (Jvm.Cond.instanceMethod ({ cls := "SnowPassModel", name := "passHours", desc := "(I)I" } : Jvm.MethodName)) ∈ lw_all := lw_g (lw_at lw_m16 161 rfl) rfl
theorem q3884 : (Jvm.Cond.selects "SnowPassModel" ({ cls := "SnowPassModel", name := "passHours", desc := "(I)I" } : Jvm.MethodName) ({ cls := "SnowPassModel", name := "passHours", desc := "(I)I" } : Jvm.MethodName)) ∈ lw_all := lw_g (lw_at lw_m16 162 rfl) rfl
theorem q3885 : (Jvm.Cond.code ({ cls := "SnowPassModel", name := "passHours", desc := "(I)I" } : Jvm.MethodName) prog_17_method_132_code (2 : Nat) (Option.some Jvm.ClassFile.FieldType.int)) ∈ lw_all := lw_g (lw_at lw_m16 163 rfl) rfl
theorem q3886 : (Jvm.Cond.methodLink "SnowPassModel" (372 : Nat) ({ cls := "SnowPassModel", name := "tried", desc := "(Z)Z" } : Jvm.MethodName)) ∈ lw_all := lw_g (lw_at lw_m16 164 rfl) rfl
theorem q3887 : (Jvm.Cond.privateMethod ({ cls := "SnowPassModel", name := "tried", desc := "(Z)Z" } : Jvm.MethodName)) ∈ lw_tbl := lw_at lw_m16 165 rfl
theorem q3888 : (Jvm.Cond.instanceMethod ({ cls := "SnowPassModel", name := "tried", desc := "(Z)Z" } : Jvm.MethodName)) ∈ lw_all := lw_g (lw_at lw_m16 166 rfl) rfl
theorem q3889 : (Jvm.Cond.code ({ cls := "SnowPassModel", name := "tried", desc := "(Z)Z" } : Jvm.MethodName) prog_17_method_130_code (2 : Nat) (Option.some Jvm.ClassFile.FieldType.boolean)) ∈ lw_all := lw_g (lw_at lw_m16 167 rfl) rfl
theorem q3890 : (Jvm.Cond.methodLink "SnowPassModel" (375 : Nat) ({ cls := "SnowPassModel", name := "done", desc := "(Z)I" } : Jvm.MethodName)) ∈ lw_all := lw_g (lw_at lw_m16 168 rfl) rfl
theorem q3891 : (Jvm.Cond.privateMethod ({ cls := "SnowPassModel", name := "done", desc := "(Z)I" } : Jvm.MethodName)) ∈ lw_tbl := lw_at lw_m16 169 rfl
theorem q3892 : (Jvm.Cond.instanceMethod ({ cls := "SnowPassModel", name := "done", desc := "(Z)I" } : Jvm.MethodName)) ∈ lw_all := lw_g (lw_at lw_m16 170 rfl) rfl
theorem q3893 : (Jvm.Cond.code ({ cls := "SnowPassModel", name := "done", desc := "(Z)I" } : Jvm.MethodName) prog_17_method_131_code (2 : Nat) (Option.some Jvm.ClassFile.FieldType.int)) ∈ lw_all := lw_g (lw_at lw_m16 171 rfl) rfl
theorem q3895 : (Jvm.Cond.instanceMethod ({ cls := "SnowPassModel", name := "spreadSalt", desc := "(I)I" } : Jvm.MethodName)) ∈ lw_all := lw_g (lw_at lw_m16 173 rfl) rfl
theorem q3896 : (Jvm.Cond.selects "SnowPassModel" ({ cls := "SnowPassModel", name := "spreadSalt", desc := "(I)I" } : Jvm.MethodName) ({ cls := "SnowPassModel", name := "spreadSalt", desc := "(I)I" } : Jvm.MethodName)) ∈ lw_all := lw_g (lw_at lw_m16 174 rfl) rfl
theorem q3897 : (Jvm.Cond.code ({ cls := "SnowPassModel", name := "spreadSalt", desc := "(I)I" } : Jvm.MethodName) prog_17_method_133_code (3 : Nat) (Option.some Jvm.ClassFile.FieldType.int)) ∈ lw_all := lw_g (lw_at lw_m16 175 rfl) rfl
theorem q3899 : (Jvm.Cond.instanceMethod ({ cls := "SnowPassModel", name := "recall", desc := "(I)I" } : Jvm.MethodName)) ∈ lw_all := lw_g (lw_at lw_m16 177 rfl) rfl
theorem q3900 : (Jvm.Cond.selects "SnowPassModel" ({ cls := "SnowPassModel", name := "recall", desc := "(I)I" } : Jvm.MethodName) ({ cls := "SnowPassModel", name := "recall", desc := "(I)I" } : Jvm.MethodName)) ∈ lw_all := lw_g (lw_at lw_m16 178 rfl) rfl
theorem q3901 : (Jvm.Cond.code ({ cls := "SnowPassModel", name := "recall", desc := "(I)I" } : Jvm.MethodName) prog_17_method_134_code (2 : Nat) (Option.some Jvm.ClassFile.FieldType.int)) ∈ lw_all := lw_g (lw_at lw_m16 179 rfl) rfl
theorem q3903 : (Jvm.Cond.instanceMethod ({ cls := "SnowPassModel", name := "addSacks", desc := "(II)I" } : Jvm.MethodName)) ∈ lw_all := lw_g (lw_at lw_m16 181 rfl) rfl
theorem q3904 : (Jvm.Cond.selects "SnowPassModel" ({ cls := "SnowPassModel", name := "addSacks", desc := "(II)I" } : Jvm.MethodName) ({ cls := "SnowPassModel", name := "addSacks", desc := "(II)I" } : Jvm.MethodName)) ∈ lw_all := lw_g (lw_at lw_m16 182 rfl) rfl
theorem q3905 : (Jvm.Cond.code ({ cls := "SnowPassModel", name := "addSacks", desc := "(II)I" } : Jvm.MethodName) prog_17_method_135_code (3 : Nat) (Option.some Jvm.ClassFile.FieldType.int)) ∈ lw_all := lw_g (lw_at lw_m16 183 rfl) rfl
theorem q3906 : (Jvm.Cond.constantLong "SnowPassModel" (378 : Nat) (99 : Int64)) ∈ lw_all := lw_g (lw_at lw_m16 184 rfl) rfl
theorem q3908 : (Jvm.Cond.instanceMethod ({ cls := "SnowPassModel", name := "setSnowfall", desc := "(I)I" } : Jvm.MethodName)) ∈ lw_all := lw_g (lw_at lw_m16 186 rfl) rfl
theorem q3909 : (Jvm.Cond.selects "SnowPassModel" ({ cls := "SnowPassModel", name := "setSnowfall", desc := "(I)I" } : Jvm.MethodName) ({ cls := "SnowPassModel", name := "setSnowfall", desc := "(I)I" } : Jvm.MethodName)) ∈ lw_all := lw_g (lw_at lw_m16 187 rfl) rfl
theorem q3910 : (Jvm.Cond.code ({ cls := "SnowPassModel", name := "setSnowfall", desc := "(I)I" } : Jvm.MethodName) prog_17_method_136_code (2 : Nat) (Option.some Jvm.ClassFile.FieldType.int)) ∈ lw_all := lw_g (lw_at lw_m16 188 rfl) rfl
theorem q3912 : (Jvm.Cond.instanceMethod ({ cls := "SnowPassModel", name := "setWind", desc := "(I)I" } : Jvm.MethodName)) ∈ lw_all := lw_g (lw_at lw_m16 190 rfl) rfl
theorem q3913 : (Jvm.Cond.selects "SnowPassModel" ({ cls := "SnowPassModel", name := "setWind", desc := "(I)I" } : Jvm.MethodName) ({ cls := "SnowPassModel", name := "setWind", desc := "(I)I" } : Jvm.MethodName)) ∈ lw_all := lw_g (lw_at lw_m16 191 rfl) rfl
theorem q3914 : (Jvm.Cond.code ({ cls := "SnowPassModel", name := "setWind", desc := "(I)I" } : Jvm.MethodName) prog_17_method_137_code (2 : Nat) (Option.some Jvm.ClassFile.FieldType.int)) ∈ lw_all := lw_g (lw_at lw_m16 192 rfl) rfl
theorem q3915 : (Jvm.Cond.constantLong "SnowPassModel" (380 : Nat) (9 : Int64)) ∈ lw_all := lw_g (lw_at lw_m16 193 rfl) rfl
theorem q3917 : (Jvm.Cond.instanceMethod ({ cls := "SnowPassModel", name := "queueCart", desc := "(IZ)I" } : Jvm.MethodName)) ∈ lw_all := lw_g (lw_at lw_m16 195 rfl) rfl
theorem q3918 : (Jvm.Cond.selects "SnowPassModel" ({ cls := "SnowPassModel", name := "queueCart", desc := "(IZ)I" } : Jvm.MethodName) ({ cls := "SnowPassModel", name := "queueCart", desc := "(IZ)I" } : Jvm.MethodName)) ∈ lw_all := lw_g (lw_at lw_m16 196 rfl) rfl
theorem q3919 : (Jvm.Cond.code ({ cls := "SnowPassModel", name := "queueCart", desc := "(IZ)I" } : Jvm.MethodName) prog_17_method_138_code (4 : Nat) (Option.some Jvm.ClassFile.FieldType.int)) ∈ lw_all := lw_g (lw_at lw_m16 197 rfl) rfl
theorem q3921 : (Jvm.Cond.instanceMethod ({ cls := "SnowPassModel", name := "cancelCart", desc := "(I)I" } : Jvm.MethodName)) ∈ lw_all := lw_g (lw_at lw_m16 199 rfl) rfl
theorem q3922 : (Jvm.Cond.selects "SnowPassModel" ({ cls := "SnowPassModel", name := "cancelCart", desc := "(I)I" } : Jvm.MethodName) ({ cls := "SnowPassModel", name := "cancelCart", desc := "(I)I" } : Jvm.MethodName)) ∈ lw_all := lw_g (lw_at lw_m16 200 rfl) rfl
theorem q3923 : (Jvm.Cond.code ({ cls := "SnowPassModel", name := "cancelCart", desc := "(I)I" } : Jvm.MethodName) prog_17_method_139_code (2 : Nat) (Option.some Jvm.ClassFile.FieldType.int)) ∈ lw_all := lw_g (lw_at lw_m16 201 rfl) rfl
theorem q3925 : (Jvm.Cond.instanceMethod ({ cls := "SnowPassModel", name := "undo", desc := "()I" } : Jvm.MethodName)) ∈ lw_all := lw_g (lw_at lw_m16 203 rfl) rfl
theorem q3926 : (Jvm.Cond.selects "SnowPassModel" ({ cls := "SnowPassModel", name := "undo", desc := "()I" } : Jvm.MethodName) ({ cls := "SnowPassModel", name := "undo", desc := "()I" } : Jvm.MethodName)) ∈ lw_all := lw_g (lw_at lw_m16 204 rfl) rfl
theorem q3927 : (Jvm.Cond.code ({ cls := "SnowPassModel", name := "undo", desc := "()I" } : Jvm.MethodName) prog_17_method_140_code (1 : Nat) (Option.some Jvm.ClassFile.FieldType.int)) ∈ lw_all := lw_g (lw_at lw_m16 205 rfl) rfl
theorem q3929 : (Jvm.Cond.instanceMethod ({ cls := "SnowPassModel", name := "save", desc := "()I" } : Jvm.MethodName)) ∈ lw_all := lw_g (lw_at lw_m16 207 rfl) rfl
theorem q3930 : (Jvm.Cond.selects "SnowPassModel" ({ cls := "SnowPassModel", name := "save", desc := "()I" } : Jvm.MethodName) ({ cls := "SnowPassModel", name := "save", desc := "()I" } : Jvm.MethodName)) ∈ lw_all := lw_g (lw_at lw_m16 208 rfl) rfl
theorem q3931 : (Jvm.Cond.code ({ cls := "SnowPassModel", name := "save", desc := "()I" } : Jvm.MethodName) prog_17_method_141_code (1 : Nat) (Option.some Jvm.ClassFile.FieldType.int)) ∈ lw_all := lw_g (lw_at lw_m16 209 rfl) rfl
theorem q3933 : (Jvm.Cond.instanceMethod ({ cls := "SnowPassModel", name := "restore", desc := "()I" } : Jvm.MethodName)) ∈ lw_all := lw_g (lw_at lw_m16 211 rfl) rfl
theorem q3934 : (Jvm.Cond.selects "SnowPassModel" ({ cls := "SnowPassModel", name := "restore", desc := "()I" } : Jvm.MethodName) ({ cls := "SnowPassModel", name := "restore", desc := "()I" } : Jvm.MethodName)) ∈ lw_all := lw_g (lw_at lw_m16 212 rfl) rfl
theorem q3935 : (Jvm.Cond.code ({ cls := "SnowPassModel", name := "restore", desc := "()I" } : Jvm.MethodName) prog_17_method_142_code (1 : Nat) (Option.some Jvm.ClassFile.FieldType.int)) ∈ lw_all := lw_g (lw_at lw_m16 213 rfl) rfl
theorem q3937 : (Jvm.Cond.instanceMethod ({ cls := "SnowPassModel", name := "formatRoad", desc := "()I" } : Jvm.MethodName)) ∈ lw_all := lw_g (lw_at lw_m16 215 rfl) rfl
theorem q3938 : (Jvm.Cond.selects "SnowPassModel" ({ cls := "SnowPassModel", name := "formatRoad", desc := "()I" } : Jvm.MethodName) ({ cls := "SnowPassModel", name := "formatRoad", desc := "()I" } : Jvm.MethodName)) ∈ lw_all := lw_g (lw_at lw_m16 216 rfl) rfl
theorem q3939 : (Jvm.Cond.code ({ cls := "SnowPassModel", name := "formatRoad", desc := "()I" } : Jvm.MethodName) prog_17_method_146_code (2 : Nat) (Option.some Jvm.ClassFile.FieldType.int)) ∈ lw_all := lw_g (lw_at lw_m16 217 rfl) rfl
theorem q3940 : (Jvm.Cond.methodLink "SnowPassModel" (389 : Nat) ({ cls := "SnowPassModel", name := "writes", desc := "(I)V" } : Jvm.MethodName)) ∈ lw_all := lw_g (lw_at lw_m16 218 rfl) rfl
theorem q3941 : (Jvm.Cond.privateMethod ({ cls := "SnowPassModel", name := "writes", desc := "(I)V" } : Jvm.MethodName)) ∈ lw_tbl := lw_at lw_m16 219 rfl
theorem q3942 : (Jvm.Cond.instanceMethod ({ cls := "SnowPassModel", name := "writes", desc := "(I)V" } : Jvm.MethodName)) ∈ lw_all := lw_g (lw_at lw_m16 220 rfl) rfl
theorem q3943 : (Jvm.Cond.code ({ cls := "SnowPassModel", name := "writes", desc := "(I)V" } : Jvm.MethodName) prog_17_method_143_code (2 : Nat) (Option.none : Option Jvm.ClassFile.FieldType)) ∈ lw_all := lw_g (lw_at lw_m16 221 rfl) rfl
theorem q3944 : (Jvm.Cond.methodLink "SnowPassModel" (395 : Nat) ({ cls := "SnowPassModel", name := "writesSegment", desc := "(I)V" } : Jvm.MethodName)) ∈ lw_all := lw_g (lw_at lw_m16 222 rfl) rfl
theorem q3945 : (Jvm.Cond.privateMethod ({ cls := "SnowPassModel", name := "writesSegment", desc := "(I)V" } : Jvm.MethodName)) ∈ lw_tbl := lw_at lw_m16 223 rfl
theorem q3946 : (Jvm.Cond.instanceMethod ({ cls := "SnowPassModel", name := "writesSegment", desc := "(I)V" } : Jvm.MethodName)) ∈ lw_all := lw_g (lw_at lw_m16 224 rfl) rfl
theorem q3947 : (Jvm.Cond.code ({ cls := "SnowPassModel", name := "writesSegment", desc := "(I)V" } : Jvm.MethodName) prog_17_method_145_code (2 : Nat) (Option.none : Option Jvm.ClassFile.FieldType)) ∈ lw_all := lw_g (lw_at lw_m16 225 rfl) rfl
theorem q3948 : (Jvm.Cond.methodLink "SnowPassModel" (392 : Nat) ({ cls := "SnowPassModel", name := "writesNumber", desc := "(I)V" } : Jvm.MethodName)) ∈ lw_all := lw_g (lw_at lw_m16 226 rfl) rfl
theorem q3949 : (Jvm.Cond.privateMethod ({ cls := "SnowPassModel", name := "writesNumber", desc := "(I)V" } : Jvm.MethodName)) ∈ lw_tbl := lw_at lw_m16 227 rfl
theorem q3950 : (Jvm.Cond.instanceMethod ({ cls := "SnowPassModel", name := "writesNumber", desc := "(I)V" } : Jvm.MethodName)) ∈ lw_all := lw_g (lw_at lw_m16 228 rfl) rfl
theorem q3951 : (Jvm.Cond.code ({ cls := "SnowPassModel", name := "writesNumber", desc := "(I)V" } : Jvm.MethodName) prog_17_method_144_code (3 : Nat) (Option.none : Option Jvm.ClassFile.FieldType)) ∈ lw_all := lw_g (lw_at lw_m16 229 rfl) rfl
theorem q3953 : (Jvm.Cond.instanceMethod ({ cls := "SnowPassModel", name := "outputByte", desc := "(I)I" } : Jvm.MethodName)) ∈ lw_all := lw_g (lw_at lw_m16 231 rfl) rfl
theorem q3954 : (Jvm.Cond.selects "SnowPassModel" ({ cls := "SnowPassModel", name := "outputByte", desc := "(I)I" } : Jvm.MethodName) ({ cls := "SnowPassModel", name := "outputByte", desc := "(I)I" } : Jvm.MethodName)) ∈ lw_all := lw_g (lw_at lw_m16 232 rfl) rfl
theorem q3955 : (Jvm.Cond.code ({ cls := "SnowPassModel", name := "outputByte", desc := "(I)I" } : Jvm.MethodName) prog_17_method_147_code (2 : Nat) (Option.some Jvm.ClassFile.FieldType.int)) ∈ lw_all := lw_g (lw_at lw_m16 233 rfl) rfl
theorem q4004 : (Jvm.Cond.castable "SnowPassModel" "java/lang/Object") ∈ lw_tbl := lw_at lw_m17 42 rfl
theorem in_X9 : ∀ w ∈ wsX90, w ∈ lw_all := lw_in wsX90 [3427, 3429, 3431, 3433, 3435, 3437, 3439, 3441, 3443, 3445, 3447, 3449, 3451, 3453, 3455, 3457, 3459, 3461, 3463, 3465, 3467, 3469] (by decide +kernel) (by decide +kernel)
