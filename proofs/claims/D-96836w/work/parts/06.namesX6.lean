set_option maxRecDepth 100000
/-! OldLightModel -/
set_option maxRecDepth 100000
def RX6 : String := "OldLightModel"
def TX6 : u_T := fun k => match k with
  | 0 => ("OldLightModel", "now", "[I", true)
  | 1 => ("OldLightModel", "kept", "[I", true)
  | 2 => ("OldLightModel", "aside", "[I", true)
  | 3 => ("OldLightModel", "images", "I", false)
  | 4 => ("OldLightModel", "errors", "[I", true)
  | 5 => ("OldLightModel", "depthFound", "[I", true)
  | 6 => ("OldLightModel", "NAMED", "[Ljava/lang/String;", true)
  | 7 => ("OldLightModel", "at", "I", false)
  | 8 => ("OldLightModel", "open", "I", false)
  | 9 => ("OldLightModel", "use", "I", false)
  | 10 => ("OldLightModel", "isWrong", "Z", false)
  | 11 => ("OldLightModel", "code", "[I", true)
  | 12 => ("OldLightModel", "coded", "I", false)
  | 13 => ("OldLightModel", "named", "[I", true)
  | 14 => ("OldLightModel", "pile", "[I", true)
  | 15 => ("OldLightModel", "trace", "[I", true)
  | 16 => ("OldLightModel", "traced", "I", false)
  | 17 => ("OldLightModel", "kind", "I", false)
  | 18 => ("OldLightModel", "number", "I", false)
  | 19 => ("OldLightModel", "told", "I", false)
  | 20 => ("OldLightModel", "widths", "[I", true)
  | 21 => ("OldLightModel", "sizes", "[I", true)
  | 22 => ("OldLightModel", "numbers", "[I", true)
  | _ => ("OldLightModel", "carried", "[I", true)
def tyX6 : Nat → FieldType := fun k => match k with
  | 0 => .array .int
  | 1 => .array .int
  | 2 => .array .int
  | 3 => .int
  | 4 => .array .int
  | 5 => .array .int
  | 6 => .array (.object "java/lang/String")
  | 7 => .int
  | 8 => .int
  | 9 => .int
  | 10 => .boolean
  | 11 => .array .int
  | 12 => .int
  | 13 => .array .int
  | 14 => .array .int
  | 15 => .array .int
  | 16 => .int
  | 17 => .int
  | 18 => .int
  | 19 => .int
  | 20 => .array .int
  | 21 => .array .int
  | 22 => .array .int
  | _ => .array .int
abbrev wsX60 : List Cond := u_ws RX6 TX6 24
set_option maxRecDepth 100000 in
theorem nmX6 : ∀ a, a < 24 → ∀ b, b < 24 → a ≠ b → (TX6 a).2.1 ≠ (TX6 b).2.1 := by decide +kernel
set_option maxRecDepth 100000 in
theorem tyX6_ok : ∀ k, k < 24 → parseFieldDescriptor (TX6 k).2.2.1 = some (tyX6 k) := by decide +kernel
abbrev cX6_init : ByteArray := prog_30_method_1_code
def yX6_init : MethodName := ⟨RX6, "<init>", "()V"⟩
def dkwX6_init_6 : List UInt8 := [180, 0, 9, 6, 17, 0, 200, 79, 42, 16, 8, 182, 0, 59, 87, 177]
abbrev dktX6_init_6 : List UInt8 := dkwX6_init_6 ++ []
def dkwX6_init_5 : List UInt8 := [188, 10, 181, 0, 53, 42, 16, 40, 188, 10, 181, 0, 56, 42, 180, 0, 9, 16, 6, 4, 79, 42]
abbrev dktX6_init_5 : List UInt8 := dkwX6_init_5 ++ dktX6_init_6
def dkwX6_init_4 : List UInt8 := [188, 10, 181, 0, 44, 42, 7, 188, 10, 181, 0, 47, 42, 7, 188, 10, 181, 0, 50, 42, 17, 0, 160]
abbrev dktX6_init_4 : List UInt8 := dkwX6_init_4 ++ dktX6_init_5
def dkwX6_init_3 : List UInt8 := [188, 10, 181, 0, 35, 42, 7, 188, 10, 181, 0, 38, 42, 16, 60, 188, 10, 181, 0, 41, 42, 16, 40]
abbrev dktX6_init_3 : List UInt8 := dkwX6_init_3 ++ dktX6_init_4
def dkwX6_init_2 : List UInt8 := [181, 0, 22, 42, 5, 189, 0, 25, 89, 3, 18, 27, 83, 89, 4, 18, 29, 83, 181, 0, 31, 42, 16, 60]
abbrev dktX6_init_2 : List UInt8 := dkwX6_init_2 ++ dktX6_init_3
def dkwX6_init_1 : List UInt8 := [17, 0, 242, 188, 10, 181, 0, 16, 42, 16, 6, 188, 10, 181, 0, 19, 42, 17, 31, 64, 188, 10]
abbrev dktX6_init_1 : List UInt8 := dkwX6_init_1 ++ dktX6_init_2
def dkwX6_init_0 : List UInt8 := [42, 183, 0, 3, 42, 17, 0, 242, 188, 10, 181, 0, 9, 42, 17, 0, 242, 188, 10, 181, 0, 13, 42]
abbrev dktX6_init_0 : List UInt8 := dkwX6_init_0 ++ dktX6_init_1
theorem dksX6_init_0 : cX6_init.data.toList.drop 0 = dktX6_init_0 := by decide +kernel
theorem dksX6_init_1 : cX6_init.data.toList.drop 23 = dktX6_init_1 := dk_seg dksX6_init_0 23 rfl rfl
theorem dksX6_init_2 : cX6_init.data.toList.drop 45 = dktX6_init_2 := dk_seg dksX6_init_1 22 rfl rfl
theorem dksX6_init_3 : cX6_init.data.toList.drop 69 = dktX6_init_3 := dk_seg dksX6_init_2 24 rfl rfl
theorem dksX6_init_4 : cX6_init.data.toList.drop 92 = dktX6_init_4 := dk_seg dksX6_init_3 23 rfl rfl
theorem dksX6_init_5 : cX6_init.data.toList.drop 115 = dktX6_init_5 := dk_seg dksX6_init_4 23 rfl rfl
theorem dksX6_init_6 : cX6_init.data.toList.drop 137 = dktX6_init_6 := dk_seg dksX6_init_5 22 rfl rfl
theorem dX6_init_0 : decode cX6_init 0 = .ok (.aload_n 0, 1) := dk_42 (dk_at dksX6_init_0 0 rfl rfl)
theorem dX6_init_1 : decode cX6_init 1 = .ok (.invokespecial 3, 3) := dk_183 0 3 (dk_at dksX6_init_0 1 rfl rfl)
theorem dX6_init_4 : decode cX6_init 4 = .ok (.aload_n 0, 1) := dk_42 (dk_at dksX6_init_0 4 rfl rfl)
theorem dX6_init_5 : decode cX6_init 5 = .ok (.sipush 242, 3) := dk_17 0 242 (dk_at dksX6_init_0 5 rfl rfl)
theorem dX6_init_8 : decode cX6_init 8 = .ok (.newarray .int, 2) := dk_188_10 (dk_at dksX6_init_0 8 rfl rfl)
theorem dX6_init_10 : decode cX6_init 10 = .ok (.putfield 9, 3) := dk_181 0 9 (dk_at dksX6_init_0 10 rfl rfl)
theorem dX6_init_13 : decode cX6_init 13 = .ok (.aload_n 0, 1) := dk_42 (dk_at dksX6_init_0 13 rfl rfl)
theorem dX6_init_14 : decode cX6_init 14 = .ok (.sipush 242, 3) := dk_17 0 242 (dk_at dksX6_init_0 14 rfl rfl)
theorem dX6_init_17 : decode cX6_init 17 = .ok (.newarray .int, 2) := dk_188_10 (dk_at dksX6_init_0 17 rfl rfl)
theorem dX6_init_19 : decode cX6_init 19 = .ok (.putfield 13, 3) := dk_181 0 13 (dk_at dksX6_init_0 19 rfl rfl)
theorem dX6_init_22 : decode cX6_init 22 = .ok (.aload_n 0, 1) := dk_42 (dk_at dksX6_init_0 22 rfl rfl)
theorem dX6_init_23 : decode cX6_init 23 = .ok (.sipush 242, 3) := dk_17 0 242 (dk_at dksX6_init_1 0 rfl rfl)
theorem dX6_init_26 : decode cX6_init 26 = .ok (.newarray .int, 2) := dk_188_10 (dk_at dksX6_init_1 3 rfl rfl)
theorem dX6_init_28 : decode cX6_init 28 = .ok (.putfield 16, 3) := dk_181 0 16 (dk_at dksX6_init_1 5 rfl rfl)
theorem dX6_init_31 : decode cX6_init 31 = .ok (.aload_n 0, 1) := dk_42 (dk_at dksX6_init_1 8 rfl rfl)
theorem dX6_init_32 : decode cX6_init 32 = .ok (.bipush 6, 2) := dk_16 6 (dk_at dksX6_init_1 9 rfl rfl)
theorem dX6_init_34 : decode cX6_init 34 = .ok (.newarray .int, 2) := dk_188_10 (dk_at dksX6_init_1 11 rfl rfl)
theorem dX6_init_36 : decode cX6_init 36 = .ok (.putfield 19, 3) := dk_181 0 19 (dk_at dksX6_init_1 13 rfl rfl)
theorem dX6_init_39 : decode cX6_init 39 = .ok (.aload_n 0, 1) := dk_42 (dk_at dksX6_init_1 16 rfl rfl)
theorem dX6_init_40 : decode cX6_init 40 = .ok (.sipush 8000, 3) := dk_17 31 64 (dk_at dksX6_init_1 17 rfl rfl)
theorem dX6_init_43 : decode cX6_init 43 = .ok (.newarray .int, 2) := dk_188_10 (dk_at dksX6_init_1 20 rfl rfl)
theorem dX6_init_45 : decode cX6_init 45 = .ok (.putfield 22, 3) := dk_181 0 22 (dk_at dksX6_init_2 0 rfl rfl)
theorem dX6_init_48 : decode cX6_init 48 = .ok (.aload_n 0, 1) := dk_42 (dk_at dksX6_init_2 3 rfl rfl)
theorem dX6_init_49 : decode cX6_init 49 = .ok (.iconst 2, 1) := dk_5 (dk_at dksX6_init_2 4 rfl rfl)
theorem dX6_init_50 : decode cX6_init 50 = .ok (.anewarray 25, 3) := dk_189 0 25 (dk_at dksX6_init_2 5 rfl rfl)
theorem dX6_init_53 : decode cX6_init 53 = .ok (.dup, 1) := dk_89 (dk_at dksX6_init_2 8 rfl rfl)
theorem dX6_init_54 : decode cX6_init 54 = .ok (.iconst 0, 1) := dk_3 (dk_at dksX6_init_2 9 rfl rfl)
theorem dX6_init_55 : decode cX6_init 55 = .ok (.ldc 27, 2) := dk_18 27 (dk_at dksX6_init_2 10 rfl rfl)
theorem dX6_init_57 : decode cX6_init 57 = .ok (.aastore, 1) := dk_83 (dk_at dksX6_init_2 12 rfl rfl)
theorem dX6_init_58 : decode cX6_init 58 = .ok (.dup, 1) := dk_89 (dk_at dksX6_init_2 13 rfl rfl)
theorem dX6_init_59 : decode cX6_init 59 = .ok (.iconst 1, 1) := dk_4 (dk_at dksX6_init_2 14 rfl rfl)
theorem dX6_init_60 : decode cX6_init 60 = .ok (.ldc 29, 2) := dk_18 29 (dk_at dksX6_init_2 15 rfl rfl)
theorem dX6_init_62 : decode cX6_init 62 = .ok (.aastore, 1) := dk_83 (dk_at dksX6_init_2 17 rfl rfl)
theorem dX6_init_63 : decode cX6_init 63 = .ok (.putfield 31, 3) := dk_181 0 31 (dk_at dksX6_init_2 18 rfl rfl)
theorem dX6_init_66 : decode cX6_init 66 = .ok (.aload_n 0, 1) := dk_42 (dk_at dksX6_init_2 21 rfl rfl)
theorem dX6_init_67 : decode cX6_init 67 = .ok (.bipush 60, 2) := dk_16 60 (dk_at dksX6_init_2 22 rfl rfl)
theorem dX6_init_69 : decode cX6_init 69 = .ok (.newarray .int, 2) := dk_188_10 (dk_at dksX6_init_3 0 rfl rfl)
theorem dX6_init_71 : decode cX6_init 71 = .ok (.putfield 35, 3) := dk_181 0 35 (dk_at dksX6_init_3 2 rfl rfl)
theorem dX6_init_74 : decode cX6_init 74 = .ok (.aload_n 0, 1) := dk_42 (dk_at dksX6_init_3 5 rfl rfl)
theorem dX6_init_75 : decode cX6_init 75 = .ok (.iconst 4, 1) := dk_7 (dk_at dksX6_init_3 6 rfl rfl)
theorem dX6_init_76 : decode cX6_init 76 = .ok (.newarray .int, 2) := dk_188_10 (dk_at dksX6_init_3 7 rfl rfl)
theorem dX6_init_78 : decode cX6_init 78 = .ok (.putfield 38, 3) := dk_181 0 38 (dk_at dksX6_init_3 9 rfl rfl)
theorem dX6_init_81 : decode cX6_init 81 = .ok (.aload_n 0, 1) := dk_42 (dk_at dksX6_init_3 12 rfl rfl)
theorem dX6_init_82 : decode cX6_init 82 = .ok (.bipush 60, 2) := dk_16 60 (dk_at dksX6_init_3 13 rfl rfl)
theorem dX6_init_84 : decode cX6_init 84 = .ok (.newarray .int, 2) := dk_188_10 (dk_at dksX6_init_3 15 rfl rfl)
theorem dX6_init_86 : decode cX6_init 86 = .ok (.putfield 41, 3) := dk_181 0 41 (dk_at dksX6_init_3 17 rfl rfl)
theorem dX6_init_89 : decode cX6_init 89 = .ok (.aload_n 0, 1) := dk_42 (dk_at dksX6_init_3 20 rfl rfl)
theorem dX6_init_90 : decode cX6_init 90 = .ok (.bipush 40, 2) := dk_16 40 (dk_at dksX6_init_3 21 rfl rfl)
theorem dX6_init_92 : decode cX6_init 92 = .ok (.newarray .int, 2) := dk_188_10 (dk_at dksX6_init_4 0 rfl rfl)
theorem dX6_init_94 : decode cX6_init 94 = .ok (.putfield 44, 3) := dk_181 0 44 (dk_at dksX6_init_4 2 rfl rfl)
theorem dX6_init_97 : decode cX6_init 97 = .ok (.aload_n 0, 1) := dk_42 (dk_at dksX6_init_4 5 rfl rfl)
theorem dX6_init_98 : decode cX6_init 98 = .ok (.iconst 4, 1) := dk_7 (dk_at dksX6_init_4 6 rfl rfl)
theorem dX6_init_99 : decode cX6_init 99 = .ok (.newarray .int, 2) := dk_188_10 (dk_at dksX6_init_4 7 rfl rfl)
theorem dX6_init_101 : decode cX6_init 101 = .ok (.putfield 47, 3) := dk_181 0 47 (dk_at dksX6_init_4 9 rfl rfl)
theorem dX6_init_104 : decode cX6_init 104 = .ok (.aload_n 0, 1) := dk_42 (dk_at dksX6_init_4 12 rfl rfl)
theorem dX6_init_105 : decode cX6_init 105 = .ok (.iconst 4, 1) := dk_7 (dk_at dksX6_init_4 13 rfl rfl)
theorem dX6_init_106 : decode cX6_init 106 = .ok (.newarray .int, 2) := dk_188_10 (dk_at dksX6_init_4 14 rfl rfl)
theorem dX6_init_108 : decode cX6_init 108 = .ok (.putfield 50, 3) := dk_181 0 50 (dk_at dksX6_init_4 16 rfl rfl)
theorem dX6_init_111 : decode cX6_init 111 = .ok (.aload_n 0, 1) := dk_42 (dk_at dksX6_init_4 19 rfl rfl)
theorem dX6_init_112 : decode cX6_init 112 = .ok (.sipush 160, 3) := dk_17 0 160 (dk_at dksX6_init_4 20 rfl rfl)
theorem dX6_init_115 : decode cX6_init 115 = .ok (.newarray .int, 2) := dk_188_10 (dk_at dksX6_init_5 0 rfl rfl)
theorem dX6_init_117 : decode cX6_init 117 = .ok (.putfield 53, 3) := dk_181 0 53 (dk_at dksX6_init_5 2 rfl rfl)
theorem dX6_init_120 : decode cX6_init 120 = .ok (.aload_n 0, 1) := dk_42 (dk_at dksX6_init_5 5 rfl rfl)
theorem dX6_init_121 : decode cX6_init 121 = .ok (.bipush 40, 2) := dk_16 40 (dk_at dksX6_init_5 6 rfl rfl)
theorem dX6_init_123 : decode cX6_init 123 = .ok (.newarray .int, 2) := dk_188_10 (dk_at dksX6_init_5 8 rfl rfl)
theorem dX6_init_125 : decode cX6_init 125 = .ok (.putfield 56, 3) := dk_181 0 56 (dk_at dksX6_init_5 10 rfl rfl)
theorem dX6_init_128 : decode cX6_init 128 = .ok (.aload_n 0, 1) := dk_42 (dk_at dksX6_init_5 13 rfl rfl)
theorem dX6_init_129 : decode cX6_init 129 = .ok (.getfield 9, 3) := dk_180 0 9 (dk_at dksX6_init_5 14 rfl rfl)
theorem dX6_init_132 : decode cX6_init 132 = .ok (.bipush 6, 2) := dk_16 6 (dk_at dksX6_init_5 17 rfl rfl)
theorem dX6_init_134 : decode cX6_init 134 = .ok (.iconst 1, 1) := dk_4 (dk_at dksX6_init_5 19 rfl rfl)
theorem dX6_init_135 : decode cX6_init 135 = .ok (.iastore, 1) := dk_79 (dk_at dksX6_init_5 20 rfl rfl)
theorem dX6_init_136 : decode cX6_init 136 = .ok (.aload_n 0, 1) := dk_42 (dk_at dksX6_init_5 21 rfl rfl)
theorem dX6_init_137 : decode cX6_init 137 = .ok (.getfield 9, 3) := dk_180 0 9 (dk_at dksX6_init_6 0 rfl rfl)
theorem dX6_init_140 : decode cX6_init 140 = .ok (.iconst 3, 1) := dk_6 (dk_at dksX6_init_6 3 rfl rfl)
theorem dX6_init_141 : decode cX6_init 141 = .ok (.sipush 200, 3) := dk_17 0 200 (dk_at dksX6_init_6 4 rfl rfl)
theorem dX6_init_144 : decode cX6_init 144 = .ok (.iastore, 1) := dk_79 (dk_at dksX6_init_6 7 rfl rfl)
theorem dX6_init_145 : decode cX6_init 145 = .ok (.aload_n 0, 1) := dk_42 (dk_at dksX6_init_6 8 rfl rfl)
theorem dX6_init_146 : decode cX6_init 146 = .ok (.bipush 8, 2) := dk_16 8 (dk_at dksX6_init_6 9 rfl rfl)
theorem dX6_init_148 : decode cX6_init 148 = .ok (.invokevirtual 59, 3) := dk_182 0 59 (dk_at dksX6_init_6 11 rfl rfl)
theorem dX6_init_151 : decode cX6_init 151 = .ok (.pop, 1) := dk_87 (dk_at dksX6_init_6 14 rfl rfl)
theorem dX6_init_152 : decode cX6_init 152 = .ok (.return_, 1) := dk_177 (dk_at dksX6_init_6 15 rfl rfl)
abbrev cX6_flat : ByteArray := prog_30_method_36_code
def yX6_flat : MethodName := ⟨RX6, "flat", "(I)I"⟩
def dkwX6_flat_2 : List UInt8 := [180, 0, 9, 8, 3, 79, 42, 182, 0, 145, 42, 4, 27, 182, 0, 171, 172]
abbrev dktX6_flat_2 : List UInt8 := dkwX6_flat_2 ++ []
def dkwX6_flat_1 : List UInt8 := [4, 184, 0, 165, 4, 79, 42, 180, 0, 9, 28, 5, 184, 0, 165, 3, 79, 132, 2, 1, 167, 255, 214, 42]
abbrev dktX6_flat_1 : List UInt8 := dkwX6_flat_1 ++ dktX6_flat_2
def dkwX6_flat_0 : List UInt8 := [3, 61, 28, 16, 8, 162, 0, 42, 42, 180, 0, 9, 28, 3, 184, 0, 165, 8, 79, 42, 180, 0, 9, 28]
abbrev dktX6_flat_0 : List UInt8 := dkwX6_flat_0 ++ dktX6_flat_1
theorem dksX6_flat_0 : cX6_flat.data.toList.drop 0 = dktX6_flat_0 := by decide +kernel
theorem dksX6_flat_1 : cX6_flat.data.toList.drop 24 = dktX6_flat_1 := dk_seg dksX6_flat_0 24 rfl rfl
theorem dksX6_flat_2 : cX6_flat.data.toList.drop 48 = dktX6_flat_2 := dk_seg dksX6_flat_1 24 rfl rfl
theorem dX6_flat_0 : decode cX6_flat 0 = .ok (.iconst 0, 1) := dk_3 (dk_at dksX6_flat_0 0 rfl rfl)
theorem dX6_flat_1 : decode cX6_flat 1 = .ok (.istore_n 2, 1) := dk_61 (dk_at dksX6_flat_0 1 rfl rfl)
theorem dX6_flat_2 : decode cX6_flat 2 = .ok (.iload_n 2, 1) := dk_28 (dk_at dksX6_flat_0 2 rfl rfl)
theorem dX6_flat_3 : decode cX6_flat 3 = .ok (.bipush 8, 2) := dk_16 8 (dk_at dksX6_flat_0 3 rfl rfl)
theorem dX6_flat_5 : decode cX6_flat 5 = .ok (.if_icmp .ge 42, 3) := dk_162 0 42 (dk_at dksX6_flat_0 5 rfl rfl)
theorem dX6_flat_8 : decode cX6_flat 8 = .ok (.aload_n 0, 1) := dk_42 (dk_at dksX6_flat_0 8 rfl rfl)
theorem dX6_flat_9 : decode cX6_flat 9 = .ok (.getfield 9, 3) := dk_180 0 9 (dk_at dksX6_flat_0 9 rfl rfl)
theorem dX6_flat_12 : decode cX6_flat 12 = .ok (.iload_n 2, 1) := dk_28 (dk_at dksX6_flat_0 12 rfl rfl)
theorem dX6_flat_13 : decode cX6_flat 13 = .ok (.iconst 0, 1) := dk_3 (dk_at dksX6_flat_0 13 rfl rfl)
theorem dX6_flat_14 : decode cX6_flat 14 = .ok (.invokestatic 165, 3) := dk_184 0 165 (dk_at dksX6_flat_0 14 rfl rfl)
theorem dX6_flat_17 : decode cX6_flat 17 = .ok (.iconst 5, 1) := dk_8 (dk_at dksX6_flat_0 17 rfl rfl)
theorem dX6_flat_18 : decode cX6_flat 18 = .ok (.iastore, 1) := dk_79 (dk_at dksX6_flat_0 18 rfl rfl)
theorem dX6_flat_19 : decode cX6_flat 19 = .ok (.aload_n 0, 1) := dk_42 (dk_at dksX6_flat_0 19 rfl rfl)
theorem dX6_flat_20 : decode cX6_flat 20 = .ok (.getfield 9, 3) := dk_180 0 9 (dk_at dksX6_flat_0 20 rfl rfl)
theorem dX6_flat_23 : decode cX6_flat 23 = .ok (.iload_n 2, 1) := dk_28 (dk_at dksX6_flat_0 23 rfl rfl)
theorem dX6_flat_24 : decode cX6_flat 24 = .ok (.iconst 1, 1) := dk_4 (dk_at dksX6_flat_1 0 rfl rfl)
theorem dX6_flat_25 : decode cX6_flat 25 = .ok (.invokestatic 165, 3) := dk_184 0 165 (dk_at dksX6_flat_1 1 rfl rfl)
theorem dX6_flat_28 : decode cX6_flat 28 = .ok (.iconst 1, 1) := dk_4 (dk_at dksX6_flat_1 4 rfl rfl)
theorem dX6_flat_29 : decode cX6_flat 29 = .ok (.iastore, 1) := dk_79 (dk_at dksX6_flat_1 5 rfl rfl)
theorem dX6_flat_30 : decode cX6_flat 30 = .ok (.aload_n 0, 1) := dk_42 (dk_at dksX6_flat_1 6 rfl rfl)
theorem dX6_flat_31 : decode cX6_flat 31 = .ok (.getfield 9, 3) := dk_180 0 9 (dk_at dksX6_flat_1 7 rfl rfl)
theorem dX6_flat_34 : decode cX6_flat 34 = .ok (.iload_n 2, 1) := dk_28 (dk_at dksX6_flat_1 10 rfl rfl)
theorem dX6_flat_35 : decode cX6_flat 35 = .ok (.iconst 2, 1) := dk_5 (dk_at dksX6_flat_1 11 rfl rfl)
theorem dX6_flat_36 : decode cX6_flat 36 = .ok (.invokestatic 165, 3) := dk_184 0 165 (dk_at dksX6_flat_1 12 rfl rfl)
theorem dX6_flat_39 : decode cX6_flat 39 = .ok (.iconst 0, 1) := dk_3 (dk_at dksX6_flat_1 15 rfl rfl)
theorem dX6_flat_40 : decode cX6_flat 40 = .ok (.iastore, 1) := dk_79 (dk_at dksX6_flat_1 16 rfl rfl)
theorem dX6_flat_41 : decode cX6_flat 41 = .ok (.iinc 2 1, 3) := dk_132 2 1 (dk_at dksX6_flat_1 17 rfl rfl)
theorem dX6_flat_44 : decode cX6_flat 44 = .ok (.goto (-42), 3) := dk_167 255 214 (dk_at dksX6_flat_1 20 rfl rfl)
theorem dX6_flat_47 : decode cX6_flat 47 = .ok (.aload_n 0, 1) := dk_42 (dk_at dksX6_flat_1 23 rfl rfl)
theorem dX6_flat_48 : decode cX6_flat 48 = .ok (.getfield 9, 3) := dk_180 0 9 (dk_at dksX6_flat_2 0 rfl rfl)
theorem dX6_flat_51 : decode cX6_flat 51 = .ok (.iconst 5, 1) := dk_8 (dk_at dksX6_flat_2 3 rfl rfl)
theorem dX6_flat_52 : decode cX6_flat 52 = .ok (.iconst 0, 1) := dk_3 (dk_at dksX6_flat_2 4 rfl rfl)
theorem dX6_flat_53 : decode cX6_flat 53 = .ok (.iastore, 1) := dk_79 (dk_at dksX6_flat_2 5 rfl rfl)
theorem dX6_flat_54 : decode cX6_flat 54 = .ok (.aload_n 0, 1) := dk_42 (dk_at dksX6_flat_2 6 rfl rfl)
theorem dX6_flat_55 : decode cX6_flat 55 = .ok (.invokevirtual 145, 3) := dk_182 0 145 (dk_at dksX6_flat_2 7 rfl rfl)
theorem dX6_flat_58 : decode cX6_flat 58 = .ok (.aload_n 0, 1) := dk_42 (dk_at dksX6_flat_2 10 rfl rfl)
theorem dX6_flat_59 : decode cX6_flat 59 = .ok (.iconst 1, 1) := dk_4 (dk_at dksX6_flat_2 11 rfl rfl)
theorem dX6_flat_60 : decode cX6_flat 60 = .ok (.iload_n 1, 1) := dk_27 (dk_at dksX6_flat_2 12 rfl rfl)
theorem dX6_flat_61 : decode cX6_flat 61 = .ok (.invokevirtual 171, 3) := dk_182 0 171 (dk_at dksX6_flat_2 13 rfl rfl)
theorem dX6_flat_64 : decode cX6_flat 64 = .ok (.ireturn, 1) := dk_172 (dk_at dksX6_flat_2 16 rfl rfl)
abbrev cX6_cellAt : ByteArray := prog_30_method_32_code
def yX6_cellAt : MethodName := ⟨RX6, "cellAt", "(II)I"⟩
def dkwX6_cellAt_0 : List UInt8 := [16, 9, 6, 26, 104, 96, 27, 96, 172]
abbrev dktX6_cellAt_0 : List UInt8 := dkwX6_cellAt_0 ++ []
theorem dksX6_cellAt_0 : cX6_cellAt.data.toList.drop 0 = dktX6_cellAt_0 := by decide +kernel
theorem dX6_cellAt_0 : decode cX6_cellAt 0 = .ok (.bipush 9, 2) := dk_16 9 (dk_at dksX6_cellAt_0 0 rfl rfl)
theorem dX6_cellAt_2 : decode cX6_cellAt 2 = .ok (.iconst 3, 1) := dk_6 (dk_at dksX6_cellAt_0 2 rfl rfl)
theorem dX6_cellAt_3 : decode cX6_cellAt 3 = .ok (.iload_n 0, 1) := dk_26 (dk_at dksX6_cellAt_0 3 rfl rfl)
theorem dX6_cellAt_4 : decode cX6_cellAt 4 = .ok (.imul, 1) := dk_104 (dk_at dksX6_cellAt_0 4 rfl rfl)
theorem dX6_cellAt_5 : decode cX6_cellAt 5 = .ok (.iadd, 1) := dk_96 (dk_at dksX6_cellAt_0 5 rfl rfl)
theorem dX6_cellAt_6 : decode cX6_cellAt 6 = .ok (.iload_n 1, 1) := dk_27 (dk_at dksX6_cellAt_0 6 rfl rfl)
theorem dX6_cellAt_7 : decode cX6_cellAt 7 = .ok (.iadd, 1) := dk_96 (dk_at dksX6_cellAt_0 7 rfl rfl)
theorem dX6_cellAt_8 : decode cX6_cellAt 8 = .ok (.ireturn, 1) := dk_172 (dk_at dksX6_cellAt_0 8 rfl rfl)
abbrev cX6_forgetDepths : ByteArray := prog_30_method_27_code
def yX6_forgetDepths : MethodName := ⟨RX6, "forgetDepths", "()V"⟩
def dkwX6_forgetDepths_0 : List UInt8 := [3, 60, 27, 17, 31, 64, 162, 0, 16, 42, 180, 0, 22, 27, 3, 79, 132, 1, 1, 167, 255, 239, 177]
abbrev dktX6_forgetDepths_0 : List UInt8 := dkwX6_forgetDepths_0 ++ []
theorem dksX6_forgetDepths_0 : cX6_forgetDepths.data.toList.drop 0 = dktX6_forgetDepths_0 := by decide +kernel
theorem dX6_forgetDepths_0 : decode cX6_forgetDepths 0 = .ok (.iconst 0, 1) := dk_3 (dk_at dksX6_forgetDepths_0 0 rfl rfl)
theorem dX6_forgetDepths_1 : decode cX6_forgetDepths 1 = .ok (.istore_n 1, 1) := dk_60 (dk_at dksX6_forgetDepths_0 1 rfl rfl)
theorem dX6_forgetDepths_2 : decode cX6_forgetDepths 2 = .ok (.iload_n 1, 1) := dk_27 (dk_at dksX6_forgetDepths_0 2 rfl rfl)
theorem dX6_forgetDepths_3 : decode cX6_forgetDepths 3 = .ok (.sipush 8000, 3) := dk_17 31 64 (dk_at dksX6_forgetDepths_0 3 rfl rfl)
theorem dX6_forgetDepths_6 : decode cX6_forgetDepths 6 = .ok (.if_icmp .ge 16, 3) := dk_162 0 16 (dk_at dksX6_forgetDepths_0 6 rfl rfl)
theorem dX6_forgetDepths_9 : decode cX6_forgetDepths 9 = .ok (.aload_n 0, 1) := dk_42 (dk_at dksX6_forgetDepths_0 9 rfl rfl)
theorem dX6_forgetDepths_10 : decode cX6_forgetDepths 10 = .ok (.getfield 22, 3) := dk_180 0 22 (dk_at dksX6_forgetDepths_0 10 rfl rfl)
theorem dX6_forgetDepths_13 : decode cX6_forgetDepths 13 = .ok (.iload_n 1, 1) := dk_27 (dk_at dksX6_forgetDepths_0 13 rfl rfl)
theorem dX6_forgetDepths_14 : decode cX6_forgetDepths 14 = .ok (.iconst 0, 1) := dk_3 (dk_at dksX6_forgetDepths_0 14 rfl rfl)
theorem dX6_forgetDepths_15 : decode cX6_forgetDepths 15 = .ok (.iastore, 1) := dk_79 (dk_at dksX6_forgetDepths_0 15 rfl rfl)
theorem dX6_forgetDepths_16 : decode cX6_forgetDepths 16 = .ok (.iinc 1 1, 3) := dk_132 1 1 (dk_at dksX6_forgetDepths_0 16 rfl rfl)
theorem dX6_forgetDepths_19 : decode cX6_forgetDepths 19 = .ok (.goto (-17), 3) := dk_167 255 239 (dk_at dksX6_forgetDepths_0 19 rfl rfl)
theorem dX6_forgetDepths_22 : decode cX6_forgetDepths 22 = .ok (.return_, 1) := dk_177 (dk_at dksX6_forgetDepths_0 22 rfl rfl)
abbrev cX6_turn : ByteArray := prog_30_method_6_code
def yX6_turn : MethodName := ⟨RX6, "turn", "(II)I"⟩
def dkwX6_turn_0 : List UInt8 := [42, 180, 0, 9, 27, 46, 62, 42, 180, 0, 9, 27, 28, 79, 29, 172]
abbrev dktX6_turn_0 : List UInt8 := dkwX6_turn_0 ++ []
theorem dksX6_turn_0 : cX6_turn.data.toList.drop 0 = dktX6_turn_0 := by decide +kernel
theorem dX6_turn_0 : decode cX6_turn 0 = .ok (.aload_n 0, 1) := dk_42 (dk_at dksX6_turn_0 0 rfl rfl)
theorem dX6_turn_1 : decode cX6_turn 1 = .ok (.getfield 9, 3) := dk_180 0 9 (dk_at dksX6_turn_0 1 rfl rfl)
theorem dX6_turn_4 : decode cX6_turn 4 = .ok (.iload_n 1, 1) := dk_27 (dk_at dksX6_turn_0 4 rfl rfl)
theorem dX6_turn_5 : decode cX6_turn 5 = .ok (.iaload, 1) := dk_46 (dk_at dksX6_turn_0 5 rfl rfl)
theorem dX6_turn_6 : decode cX6_turn 6 = .ok (.istore_n 3, 1) := dk_62 (dk_at dksX6_turn_0 6 rfl rfl)
theorem dX6_turn_7 : decode cX6_turn 7 = .ok (.aload_n 0, 1) := dk_42 (dk_at dksX6_turn_0 7 rfl rfl)
theorem dX6_turn_8 : decode cX6_turn 8 = .ok (.getfield 9, 3) := dk_180 0 9 (dk_at dksX6_turn_0 8 rfl rfl)
theorem dX6_turn_11 : decode cX6_turn 11 = .ok (.iload_n 1, 1) := dk_27 (dk_at dksX6_turn_0 11 rfl rfl)
theorem dX6_turn_12 : decode cX6_turn 12 = .ok (.iload_n 2, 1) := dk_28 (dk_at dksX6_turn_0 12 rfl rfl)
theorem dX6_turn_13 : decode cX6_turn 13 = .ok (.iastore, 1) := dk_79 (dk_at dksX6_turn_0 13 rfl rfl)
theorem dX6_turn_14 : decode cX6_turn 14 = .ok (.iload_n 3, 1) := dk_29 (dk_at dksX6_turn_0 14 rfl rfl)
theorem dX6_turn_15 : decode cX6_turn 15 = .ok (.ireturn, 1) := dk_172 (dk_at dksX6_turn_0 15 rfl rfl)
abbrev cX6_feed : ByteArray := prog_30_method_8_code
def yX6_feed : MethodName := ⟨RX6, "feed", "(JI)I"⟩
def dkwX6_feed_4 : List UInt8 := [16, 7, 46, 172]
abbrev dktX6_feed_4 : List UInt8 := dkwX6_feed_4 ++ []
def dkwX6_feed_3 : List UInt8 := [136, 79, 42, 180, 0, 9, 16, 7, 92, 46, 4, 96, 79, 132, 4, 1, 167, 255, 209, 42, 180, 0, 9]
abbrev dktX6_feed_3 : List UInt8 := dkwX6_feed_3 ++ dktX6_feed_4
def dkwX6_feed_2 : List UInt8 := [180, 0, 9, 16, 68, 42, 180, 0, 9, 16, 7, 46, 96, 31, 16, 8, 21, 4, 104, 123, 20, 0, 86, 127]
abbrev dktX6_feed_2 : List UInt8 := dkwX6_feed_2 ++ dktX6_feed_3
def dkwX6_feed_1 : List UInt8 := [29, 96, 16, 50, 164, 0, 10, 42, 18, 85, 182, 0, 82, 172, 3, 54, 4, 21, 4, 29, 162, 0, 47, 42]
abbrev dktX6_feed_1 : List UInt8 := dkwX6_feed_1 ++ dktX6_feed_2
def dkwX6_feed_0 : List UInt8 := [29, 4, 16, 8, 184, 0, 77, 154, 0, 10, 42, 18, 81, 182, 0, 82, 172, 42, 180, 0, 9, 16, 7, 46]
abbrev dktX6_feed_0 : List UInt8 := dkwX6_feed_0 ++ dktX6_feed_1
theorem dksX6_feed_0 : cX6_feed.data.toList.drop 0 = dktX6_feed_0 := by decide +kernel
theorem dksX6_feed_1 : cX6_feed.data.toList.drop 24 = dktX6_feed_1 := dk_seg dksX6_feed_0 24 rfl rfl
theorem dksX6_feed_2 : cX6_feed.data.toList.drop 48 = dktX6_feed_2 := dk_seg dksX6_feed_1 24 rfl rfl
theorem dksX6_feed_3 : cX6_feed.data.toList.drop 72 = dktX6_feed_3 := dk_seg dksX6_feed_2 24 rfl rfl
theorem dksX6_feed_4 : cX6_feed.data.toList.drop 95 = dktX6_feed_4 := dk_seg dksX6_feed_3 23 rfl rfl
theorem dX6_feed_0 : decode cX6_feed 0 = .ok (.iload_n 3, 1) := dk_29 (dk_at dksX6_feed_0 0 rfl rfl)
theorem dX6_feed_1 : decode cX6_feed 1 = .ok (.iconst 1, 1) := dk_4 (dk_at dksX6_feed_0 1 rfl rfl)
theorem dX6_feed_2 : decode cX6_feed 2 = .ok (.bipush 8, 2) := dk_16 8 (dk_at dksX6_feed_0 2 rfl rfl)
theorem dX6_feed_4 : decode cX6_feed 4 = .ok (.invokestatic 77, 3) := dk_184 0 77 (dk_at dksX6_feed_0 4 rfl rfl)
theorem dX6_feed_7 : decode cX6_feed 7 = .ok (.ifCond .ne 10, 3) := dk_154 0 10 (dk_at dksX6_feed_0 7 rfl rfl)
theorem dX6_feed_10 : decode cX6_feed 10 = .ok (.aload_n 0, 1) := dk_42 (dk_at dksX6_feed_0 10 rfl rfl)
theorem dX6_feed_11 : decode cX6_feed 11 = .ok (.ldc 81, 2) := dk_18 81 (dk_at dksX6_feed_0 11 rfl rfl)
theorem dX6_feed_13 : decode cX6_feed 13 = .ok (.invokevirtual 82, 3) := dk_182 0 82 (dk_at dksX6_feed_0 13 rfl rfl)
theorem dX6_feed_16 : decode cX6_feed 16 = .ok (.ireturn, 1) := dk_172 (dk_at dksX6_feed_0 16 rfl rfl)
theorem dX6_feed_17 : decode cX6_feed 17 = .ok (.aload_n 0, 1) := dk_42 (dk_at dksX6_feed_0 17 rfl rfl)
theorem dX6_feed_18 : decode cX6_feed 18 = .ok (.getfield 9, 3) := dk_180 0 9 (dk_at dksX6_feed_0 18 rfl rfl)
theorem dX6_feed_21 : decode cX6_feed 21 = .ok (.bipush 7, 2) := dk_16 7 (dk_at dksX6_feed_0 21 rfl rfl)
theorem dX6_feed_23 : decode cX6_feed 23 = .ok (.iaload, 1) := dk_46 (dk_at dksX6_feed_0 23 rfl rfl)
theorem dX6_feed_24 : decode cX6_feed 24 = .ok (.iload_n 3, 1) := dk_29 (dk_at dksX6_feed_1 0 rfl rfl)
theorem dX6_feed_25 : decode cX6_feed 25 = .ok (.iadd, 1) := dk_96 (dk_at dksX6_feed_1 1 rfl rfl)
theorem dX6_feed_26 : decode cX6_feed 26 = .ok (.bipush 50, 2) := dk_16 50 (dk_at dksX6_feed_1 2 rfl rfl)
theorem dX6_feed_28 : decode cX6_feed 28 = .ok (.if_icmp .le 10, 3) := dk_164 0 10 (dk_at dksX6_feed_1 4 rfl rfl)
theorem dX6_feed_31 : decode cX6_feed 31 = .ok (.aload_n 0, 1) := dk_42 (dk_at dksX6_feed_1 7 rfl rfl)
theorem dX6_feed_32 : decode cX6_feed 32 = .ok (.ldc 85, 2) := dk_18 85 (dk_at dksX6_feed_1 8 rfl rfl)
theorem dX6_feed_34 : decode cX6_feed 34 = .ok (.invokevirtual 82, 3) := dk_182 0 82 (dk_at dksX6_feed_1 10 rfl rfl)
theorem dX6_feed_37 : decode cX6_feed 37 = .ok (.ireturn, 1) := dk_172 (dk_at dksX6_feed_1 13 rfl rfl)
theorem dX6_feed_38 : decode cX6_feed 38 = .ok (.iconst 0, 1) := dk_3 (dk_at dksX6_feed_1 14 rfl rfl)
theorem dX6_feed_39 : decode cX6_feed 39 = .ok (.istore 4, 2) := dk_54 4 (dk_at dksX6_feed_1 15 rfl rfl)
theorem dX6_feed_41 : decode cX6_feed 41 = .ok (.iload 4, 2) := dk_21 4 (dk_at dksX6_feed_1 17 rfl rfl)
theorem dX6_feed_43 : decode cX6_feed 43 = .ok (.iload_n 3, 1) := dk_29 (dk_at dksX6_feed_1 19 rfl rfl)
theorem dX6_feed_44 : decode cX6_feed 44 = .ok (.if_icmp .ge 47, 3) := dk_162 0 47 (dk_at dksX6_feed_1 20 rfl rfl)
theorem dX6_feed_47 : decode cX6_feed 47 = .ok (.aload_n 0, 1) := dk_42 (dk_at dksX6_feed_1 23 rfl rfl)
theorem dX6_feed_48 : decode cX6_feed 48 = .ok (.getfield 9, 3) := dk_180 0 9 (dk_at dksX6_feed_2 0 rfl rfl)
theorem dX6_feed_51 : decode cX6_feed 51 = .ok (.bipush 68, 2) := dk_16 68 (dk_at dksX6_feed_2 3 rfl rfl)
theorem dX6_feed_53 : decode cX6_feed 53 = .ok (.aload_n 0, 1) := dk_42 (dk_at dksX6_feed_2 5 rfl rfl)
theorem dX6_feed_54 : decode cX6_feed 54 = .ok (.getfield 9, 3) := dk_180 0 9 (dk_at dksX6_feed_2 6 rfl rfl)
theorem dX6_feed_57 : decode cX6_feed 57 = .ok (.bipush 7, 2) := dk_16 7 (dk_at dksX6_feed_2 9 rfl rfl)
theorem dX6_feed_59 : decode cX6_feed 59 = .ok (.iaload, 1) := dk_46 (dk_at dksX6_feed_2 11 rfl rfl)
theorem dX6_feed_60 : decode cX6_feed 60 = .ok (.iadd, 1) := dk_96 (dk_at dksX6_feed_2 12 rfl rfl)
theorem dX6_feed_61 : decode cX6_feed 61 = .ok (.lload_n 1, 1) := dk_31 (dk_at dksX6_feed_2 13 rfl rfl)
theorem dX6_feed_62 : decode cX6_feed 62 = .ok (.bipush 8, 2) := dk_16 8 (dk_at dksX6_feed_2 14 rfl rfl)
theorem dX6_feed_64 : decode cX6_feed 64 = .ok (.iload 4, 2) := dk_21 4 (dk_at dksX6_feed_2 16 rfl rfl)
theorem dX6_feed_66 : decode cX6_feed 66 = .ok (.imul, 1) := dk_104 (dk_at dksX6_feed_2 18 rfl rfl)
theorem dX6_feed_67 : decode cX6_feed 67 = .ok (.lshr, 1) := dk_123 (dk_at dksX6_feed_2 19 rfl rfl)
theorem dX6_feed_68 : decode cX6_feed 68 = .ok (.ldc2_w 86, 3) := dk_20 0 86 (dk_at dksX6_feed_2 20 rfl rfl)
theorem dX6_feed_71 : decode cX6_feed 71 = .ok (.land, 1) := dk_127 (dk_at dksX6_feed_2 23 rfl rfl)
theorem dX6_feed_72 : decode cX6_feed 72 = .ok (.l2i, 1) := dk_136 (dk_at dksX6_feed_3 0 rfl rfl)
theorem dX6_feed_73 : decode cX6_feed 73 = .ok (.iastore, 1) := dk_79 (dk_at dksX6_feed_3 1 rfl rfl)
theorem dX6_feed_74 : decode cX6_feed 74 = .ok (.aload_n 0, 1) := dk_42 (dk_at dksX6_feed_3 2 rfl rfl)
theorem dX6_feed_75 : decode cX6_feed 75 = .ok (.getfield 9, 3) := dk_180 0 9 (dk_at dksX6_feed_3 3 rfl rfl)
theorem dX6_feed_78 : decode cX6_feed 78 = .ok (.bipush 7, 2) := dk_16 7 (dk_at dksX6_feed_3 6 rfl rfl)
theorem dX6_feed_80 : decode cX6_feed 80 = .ok (.dup2, 1) := dk_92 (dk_at dksX6_feed_3 8 rfl rfl)
theorem dX6_feed_81 : decode cX6_feed 81 = .ok (.iaload, 1) := dk_46 (dk_at dksX6_feed_3 9 rfl rfl)
theorem dX6_feed_82 : decode cX6_feed 82 = .ok (.iconst 1, 1) := dk_4 (dk_at dksX6_feed_3 10 rfl rfl)
theorem dX6_feed_83 : decode cX6_feed 83 = .ok (.iadd, 1) := dk_96 (dk_at dksX6_feed_3 11 rfl rfl)
theorem dX6_feed_84 : decode cX6_feed 84 = .ok (.iastore, 1) := dk_79 (dk_at dksX6_feed_3 12 rfl rfl)
theorem dX6_feed_85 : decode cX6_feed 85 = .ok (.iinc 4 1, 3) := dk_132 4 1 (dk_at dksX6_feed_3 13 rfl rfl)
theorem dX6_feed_88 : decode cX6_feed 88 = .ok (.goto (-47), 3) := dk_167 255 209 (dk_at dksX6_feed_3 16 rfl rfl)
theorem dX6_feed_91 : decode cX6_feed 91 = .ok (.aload_n 0, 1) := dk_42 (dk_at dksX6_feed_3 19 rfl rfl)
theorem dX6_feed_92 : decode cX6_feed 92 = .ok (.getfield 9, 3) := dk_180 0 9 (dk_at dksX6_feed_3 20 rfl rfl)
theorem dX6_feed_95 : decode cX6_feed 95 = .ok (.bipush 7, 2) := dk_16 7 (dk_at dksX6_feed_4 0 rfl rfl)
theorem dX6_feed_97 : decode cX6_feed 97 = .ok (.iaload, 1) := dk_46 (dk_at dksX6_feed_4 2 rfl rfl)
theorem dX6_feed_98 : decode cX6_feed 98 = .ok (.ireturn, 1) := dk_172 (dk_at dksX6_feed_4 3 rfl rfl)
abbrev cX6_within : ByteArray := prog_30_method_3_code
def yX6_within : MethodName := ⟨RX6, "within", "(III)Z"⟩
def dkwX6_within_0 : List UInt8 := [26, 27, 161, 0, 12, 26, 28, 163, 0, 7, 4, 167, 0, 4, 3, 172]
abbrev dktX6_within_0 : List UInt8 := dkwX6_within_0 ++ []
theorem dksX6_within_0 : cX6_within.data.toList.drop 0 = dktX6_within_0 := by decide +kernel
theorem dX6_within_0 : decode cX6_within 0 = .ok (.iload_n 0, 1) := dk_26 (dk_at dksX6_within_0 0 rfl rfl)
theorem dX6_within_1 : decode cX6_within 1 = .ok (.iload_n 1, 1) := dk_27 (dk_at dksX6_within_0 1 rfl rfl)
theorem dX6_within_2 : decode cX6_within 2 = .ok (.if_icmp .lt 12, 3) := dk_161 0 12 (dk_at dksX6_within_0 2 rfl rfl)
theorem dX6_within_5 : decode cX6_within 5 = .ok (.iload_n 0, 1) := dk_26 (dk_at dksX6_within_0 5 rfl rfl)
theorem dX6_within_6 : decode cX6_within 6 = .ok (.iload_n 2, 1) := dk_28 (dk_at dksX6_within_0 6 rfl rfl)
theorem dX6_within_7 : decode cX6_within 7 = .ok (.if_icmp .gt 7, 3) := dk_163 0 7 (dk_at dksX6_within_0 7 rfl rfl)
theorem dX6_within_10 : decode cX6_within 10 = .ok (.iconst 1, 1) := dk_4 (dk_at dksX6_within_0 10 rfl rfl)
theorem dX6_within_11 : decode cX6_within 11 = .ok (.goto 4, 3) := dk_167 0 4 (dk_at dksX6_within_0 11 rfl rfl)
theorem dX6_within_14 : decode cX6_within 14 = .ok (.iconst 0, 1) := dk_3 (dk_at dksX6_within_0 14 rfl rfl)
theorem dX6_within_15 : decode cX6_within 15 = .ok (.ireturn, 1) := dk_172 (dk_at dksX6_within_0 15 rfl rfl)
abbrev cX6_finding : ByteArray := prog_30_method_2_code
def yX6_finding : MethodName := ⟨RX6, "finding", "(I)I"⟩
def dkwX6_finding_0 : List UInt8 := [42, 180, 0, 19, 18, 63, 27, 100, 92, 46, 4, 96, 79, 27, 172]
abbrev dktX6_finding_0 : List UInt8 := dkwX6_finding_0 ++ []
theorem dksX6_finding_0 : cX6_finding.data.toList.drop 0 = dktX6_finding_0 := by decide +kernel
theorem dX6_finding_0 : decode cX6_finding 0 = .ok (.aload_n 0, 1) := dk_42 (dk_at dksX6_finding_0 0 rfl rfl)
theorem dX6_finding_1 : decode cX6_finding 1 = .ok (.getfield 19, 3) := dk_180 0 19 (dk_at dksX6_finding_0 1 rfl rfl)
theorem dX6_finding_4 : decode cX6_finding 4 = .ok (.ldc 63, 2) := dk_18 63 (dk_at dksX6_finding_0 4 rfl rfl)
theorem dX6_finding_6 : decode cX6_finding 6 = .ok (.iload_n 1, 1) := dk_27 (dk_at dksX6_finding_0 6 rfl rfl)
theorem dX6_finding_7 : decode cX6_finding 7 = .ok (.isub, 1) := dk_100 (dk_at dksX6_finding_0 7 rfl rfl)
theorem dX6_finding_8 : decode cX6_finding 8 = .ok (.dup2, 1) := dk_92 (dk_at dksX6_finding_0 8 rfl rfl)
theorem dX6_finding_9 : decode cX6_finding 9 = .ok (.iaload, 1) := dk_46 (dk_at dksX6_finding_0 9 rfl rfl)
theorem dX6_finding_10 : decode cX6_finding 10 = .ok (.iconst 1, 1) := dk_4 (dk_at dksX6_finding_0 10 rfl rfl)
theorem dX6_finding_11 : decode cX6_finding 11 = .ok (.iadd, 1) := dk_96 (dk_at dksX6_finding_0 11 rfl rfl)
theorem dX6_finding_12 : decode cX6_finding 12 = .ok (.iastore, 1) := dk_79 (dk_at dksX6_finding_0 12 rfl rfl)
theorem dX6_finding_13 : decode cX6_finding 13 = .ok (.iload_n 1, 1) := dk_27 (dk_at dksX6_finding_0 13 rfl rfl)
theorem dX6_finding_14 : decode cX6_finding 14 = .ok (.ireturn, 1) := dk_172 (dk_at dksX6_finding_0 14 rfl rfl)
abbrev cX6_text : ByteArray := prog_30_method_19_code
def yX6_text : MethodName := ⟨RX6, "text", "(I)I"⟩
def dkwX6_text_7 : List UInt8 := [172]
abbrev dktX6_text_7 : List UInt8 := dkwX6_text_7 ++ []
def dkwX6_text_6 : List UInt8 := [104, 96, 4, 96, 28, 96, 42, 180, 0, 35, 28, 46, 79, 132, 2, 1, 167, 255, 219, 42, 182, 0, 145, 4]
abbrev dktX6_text_6 : List UInt8 := dkwX6_text_6 ++ dktX6_text_7
def dkwX6_text_5 : List UInt8 := [79, 3, 61, 28, 42, 180, 0, 100, 162, 0, 35, 42, 180, 0, 9, 17, 0, 138, 16, 52, 42, 180, 0, 126]
abbrev dktX6_text_5 : List UInt8 := dkwX6_text_5 ++ dktX6_text_6
def dkwX6_text_4 : List UInt8 := [180, 0, 92, 100, 172, 42, 180, 0, 9, 17, 0, 138, 16, 52, 42, 180, 0, 126, 104, 96, 42, 180, 0, 100]
abbrev dktX6_text_4 : List UInt8 := dkwX6_text_4 ++ dktX6_text_5
def dkwX6_text_3 : List UInt8 := [3, 181, 0, 88, 42, 180, 0, 9, 16, 7, 3, 79, 42, 180, 0, 88, 153, 0, 11, 16, 246, 42]
abbrev dktX6_text_3 : List UInt8 := dkwX6_text_3 ++ dktX6_text_4
def dkwX6_text_2 : List UInt8 := [180, 0, 88, 154, 0, 17, 42, 180, 0, 92, 42, 180, 0, 9, 16, 7, 46, 162, 0, 7, 4, 167, 0, 4]
abbrev dktX6_text_2 : List UInt8 := dkwX6_text_2 ++ dktX6_text_3
def dkwX6_text_1 : List UInt8 := [181, 0, 92, 42, 3, 181, 0, 136, 42, 3, 181, 0, 88, 42, 3, 181, 0, 100, 42, 182, 0, 139, 42, 42]
abbrev dktX6_text_1 : List UInt8 := dkwX6_text_1 ++ dktX6_text_2
def dkwX6_text_0 : List UInt8 := [27, 3, 4, 184, 0, 77, 154, 0, 10, 42, 18, 81, 182, 0, 82, 172, 42, 27, 181, 0, 126, 42, 3]
abbrev dktX6_text_0 : List UInt8 := dkwX6_text_0 ++ dktX6_text_1
theorem dksX6_text_0 : cX6_text.data.toList.drop 0 = dktX6_text_0 := by decide +kernel
theorem dksX6_text_1 : cX6_text.data.toList.drop 23 = dktX6_text_1 := dk_seg dksX6_text_0 23 rfl rfl
theorem dksX6_text_2 : cX6_text.data.toList.drop 47 = dktX6_text_2 := dk_seg dksX6_text_1 24 rfl rfl
theorem dksX6_text_3 : cX6_text.data.toList.drop 71 = dktX6_text_3 := dk_seg dksX6_text_2 24 rfl rfl
theorem dksX6_text_4 : cX6_text.data.toList.drop 93 = dktX6_text_4 := dk_seg dksX6_text_3 22 rfl rfl
theorem dksX6_text_5 : cX6_text.data.toList.drop 117 = dktX6_text_5 := dk_seg dksX6_text_4 24 rfl rfl
theorem dksX6_text_6 : cX6_text.data.toList.drop 141 = dktX6_text_6 := dk_seg dksX6_text_5 24 rfl rfl
theorem dksX6_text_7 : cX6_text.data.toList.drop 165 = dktX6_text_7 := dk_seg dksX6_text_6 24 rfl rfl
theorem dX6_text_0 : decode cX6_text 0 = .ok (.iload_n 1, 1) := dk_27 (dk_at dksX6_text_0 0 rfl rfl)
theorem dX6_text_1 : decode cX6_text 1 = .ok (.iconst 0, 1) := dk_3 (dk_at dksX6_text_0 1 rfl rfl)
theorem dX6_text_2 : decode cX6_text 2 = .ok (.iconst 1, 1) := dk_4 (dk_at dksX6_text_0 2 rfl rfl)
theorem dX6_text_3 : decode cX6_text 3 = .ok (.invokestatic 77, 3) := dk_184 0 77 (dk_at dksX6_text_0 3 rfl rfl)
theorem dX6_text_6 : decode cX6_text 6 = .ok (.ifCond .ne 10, 3) := dk_154 0 10 (dk_at dksX6_text_0 6 rfl rfl)
theorem dX6_text_9 : decode cX6_text 9 = .ok (.aload_n 0, 1) := dk_42 (dk_at dksX6_text_0 9 rfl rfl)
theorem dX6_text_10 : decode cX6_text 10 = .ok (.ldc 81, 2) := dk_18 81 (dk_at dksX6_text_0 10 rfl rfl)
theorem dX6_text_12 : decode cX6_text 12 = .ok (.invokevirtual 82, 3) := dk_182 0 82 (dk_at dksX6_text_0 12 rfl rfl)
theorem dX6_text_15 : decode cX6_text 15 = .ok (.ireturn, 1) := dk_172 (dk_at dksX6_text_0 15 rfl rfl)
theorem dX6_text_16 : decode cX6_text 16 = .ok (.aload_n 0, 1) := dk_42 (dk_at dksX6_text_0 16 rfl rfl)
theorem dX6_text_17 : decode cX6_text 17 = .ok (.iload_n 1, 1) := dk_27 (dk_at dksX6_text_0 17 rfl rfl)
theorem dX6_text_18 : decode cX6_text 18 = .ok (.putfield 126, 3) := dk_181 0 126 (dk_at dksX6_text_0 18 rfl rfl)
theorem dX6_text_21 : decode cX6_text 21 = .ok (.aload_n 0, 1) := dk_42 (dk_at dksX6_text_0 21 rfl rfl)
theorem dX6_text_22 : decode cX6_text 22 = .ok (.iconst 0, 1) := dk_3 (dk_at dksX6_text_0 22 rfl rfl)
theorem dX6_text_23 : decode cX6_text 23 = .ok (.putfield 92, 3) := dk_181 0 92 (dk_at dksX6_text_1 0 rfl rfl)
theorem dX6_text_26 : decode cX6_text 26 = .ok (.aload_n 0, 1) := dk_42 (dk_at dksX6_text_1 3 rfl rfl)
theorem dX6_text_27 : decode cX6_text 27 = .ok (.iconst 0, 1) := dk_3 (dk_at dksX6_text_1 4 rfl rfl)
theorem dX6_text_28 : decode cX6_text 28 = .ok (.putfield 136, 3) := dk_181 0 136 (dk_at dksX6_text_1 5 rfl rfl)
theorem dX6_text_31 : decode cX6_text 31 = .ok (.aload_n 0, 1) := dk_42 (dk_at dksX6_text_1 8 rfl rfl)
theorem dX6_text_32 : decode cX6_text 32 = .ok (.iconst 0, 1) := dk_3 (dk_at dksX6_text_1 9 rfl rfl)
theorem dX6_text_33 : decode cX6_text 33 = .ok (.putfield 88, 3) := dk_181 0 88 (dk_at dksX6_text_1 10 rfl rfl)
theorem dX6_text_36 : decode cX6_text 36 = .ok (.aload_n 0, 1) := dk_42 (dk_at dksX6_text_1 13 rfl rfl)
theorem dX6_text_37 : decode cX6_text 37 = .ok (.iconst 0, 1) := dk_3 (dk_at dksX6_text_1 14 rfl rfl)
theorem dX6_text_38 : decode cX6_text 38 = .ok (.putfield 100, 3) := dk_181 0 100 (dk_at dksX6_text_1 15 rfl rfl)
theorem dX6_text_41 : decode cX6_text 41 = .ok (.aload_n 0, 1) := dk_42 (dk_at dksX6_text_1 18 rfl rfl)
theorem dX6_text_42 : decode cX6_text 42 = .ok (.invokevirtual 139, 3) := dk_182 0 139 (dk_at dksX6_text_1 19 rfl rfl)
theorem dX6_text_45 : decode cX6_text 45 = .ok (.aload_n 0, 1) := dk_42 (dk_at dksX6_text_1 22 rfl rfl)
theorem dX6_text_46 : decode cX6_text 46 = .ok (.aload_n 0, 1) := dk_42 (dk_at dksX6_text_1 23 rfl rfl)
theorem dX6_text_47 : decode cX6_text 47 = .ok (.getfield 88, 3) := dk_180 0 88 (dk_at dksX6_text_2 0 rfl rfl)
theorem dX6_text_50 : decode cX6_text 50 = .ok (.ifCond .ne 17, 3) := dk_154 0 17 (dk_at dksX6_text_2 3 rfl rfl)
theorem dX6_text_53 : decode cX6_text 53 = .ok (.aload_n 0, 1) := dk_42 (dk_at dksX6_text_2 6 rfl rfl)
theorem dX6_text_54 : decode cX6_text 54 = .ok (.getfield 92, 3) := dk_180 0 92 (dk_at dksX6_text_2 7 rfl rfl)
theorem dX6_text_57 : decode cX6_text 57 = .ok (.aload_n 0, 1) := dk_42 (dk_at dksX6_text_2 10 rfl rfl)
theorem dX6_text_58 : decode cX6_text 58 = .ok (.getfield 9, 3) := dk_180 0 9 (dk_at dksX6_text_2 11 rfl rfl)
theorem dX6_text_61 : decode cX6_text 61 = .ok (.bipush 7, 2) := dk_16 7 (dk_at dksX6_text_2 14 rfl rfl)
theorem dX6_text_63 : decode cX6_text 63 = .ok (.iaload, 1) := dk_46 (dk_at dksX6_text_2 16 rfl rfl)
theorem dX6_text_64 : decode cX6_text 64 = .ok (.if_icmp .ge 7, 3) := dk_162 0 7 (dk_at dksX6_text_2 17 rfl rfl)
theorem dX6_text_67 : decode cX6_text 67 = .ok (.iconst 1, 1) := dk_4 (dk_at dksX6_text_2 20 rfl rfl)
theorem dX6_text_68 : decode cX6_text 68 = .ok (.goto 4, 3) := dk_167 0 4 (dk_at dksX6_text_2 21 rfl rfl)
theorem dX6_text_71 : decode cX6_text 71 = .ok (.iconst 0, 1) := dk_3 (dk_at dksX6_text_3 0 rfl rfl)
theorem dX6_text_72 : decode cX6_text 72 = .ok (.putfield 88, 3) := dk_181 0 88 (dk_at dksX6_text_3 1 rfl rfl)
theorem dX6_text_75 : decode cX6_text 75 = .ok (.aload_n 0, 1) := dk_42 (dk_at dksX6_text_3 4 rfl rfl)
theorem dX6_text_76 : decode cX6_text 76 = .ok (.getfield 9, 3) := dk_180 0 9 (dk_at dksX6_text_3 5 rfl rfl)
theorem dX6_text_79 : decode cX6_text 79 = .ok (.bipush 7, 2) := dk_16 7 (dk_at dksX6_text_3 8 rfl rfl)
theorem dX6_text_81 : decode cX6_text 81 = .ok (.iconst 0, 1) := dk_3 (dk_at dksX6_text_3 10 rfl rfl)
theorem dX6_text_82 : decode cX6_text 82 = .ok (.iastore, 1) := dk_79 (dk_at dksX6_text_3 11 rfl rfl)
theorem dX6_text_83 : decode cX6_text 83 = .ok (.aload_n 0, 1) := dk_42 (dk_at dksX6_text_3 12 rfl rfl)
theorem dX6_text_84 : decode cX6_text 84 = .ok (.getfield 88, 3) := dk_180 0 88 (dk_at dksX6_text_3 13 rfl rfl)
theorem dX6_text_87 : decode cX6_text 87 = .ok (.ifCond .eq 11, 3) := dk_153 0 11 (dk_at dksX6_text_3 16 rfl rfl)
theorem dX6_text_90 : decode cX6_text 90 = .ok (.bipush (-10), 2) := dk_16 246 (dk_at dksX6_text_3 19 rfl rfl)
theorem dX6_text_92 : decode cX6_text 92 = .ok (.aload_n 0, 1) := dk_42 (dk_at dksX6_text_3 21 rfl rfl)
theorem dX6_text_93 : decode cX6_text 93 = .ok (.getfield 92, 3) := dk_180 0 92 (dk_at dksX6_text_4 0 rfl rfl)
theorem dX6_text_96 : decode cX6_text 96 = .ok (.isub, 1) := dk_100 (dk_at dksX6_text_4 3 rfl rfl)
theorem dX6_text_97 : decode cX6_text 97 = .ok (.ireturn, 1) := dk_172 (dk_at dksX6_text_4 4 rfl rfl)
theorem dX6_text_98 : decode cX6_text 98 = .ok (.aload_n 0, 1) := dk_42 (dk_at dksX6_text_4 5 rfl rfl)
theorem dX6_text_99 : decode cX6_text 99 = .ok (.getfield 9, 3) := dk_180 0 9 (dk_at dksX6_text_4 6 rfl rfl)
theorem dX6_text_102 : decode cX6_text 102 = .ok (.sipush 138, 3) := dk_17 0 138 (dk_at dksX6_text_4 9 rfl rfl)
theorem dX6_text_105 : decode cX6_text 105 = .ok (.bipush 52, 2) := dk_16 52 (dk_at dksX6_text_4 12 rfl rfl)
theorem dX6_text_107 : decode cX6_text 107 = .ok (.aload_n 0, 1) := dk_42 (dk_at dksX6_text_4 14 rfl rfl)
theorem dX6_text_108 : decode cX6_text 108 = .ok (.getfield 126, 3) := dk_180 0 126 (dk_at dksX6_text_4 15 rfl rfl)
theorem dX6_text_111 : decode cX6_text 111 = .ok (.imul, 1) := dk_104 (dk_at dksX6_text_4 18 rfl rfl)
theorem dX6_text_112 : decode cX6_text 112 = .ok (.iadd, 1) := dk_96 (dk_at dksX6_text_4 19 rfl rfl)
theorem dX6_text_113 : decode cX6_text 113 = .ok (.aload_n 0, 1) := dk_42 (dk_at dksX6_text_4 20 rfl rfl)
theorem dX6_text_114 : decode cX6_text 114 = .ok (.getfield 100, 3) := dk_180 0 100 (dk_at dksX6_text_4 21 rfl rfl)
theorem dX6_text_117 : decode cX6_text 117 = .ok (.iastore, 1) := dk_79 (dk_at dksX6_text_5 0 rfl rfl)
theorem dX6_text_118 : decode cX6_text 118 = .ok (.iconst 0, 1) := dk_3 (dk_at dksX6_text_5 1 rfl rfl)
theorem dX6_text_119 : decode cX6_text 119 = .ok (.istore_n 2, 1) := dk_61 (dk_at dksX6_text_5 2 rfl rfl)
theorem dX6_text_120 : decode cX6_text 120 = .ok (.iload_n 2, 1) := dk_28 (dk_at dksX6_text_5 3 rfl rfl)
theorem dX6_text_121 : decode cX6_text 121 = .ok (.aload_n 0, 1) := dk_42 (dk_at dksX6_text_5 4 rfl rfl)
theorem dX6_text_122 : decode cX6_text 122 = .ok (.getfield 100, 3) := dk_180 0 100 (dk_at dksX6_text_5 5 rfl rfl)
theorem dX6_text_125 : decode cX6_text 125 = .ok (.if_icmp .ge 35, 3) := dk_162 0 35 (dk_at dksX6_text_5 8 rfl rfl)
theorem dX6_text_128 : decode cX6_text 128 = .ok (.aload_n 0, 1) := dk_42 (dk_at dksX6_text_5 11 rfl rfl)
theorem dX6_text_129 : decode cX6_text 129 = .ok (.getfield 9, 3) := dk_180 0 9 (dk_at dksX6_text_5 12 rfl rfl)
theorem dX6_text_132 : decode cX6_text 132 = .ok (.sipush 138, 3) := dk_17 0 138 (dk_at dksX6_text_5 15 rfl rfl)
theorem dX6_text_135 : decode cX6_text 135 = .ok (.bipush 52, 2) := dk_16 52 (dk_at dksX6_text_5 18 rfl rfl)
theorem dX6_text_137 : decode cX6_text 137 = .ok (.aload_n 0, 1) := dk_42 (dk_at dksX6_text_5 20 rfl rfl)
theorem dX6_text_138 : decode cX6_text 138 = .ok (.getfield 126, 3) := dk_180 0 126 (dk_at dksX6_text_5 21 rfl rfl)
theorem dX6_text_141 : decode cX6_text 141 = .ok (.imul, 1) := dk_104 (dk_at dksX6_text_6 0 rfl rfl)
theorem dX6_text_142 : decode cX6_text 142 = .ok (.iadd, 1) := dk_96 (dk_at dksX6_text_6 1 rfl rfl)
theorem dX6_text_143 : decode cX6_text 143 = .ok (.iconst 1, 1) := dk_4 (dk_at dksX6_text_6 2 rfl rfl)
theorem dX6_text_144 : decode cX6_text 144 = .ok (.iadd, 1) := dk_96 (dk_at dksX6_text_6 3 rfl rfl)
theorem dX6_text_145 : decode cX6_text 145 = .ok (.iload_n 2, 1) := dk_28 (dk_at dksX6_text_6 4 rfl rfl)
theorem dX6_text_146 : decode cX6_text 146 = .ok (.iadd, 1) := dk_96 (dk_at dksX6_text_6 5 rfl rfl)
theorem dX6_text_147 : decode cX6_text 147 = .ok (.aload_n 0, 1) := dk_42 (dk_at dksX6_text_6 6 rfl rfl)
theorem dX6_text_148 : decode cX6_text 148 = .ok (.getfield 35, 3) := dk_180 0 35 (dk_at dksX6_text_6 7 rfl rfl)
theorem dX6_text_151 : decode cX6_text 151 = .ok (.iload_n 2, 1) := dk_28 (dk_at dksX6_text_6 10 rfl rfl)
theorem dX6_text_152 : decode cX6_text 152 = .ok (.iaload, 1) := dk_46 (dk_at dksX6_text_6 11 rfl rfl)
theorem dX6_text_153 : decode cX6_text 153 = .ok (.iastore, 1) := dk_79 (dk_at dksX6_text_6 12 rfl rfl)
theorem dX6_text_154 : decode cX6_text 154 = .ok (.iinc 2 1, 3) := dk_132 2 1 (dk_at dksX6_text_6 13 rfl rfl)
theorem dX6_text_157 : decode cX6_text 157 = .ok (.goto (-37), 3) := dk_167 255 219 (dk_at dksX6_text_6 16 rfl rfl)
theorem dX6_text_160 : decode cX6_text 160 = .ok (.aload_n 0, 1) := dk_42 (dk_at dksX6_text_6 19 rfl rfl)
theorem dX6_text_161 : decode cX6_text 161 = .ok (.invokevirtual 145, 3) := dk_182 0 145 (dk_at dksX6_text_6 20 rfl rfl)
theorem dX6_text_164 : decode cX6_text 164 = .ok (.iconst 1, 1) := dk_4 (dk_at dksX6_text_6 23 rfl rfl)
theorem dX6_text_165 : decode cX6_text 165 = .ok (.ireturn, 1) := dk_172 (dk_at dksX6_text_7 0 rfl rfl)
abbrev cX6_either : ByteArray := prog_30_method_12_code
def yX6_either : MethodName := ⟨RX6, "either", "()V"⟩
def dkwX6_either_1 : List UInt8 := [167, 255, 236, 177]
abbrev dktX6_either_1 : List UInt8 := dkwX6_either_1 ++ []
def dkwX6_either_0 : List UInt8 := [42, 182, 0, 103, 42, 16, 124, 182, 0, 106, 153, 0, 17, 42, 182, 0, 103, 42, 17, 78, 32, 182, 0, 110]
abbrev dktX6_either_0 : List UInt8 := dkwX6_either_0 ++ dktX6_either_1
theorem dksX6_either_0 : cX6_either.data.toList.drop 0 = dktX6_either_0 := by decide +kernel
theorem dksX6_either_1 : cX6_either.data.toList.drop 24 = dktX6_either_1 := dk_seg dksX6_either_0 24 rfl rfl
theorem dX6_either_0 : decode cX6_either 0 = .ok (.aload_n 0, 1) := dk_42 (dk_at dksX6_either_0 0 rfl rfl)
theorem dX6_either_1 : decode cX6_either 1 = .ok (.invokevirtual 103, 3) := dk_182 0 103 (dk_at dksX6_either_0 1 rfl rfl)
theorem dX6_either_4 : decode cX6_either 4 = .ok (.aload_n 0, 1) := dk_42 (dk_at dksX6_either_0 4 rfl rfl)
theorem dX6_either_5 : decode cX6_either 5 = .ok (.bipush 124, 2) := dk_16 124 (dk_at dksX6_either_0 5 rfl rfl)
theorem dX6_either_7 : decode cX6_either 7 = .ok (.invokevirtual 106, 3) := dk_182 0 106 (dk_at dksX6_either_0 7 rfl rfl)
theorem dX6_either_10 : decode cX6_either 10 = .ok (.ifCond .eq 17, 3) := dk_153 0 17 (dk_at dksX6_either_0 10 rfl rfl)
theorem dX6_either_13 : decode cX6_either 13 = .ok (.aload_n 0, 1) := dk_42 (dk_at dksX6_either_0 13 rfl rfl)
theorem dX6_either_14 : decode cX6_either 14 = .ok (.invokevirtual 103, 3) := dk_182 0 103 (dk_at dksX6_either_0 14 rfl rfl)
theorem dX6_either_17 : decode cX6_either 17 = .ok (.aload_n 0, 1) := dk_42 (dk_at dksX6_either_0 17 rfl rfl)
theorem dX6_either_18 : decode cX6_either 18 = .ok (.sipush 20000, 3) := dk_17 78 32 (dk_at dksX6_either_0 18 rfl rfl)
theorem dX6_either_21 : decode cX6_either 21 = .ok (.invokevirtual 110, 3) := dk_182 0 110 (dk_at dksX6_either_0 21 rfl rfl)
theorem dX6_either_24 : decode cX6_either 24 = .ok (.goto (-20), 3) := dk_167 255 236 (dk_at dksX6_either_1 0 rfl rfl)
theorem dX6_either_27 : decode cX6_either 27 = .ok (.return_, 1) := dk_177 (dk_at dksX6_either_1 3 rfl rfl)
abbrev cX6_both : ByteArray := prog_30_method_13_code
def yX6_both : MethodName := ⟨RX6, "both", "()V"⟩
def dkwX6_both_1 : List UInt8 := [167, 255, 236, 177]
abbrev dktX6_both_1 : List UInt8 := dkwX6_both_1 ++ []
def dkwX6_both_0 : List UInt8 := [42, 182, 0, 114, 42, 16, 38, 182, 0, 106, 153, 0, 17, 42, 182, 0, 114, 42, 17, 78, 33, 182, 0, 110]
abbrev dktX6_both_0 : List UInt8 := dkwX6_both_0 ++ dktX6_both_1
theorem dksX6_both_0 : cX6_both.data.toList.drop 0 = dktX6_both_0 := by decide +kernel
theorem dksX6_both_1 : cX6_both.data.toList.drop 24 = dktX6_both_1 := dk_seg dksX6_both_0 24 rfl rfl
theorem dX6_both_0 : decode cX6_both 0 = .ok (.aload_n 0, 1) := dk_42 (dk_at dksX6_both_0 0 rfl rfl)
theorem dX6_both_1 : decode cX6_both 1 = .ok (.invokevirtual 114, 3) := dk_182 0 114 (dk_at dksX6_both_0 1 rfl rfl)
theorem dX6_both_4 : decode cX6_both 4 = .ok (.aload_n 0, 1) := dk_42 (dk_at dksX6_both_0 4 rfl rfl)
theorem dX6_both_5 : decode cX6_both 5 = .ok (.bipush 38, 2) := dk_16 38 (dk_at dksX6_both_0 5 rfl rfl)
theorem dX6_both_7 : decode cX6_both 7 = .ok (.invokevirtual 106, 3) := dk_182 0 106 (dk_at dksX6_both_0 7 rfl rfl)
theorem dX6_both_10 : decode cX6_both 10 = .ok (.ifCond .eq 17, 3) := dk_153 0 17 (dk_at dksX6_both_0 10 rfl rfl)
theorem dX6_both_13 : decode cX6_both 13 = .ok (.aload_n 0, 1) := dk_42 (dk_at dksX6_both_0 13 rfl rfl)
theorem dX6_both_14 : decode cX6_both 14 = .ok (.invokevirtual 114, 3) := dk_182 0 114 (dk_at dksX6_both_0 14 rfl rfl)
theorem dX6_both_17 : decode cX6_both 17 = .ok (.aload_n 0, 1) := dk_42 (dk_at dksX6_both_0 17 rfl rfl)
theorem dX6_both_18 : decode cX6_both 18 = .ok (.sipush 20001, 3) := dk_17 78 33 (dk_at dksX6_both_0 18 rfl rfl)
theorem dX6_both_21 : decode cX6_both 21 = .ok (.invokevirtual 110, 3) := dk_182 0 110 (dk_at dksX6_both_0 21 rfl rfl)
theorem dX6_both_24 : decode cX6_both 24 = .ok (.goto (-20), 3) := dk_167 255 236 (dk_at dksX6_both_1 0 rfl rfl)
theorem dX6_both_27 : decode cX6_both 27 = .ok (.return_, 1) := dk_177 (dk_at dksX6_both_1 3 rfl rfl)
abbrev cX6_compared : ByteArray := prog_30_method_14_code
def yX6_compared : MethodName := ⟨RX6, "compared", "()V"⟩
def dkwX6_compared_2 : List UInt8 := [167, 0, 4, 3, 60, 27, 158, 0, 12, 42, 182, 0, 117, 42, 27, 182, 0, 110, 177]
abbrev dktX6_compared_2 : List UInt8 := dkwX6_compared_2 ++ []
def dkwX6_compared_1 : List UInt8 := [182, 0, 106, 153, 0, 9, 17, 78, 35, 167, 0, 19, 42, 16, 62, 182, 0, 106, 153, 0, 9, 17, 78, 36]
abbrev dktX6_compared_1 : List UInt8 := dkwX6_compared_1 ++ dktX6_compared_2
def dkwX6_compared_0 : List UInt8 := [42, 182, 0, 117, 42, 16, 60, 182, 0, 106, 153, 0, 9, 17, 78, 34, 167, 0, 34, 42, 16, 61]
abbrev dktX6_compared_0 : List UInt8 := dkwX6_compared_0 ++ dktX6_compared_1
theorem dksX6_compared_0 : cX6_compared.data.toList.drop 0 = dktX6_compared_0 := by decide +kernel
theorem dksX6_compared_1 : cX6_compared.data.toList.drop 22 = dktX6_compared_1 := dk_seg dksX6_compared_0 22 rfl rfl
theorem dksX6_compared_2 : cX6_compared.data.toList.drop 46 = dktX6_compared_2 := dk_seg dksX6_compared_1 24 rfl rfl
theorem dX6_compared_0 : decode cX6_compared 0 = .ok (.aload_n 0, 1) := dk_42 (dk_at dksX6_compared_0 0 rfl rfl)
theorem dX6_compared_1 : decode cX6_compared 1 = .ok (.invokevirtual 117, 3) := dk_182 0 117 (dk_at dksX6_compared_0 1 rfl rfl)
theorem dX6_compared_4 : decode cX6_compared 4 = .ok (.aload_n 0, 1) := dk_42 (dk_at dksX6_compared_0 4 rfl rfl)
theorem dX6_compared_5 : decode cX6_compared 5 = .ok (.bipush 60, 2) := dk_16 60 (dk_at dksX6_compared_0 5 rfl rfl)
theorem dX6_compared_7 : decode cX6_compared 7 = .ok (.invokevirtual 106, 3) := dk_182 0 106 (dk_at dksX6_compared_0 7 rfl rfl)
theorem dX6_compared_10 : decode cX6_compared 10 = .ok (.ifCond .eq 9, 3) := dk_153 0 9 (dk_at dksX6_compared_0 10 rfl rfl)
theorem dX6_compared_13 : decode cX6_compared 13 = .ok (.sipush 20002, 3) := dk_17 78 34 (dk_at dksX6_compared_0 13 rfl rfl)
theorem dX6_compared_16 : decode cX6_compared 16 = .ok (.goto 34, 3) := dk_167 0 34 (dk_at dksX6_compared_0 16 rfl rfl)
theorem dX6_compared_19 : decode cX6_compared 19 = .ok (.aload_n 0, 1) := dk_42 (dk_at dksX6_compared_0 19 rfl rfl)
theorem dX6_compared_20 : decode cX6_compared 20 = .ok (.bipush 61, 2) := dk_16 61 (dk_at dksX6_compared_0 20 rfl rfl)
theorem dX6_compared_22 : decode cX6_compared 22 = .ok (.invokevirtual 106, 3) := dk_182 0 106 (dk_at dksX6_compared_1 0 rfl rfl)
theorem dX6_compared_25 : decode cX6_compared 25 = .ok (.ifCond .eq 9, 3) := dk_153 0 9 (dk_at dksX6_compared_1 3 rfl rfl)
theorem dX6_compared_28 : decode cX6_compared 28 = .ok (.sipush 20003, 3) := dk_17 78 35 (dk_at dksX6_compared_1 6 rfl rfl)
theorem dX6_compared_31 : decode cX6_compared 31 = .ok (.goto 19, 3) := dk_167 0 19 (dk_at dksX6_compared_1 9 rfl rfl)
theorem dX6_compared_34 : decode cX6_compared 34 = .ok (.aload_n 0, 1) := dk_42 (dk_at dksX6_compared_1 12 rfl rfl)
theorem dX6_compared_35 : decode cX6_compared 35 = .ok (.bipush 62, 2) := dk_16 62 (dk_at dksX6_compared_1 13 rfl rfl)
theorem dX6_compared_37 : decode cX6_compared 37 = .ok (.invokevirtual 106, 3) := dk_182 0 106 (dk_at dksX6_compared_1 15 rfl rfl)
theorem dX6_compared_40 : decode cX6_compared 40 = .ok (.ifCond .eq 9, 3) := dk_153 0 9 (dk_at dksX6_compared_1 18 rfl rfl)
theorem dX6_compared_43 : decode cX6_compared 43 = .ok (.sipush 20004, 3) := dk_17 78 36 (dk_at dksX6_compared_1 21 rfl rfl)
theorem dX6_compared_46 : decode cX6_compared 46 = .ok (.goto 4, 3) := dk_167 0 4 (dk_at dksX6_compared_2 0 rfl rfl)
theorem dX6_compared_49 : decode cX6_compared 49 = .ok (.iconst 0, 1) := dk_3 (dk_at dksX6_compared_2 3 rfl rfl)
theorem dX6_compared_50 : decode cX6_compared 50 = .ok (.istore_n 1, 1) := dk_60 (dk_at dksX6_compared_2 4 rfl rfl)
theorem dX6_compared_51 : decode cX6_compared 51 = .ok (.iload_n 1, 1) := dk_27 (dk_at dksX6_compared_2 5 rfl rfl)
theorem dX6_compared_52 : decode cX6_compared 52 = .ok (.ifCond .le 12, 3) := dk_158 0 12 (dk_at dksX6_compared_2 6 rfl rfl)
theorem dX6_compared_55 : decode cX6_compared 55 = .ok (.aload_n 0, 1) := dk_42 (dk_at dksX6_compared_2 9 rfl rfl)
theorem dX6_compared_56 : decode cX6_compared 56 = .ok (.invokevirtual 117, 3) := dk_182 0 117 (dk_at dksX6_compared_2 10 rfl rfl)
theorem dX6_compared_59 : decode cX6_compared 59 = .ok (.aload_n 0, 1) := dk_42 (dk_at dksX6_compared_2 13 rfl rfl)
theorem dX6_compared_60 : decode cX6_compared 60 = .ok (.iload_n 1, 1) := dk_27 (dk_at dksX6_compared_2 14 rfl rfl)
theorem dX6_compared_61 : decode cX6_compared 61 = .ok (.invokevirtual 110, 3) := dk_182 0 110 (dk_at dksX6_compared_2 15 rfl rfl)
theorem dX6_compared_64 : decode cX6_compared 64 = .ok (.return_, 1) := dk_177 (dk_at dksX6_compared_2 18 rfl rfl)
abbrev cX6_sum : ByteArray := prog_30_method_15_code
def yX6_sum : MethodName := ⟨RX6, "sum", "()V"⟩
def dkwX6_sum_3 : List UInt8 := [153, 0, 9, 17, 78, 38, 167, 0, 4, 3, 60, 167, 255, 211, 177]
abbrev dktX6_sum_3 : List UInt8 := dkwX6_sum_3 ++ []
def dkwX6_sum_2 : List UInt8 := [182, 0, 110, 42, 16, 43, 182, 0, 106, 153, 0, 9, 17, 78, 37, 167, 0, 19, 42, 16, 45, 182, 0, 106]
abbrev dktX6_sum_2 : List UInt8 := dkwX6_sum_2 ++ dktX6_sum_3
def dkwX6_sum_1 : List UInt8 := [182, 0, 106, 153, 0, 9, 17, 78, 38, 167, 0, 4, 3, 60, 27, 158, 0, 47, 42, 182, 0, 120, 42, 27]
abbrev dktX6_sum_1 : List UInt8 := dkwX6_sum_1 ++ dktX6_sum_2
def dkwX6_sum_0 : List UInt8 := [42, 182, 0, 120, 42, 16, 43, 182, 0, 106, 153, 0, 9, 17, 78, 37, 167, 0, 19, 42, 16, 45]
abbrev dktX6_sum_0 : List UInt8 := dkwX6_sum_0 ++ dktX6_sum_1
theorem dksX6_sum_0 : cX6_sum.data.toList.drop 0 = dktX6_sum_0 := by decide +kernel
theorem dksX6_sum_1 : cX6_sum.data.toList.drop 22 = dktX6_sum_1 := dk_seg dksX6_sum_0 22 rfl rfl
theorem dksX6_sum_2 : cX6_sum.data.toList.drop 46 = dktX6_sum_2 := dk_seg dksX6_sum_1 24 rfl rfl
theorem dksX6_sum_3 : cX6_sum.data.toList.drop 70 = dktX6_sum_3 := dk_seg dksX6_sum_2 24 rfl rfl
theorem dX6_sum_0 : decode cX6_sum 0 = .ok (.aload_n 0, 1) := dk_42 (dk_at dksX6_sum_0 0 rfl rfl)
theorem dX6_sum_1 : decode cX6_sum 1 = .ok (.invokevirtual 120, 3) := dk_182 0 120 (dk_at dksX6_sum_0 1 rfl rfl)
theorem dX6_sum_4 : decode cX6_sum 4 = .ok (.aload_n 0, 1) := dk_42 (dk_at dksX6_sum_0 4 rfl rfl)
theorem dX6_sum_5 : decode cX6_sum 5 = .ok (.bipush 43, 2) := dk_16 43 (dk_at dksX6_sum_0 5 rfl rfl)
theorem dX6_sum_7 : decode cX6_sum 7 = .ok (.invokevirtual 106, 3) := dk_182 0 106 (dk_at dksX6_sum_0 7 rfl rfl)
theorem dX6_sum_10 : decode cX6_sum 10 = .ok (.ifCond .eq 9, 3) := dk_153 0 9 (dk_at dksX6_sum_0 10 rfl rfl)
theorem dX6_sum_13 : decode cX6_sum 13 = .ok (.sipush 20005, 3) := dk_17 78 37 (dk_at dksX6_sum_0 13 rfl rfl)
theorem dX6_sum_16 : decode cX6_sum 16 = .ok (.goto 19, 3) := dk_167 0 19 (dk_at dksX6_sum_0 16 rfl rfl)
theorem dX6_sum_19 : decode cX6_sum 19 = .ok (.aload_n 0, 1) := dk_42 (dk_at dksX6_sum_0 19 rfl rfl)
theorem dX6_sum_20 : decode cX6_sum 20 = .ok (.bipush 45, 2) := dk_16 45 (dk_at dksX6_sum_0 20 rfl rfl)
theorem dX6_sum_22 : decode cX6_sum 22 = .ok (.invokevirtual 106, 3) := dk_182 0 106 (dk_at dksX6_sum_1 0 rfl rfl)
theorem dX6_sum_25 : decode cX6_sum 25 = .ok (.ifCond .eq 9, 3) := dk_153 0 9 (dk_at dksX6_sum_1 3 rfl rfl)
theorem dX6_sum_28 : decode cX6_sum 28 = .ok (.sipush 20006, 3) := dk_17 78 38 (dk_at dksX6_sum_1 6 rfl rfl)
theorem dX6_sum_31 : decode cX6_sum 31 = .ok (.goto 4, 3) := dk_167 0 4 (dk_at dksX6_sum_1 9 rfl rfl)
theorem dX6_sum_34 : decode cX6_sum 34 = .ok (.iconst 0, 1) := dk_3 (dk_at dksX6_sum_1 12 rfl rfl)
theorem dX6_sum_35 : decode cX6_sum 35 = .ok (.istore_n 1, 1) := dk_60 (dk_at dksX6_sum_1 13 rfl rfl)
theorem dX6_sum_36 : decode cX6_sum 36 = .ok (.iload_n 1, 1) := dk_27 (dk_at dksX6_sum_1 14 rfl rfl)
theorem dX6_sum_37 : decode cX6_sum 37 = .ok (.ifCond .le 47, 3) := dk_158 0 47 (dk_at dksX6_sum_1 15 rfl rfl)
theorem dX6_sum_40 : decode cX6_sum 40 = .ok (.aload_n 0, 1) := dk_42 (dk_at dksX6_sum_1 18 rfl rfl)
theorem dX6_sum_41 : decode cX6_sum 41 = .ok (.invokevirtual 120, 3) := dk_182 0 120 (dk_at dksX6_sum_1 19 rfl rfl)
theorem dX6_sum_44 : decode cX6_sum 44 = .ok (.aload_n 0, 1) := dk_42 (dk_at dksX6_sum_1 22 rfl rfl)
theorem dX6_sum_45 : decode cX6_sum 45 = .ok (.iload_n 1, 1) := dk_27 (dk_at dksX6_sum_1 23 rfl rfl)
theorem dX6_sum_46 : decode cX6_sum 46 = .ok (.invokevirtual 110, 3) := dk_182 0 110 (dk_at dksX6_sum_2 0 rfl rfl)
theorem dX6_sum_49 : decode cX6_sum 49 = .ok (.aload_n 0, 1) := dk_42 (dk_at dksX6_sum_2 3 rfl rfl)
theorem dX6_sum_50 : decode cX6_sum 50 = .ok (.bipush 43, 2) := dk_16 43 (dk_at dksX6_sum_2 4 rfl rfl)
theorem dX6_sum_52 : decode cX6_sum 52 = .ok (.invokevirtual 106, 3) := dk_182 0 106 (dk_at dksX6_sum_2 6 rfl rfl)
theorem dX6_sum_55 : decode cX6_sum 55 = .ok (.ifCond .eq 9, 3) := dk_153 0 9 (dk_at dksX6_sum_2 9 rfl rfl)
theorem dX6_sum_58 : decode cX6_sum 58 = .ok (.sipush 20005, 3) := dk_17 78 37 (dk_at dksX6_sum_2 12 rfl rfl)
theorem dX6_sum_61 : decode cX6_sum 61 = .ok (.goto 19, 3) := dk_167 0 19 (dk_at dksX6_sum_2 15 rfl rfl)
theorem dX6_sum_64 : decode cX6_sum 64 = .ok (.aload_n 0, 1) := dk_42 (dk_at dksX6_sum_2 18 rfl rfl)
theorem dX6_sum_65 : decode cX6_sum 65 = .ok (.bipush 45, 2) := dk_16 45 (dk_at dksX6_sum_2 19 rfl rfl)
theorem dX6_sum_67 : decode cX6_sum 67 = .ok (.invokevirtual 106, 3) := dk_182 0 106 (dk_at dksX6_sum_2 21 rfl rfl)
theorem dX6_sum_70 : decode cX6_sum 70 = .ok (.ifCond .eq 9, 3) := dk_153 0 9 (dk_at dksX6_sum_3 0 rfl rfl)
theorem dX6_sum_73 : decode cX6_sum 73 = .ok (.sipush 20006, 3) := dk_17 78 38 (dk_at dksX6_sum_3 3 rfl rfl)
theorem dX6_sum_76 : decode cX6_sum 76 = .ok (.goto 4, 3) := dk_167 0 4 (dk_at dksX6_sum_3 6 rfl rfl)
theorem dX6_sum_79 : decode cX6_sum 79 = .ok (.iconst 0, 1) := dk_3 (dk_at dksX6_sum_3 9 rfl rfl)
theorem dX6_sum_80 : decode cX6_sum 80 = .ok (.istore_n 1, 1) := dk_60 (dk_at dksX6_sum_3 10 rfl rfl)
theorem dX6_sum_81 : decode cX6_sum 81 = .ok (.goto (-45), 3) := dk_167 255 211 (dk_at dksX6_sum_3 11 rfl rfl)
theorem dX6_sum_84 : decode cX6_sum 84 = .ok (.return_, 1) := dk_177 (dk_at dksX6_sum_3 14 rfl rfl)
abbrev cX6_product : ByteArray := prog_30_method_16_code
def yX6_product : MethodName := ⟨RX6, "product", "()V"⟩
def dkwX6_product_4 : List UInt8 := [42, 16, 37, 182, 0, 106, 153, 0, 9, 17, 78, 41, 167, 0, 4, 3, 60, 167, 255, 196, 177]
abbrev dktX6_product_4 : List UInt8 := dkwX6_product_4 ++ []
def dkwX6_product_3 : List UInt8 := [153, 0, 9, 17, 78, 39, 167, 0, 34, 42, 16, 47, 182, 0, 106, 153, 0, 9, 17, 78, 40, 167, 0, 19]
abbrev dktX6_product_3 : List UInt8 := dkwX6_product_3 ++ dktX6_product_4
def dkwX6_product_2 : List UInt8 := [167, 0, 4, 3, 60, 27, 158, 0, 62, 42, 182, 0, 123, 42, 27, 182, 0, 110, 42, 16, 42, 182, 0, 106]
abbrev dktX6_product_2 : List UInt8 := dkwX6_product_2 ++ dktX6_product_3
def dkwX6_product_1 : List UInt8 := [182, 0, 106, 153, 0, 9, 17, 78, 40, 167, 0, 19, 42, 16, 37, 182, 0, 106, 153, 0, 9, 17, 78, 41]
abbrev dktX6_product_1 : List UInt8 := dkwX6_product_1 ++ dktX6_product_2
def dkwX6_product_0 : List UInt8 := [42, 182, 0, 123, 42, 16, 42, 182, 0, 106, 153, 0, 9, 17, 78, 39, 167, 0, 34, 42, 16, 47]
abbrev dktX6_product_0 : List UInt8 := dkwX6_product_0 ++ dktX6_product_1
theorem dksX6_product_0 : cX6_product.data.toList.drop 0 = dktX6_product_0 := by decide +kernel
theorem dksX6_product_1 : cX6_product.data.toList.drop 22 = dktX6_product_1 := dk_seg dksX6_product_0 22 rfl rfl
theorem dksX6_product_2 : cX6_product.data.toList.drop 46 = dktX6_product_2 := dk_seg dksX6_product_1 24 rfl rfl
theorem dksX6_product_3 : cX6_product.data.toList.drop 70 = dktX6_product_3 := dk_seg dksX6_product_2 24 rfl rfl
theorem dksX6_product_4 : cX6_product.data.toList.drop 94 = dktX6_product_4 := dk_seg dksX6_product_3 24 rfl rfl
theorem dX6_product_0 : decode cX6_product 0 = .ok (.aload_n 0, 1) := dk_42 (dk_at dksX6_product_0 0 rfl rfl)
theorem dX6_product_1 : decode cX6_product 1 = .ok (.invokevirtual 123, 3) := dk_182 0 123 (dk_at dksX6_product_0 1 rfl rfl)
theorem dX6_product_4 : decode cX6_product 4 = .ok (.aload_n 0, 1) := dk_42 (dk_at dksX6_product_0 4 rfl rfl)
theorem dX6_product_5 : decode cX6_product 5 = .ok (.bipush 42, 2) := dk_16 42 (dk_at dksX6_product_0 5 rfl rfl)
theorem dX6_product_7 : decode cX6_product 7 = .ok (.invokevirtual 106, 3) := dk_182 0 106 (dk_at dksX6_product_0 7 rfl rfl)
theorem dX6_product_10 : decode cX6_product 10 = .ok (.ifCond .eq 9, 3) := dk_153 0 9 (dk_at dksX6_product_0 10 rfl rfl)
theorem dX6_product_13 : decode cX6_product 13 = .ok (.sipush 20007, 3) := dk_17 78 39 (dk_at dksX6_product_0 13 rfl rfl)
theorem dX6_product_16 : decode cX6_product 16 = .ok (.goto 34, 3) := dk_167 0 34 (dk_at dksX6_product_0 16 rfl rfl)
theorem dX6_product_19 : decode cX6_product 19 = .ok (.aload_n 0, 1) := dk_42 (dk_at dksX6_product_0 19 rfl rfl)
theorem dX6_product_20 : decode cX6_product 20 = .ok (.bipush 47, 2) := dk_16 47 (dk_at dksX6_product_0 20 rfl rfl)
theorem dX6_product_22 : decode cX6_product 22 = .ok (.invokevirtual 106, 3) := dk_182 0 106 (dk_at dksX6_product_1 0 rfl rfl)
theorem dX6_product_25 : decode cX6_product 25 = .ok (.ifCond .eq 9, 3) := dk_153 0 9 (dk_at dksX6_product_1 3 rfl rfl)
theorem dX6_product_28 : decode cX6_product 28 = .ok (.sipush 20008, 3) := dk_17 78 40 (dk_at dksX6_product_1 6 rfl rfl)
theorem dX6_product_31 : decode cX6_product 31 = .ok (.goto 19, 3) := dk_167 0 19 (dk_at dksX6_product_1 9 rfl rfl)
theorem dX6_product_34 : decode cX6_product 34 = .ok (.aload_n 0, 1) := dk_42 (dk_at dksX6_product_1 12 rfl rfl)
theorem dX6_product_35 : decode cX6_product 35 = .ok (.bipush 37, 2) := dk_16 37 (dk_at dksX6_product_1 13 rfl rfl)
theorem dX6_product_37 : decode cX6_product 37 = .ok (.invokevirtual 106, 3) := dk_182 0 106 (dk_at dksX6_product_1 15 rfl rfl)
theorem dX6_product_40 : decode cX6_product 40 = .ok (.ifCond .eq 9, 3) := dk_153 0 9 (dk_at dksX6_product_1 18 rfl rfl)
theorem dX6_product_43 : decode cX6_product 43 = .ok (.sipush 20009, 3) := dk_17 78 41 (dk_at dksX6_product_1 21 rfl rfl)
theorem dX6_product_46 : decode cX6_product 46 = .ok (.goto 4, 3) := dk_167 0 4 (dk_at dksX6_product_2 0 rfl rfl)
theorem dX6_product_49 : decode cX6_product 49 = .ok (.iconst 0, 1) := dk_3 (dk_at dksX6_product_2 3 rfl rfl)
theorem dX6_product_50 : decode cX6_product 50 = .ok (.istore_n 1, 1) := dk_60 (dk_at dksX6_product_2 4 rfl rfl)
theorem dX6_product_51 : decode cX6_product 51 = .ok (.iload_n 1, 1) := dk_27 (dk_at dksX6_product_2 5 rfl rfl)
theorem dX6_product_52 : decode cX6_product 52 = .ok (.ifCond .le 62, 3) := dk_158 0 62 (dk_at dksX6_product_2 6 rfl rfl)
theorem dX6_product_55 : decode cX6_product 55 = .ok (.aload_n 0, 1) := dk_42 (dk_at dksX6_product_2 9 rfl rfl)
theorem dX6_product_56 : decode cX6_product 56 = .ok (.invokevirtual 123, 3) := dk_182 0 123 (dk_at dksX6_product_2 10 rfl rfl)
theorem dX6_product_59 : decode cX6_product 59 = .ok (.aload_n 0, 1) := dk_42 (dk_at dksX6_product_2 13 rfl rfl)
theorem dX6_product_60 : decode cX6_product 60 = .ok (.iload_n 1, 1) := dk_27 (dk_at dksX6_product_2 14 rfl rfl)
theorem dX6_product_61 : decode cX6_product 61 = .ok (.invokevirtual 110, 3) := dk_182 0 110 (dk_at dksX6_product_2 15 rfl rfl)
theorem dX6_product_64 : decode cX6_product 64 = .ok (.aload_n 0, 1) := dk_42 (dk_at dksX6_product_2 18 rfl rfl)
theorem dX6_product_65 : decode cX6_product 65 = .ok (.bipush 42, 2) := dk_16 42 (dk_at dksX6_product_2 19 rfl rfl)
theorem dX6_product_67 : decode cX6_product 67 = .ok (.invokevirtual 106, 3) := dk_182 0 106 (dk_at dksX6_product_2 21 rfl rfl)
theorem dX6_product_70 : decode cX6_product 70 = .ok (.ifCond .eq 9, 3) := dk_153 0 9 (dk_at dksX6_product_3 0 rfl rfl)
theorem dX6_product_73 : decode cX6_product 73 = .ok (.sipush 20007, 3) := dk_17 78 39 (dk_at dksX6_product_3 3 rfl rfl)
theorem dX6_product_76 : decode cX6_product 76 = .ok (.goto 34, 3) := dk_167 0 34 (dk_at dksX6_product_3 6 rfl rfl)
theorem dX6_product_79 : decode cX6_product 79 = .ok (.aload_n 0, 1) := dk_42 (dk_at dksX6_product_3 9 rfl rfl)
theorem dX6_product_80 : decode cX6_product 80 = .ok (.bipush 47, 2) := dk_16 47 (dk_at dksX6_product_3 10 rfl rfl)
theorem dX6_product_82 : decode cX6_product 82 = .ok (.invokevirtual 106, 3) := dk_182 0 106 (dk_at dksX6_product_3 12 rfl rfl)
theorem dX6_product_85 : decode cX6_product 85 = .ok (.ifCond .eq 9, 3) := dk_153 0 9 (dk_at dksX6_product_3 15 rfl rfl)
theorem dX6_product_88 : decode cX6_product 88 = .ok (.sipush 20008, 3) := dk_17 78 40 (dk_at dksX6_product_3 18 rfl rfl)
theorem dX6_product_91 : decode cX6_product 91 = .ok (.goto 19, 3) := dk_167 0 19 (dk_at dksX6_product_3 21 rfl rfl)
theorem dX6_product_94 : decode cX6_product 94 = .ok (.aload_n 0, 1) := dk_42 (dk_at dksX6_product_4 0 rfl rfl)
theorem dX6_product_95 : decode cX6_product 95 = .ok (.bipush 37, 2) := dk_16 37 (dk_at dksX6_product_4 1 rfl rfl)
theorem dX6_product_97 : decode cX6_product 97 = .ok (.invokevirtual 106, 3) := dk_182 0 106 (dk_at dksX6_product_4 3 rfl rfl)
theorem dX6_product_100 : decode cX6_product 100 = .ok (.ifCond .eq 9, 3) := dk_153 0 9 (dk_at dksX6_product_4 6 rfl rfl)
theorem dX6_product_103 : decode cX6_product 103 = .ok (.sipush 20009, 3) := dk_17 78 41 (dk_at dksX6_product_4 9 rfl rfl)
theorem dX6_product_106 : decode cX6_product 106 = .ok (.goto 4, 3) := dk_167 0 4 (dk_at dksX6_product_4 12 rfl rfl)
theorem dX6_product_109 : decode cX6_product 109 = .ok (.iconst 0, 1) := dk_3 (dk_at dksX6_product_4 15 rfl rfl)
theorem dX6_product_110 : decode cX6_product 110 = .ok (.istore_n 1, 1) := dk_60 (dk_at dksX6_product_4 16 rfl rfl)
theorem dX6_product_111 : decode cX6_product 111 = .ok (.goto (-60), 3) := dk_167 255 196 (dk_at dksX6_product_4 17 rfl rfl)
theorem dX6_product_114 : decode cX6_product 114 = .ok (.return_, 1) := dk_177 (dk_at dksX6_product_4 20 rfl rfl)
abbrev cX6_one : ByteArray := prog_30_method_18_code
def yX6_one : MethodName := ⟨RX6, "one", "()V"⟩
def dkwX6_one_10 : List UInt8 := [182, 0, 110, 42, 89, 180, 0, 92, 4, 96, 181, 0, 92, 177]
abbrev dktX6_one_10 : List UInt8 := dkwX6_one_10 ++ []
def dkwX6_one_9 : List UInt8 := [156, 0, 7, 4, 167, 0, 4, 3, 181, 0, 88, 42, 180, 0, 88, 154, 0, 22, 42, 17, 39, 16, 28, 96]
abbrev dktX6_one_9 : List UInt8 := dkwX6_one_9 ++ dktX6_one_10
def dkwX6_one_8 : List UInt8 := [156, 0, 7, 2, 167, 0, 8, 42, 27, 182, 0, 142, 61, 42, 42, 180, 0, 88, 154, 0, 7, 28]
abbrev dktX6_one_8 : List UInt8 := dkwX6_one_8 ++ dktX6_one_9
def dkwX6_one_7 : List UInt8 := [180, 0, 92, 4, 96, 181, 0, 92, 132, 3, 1, 167, 255, 211, 42, 28, 182, 0, 110, 167, 0, 63, 27]
abbrev dktX6_one_7 : List UInt8 := dkwX6_one_7 ++ dktX6_one_8
def dkwX6_one_6 : List UInt8 := [16, 57, 184, 0, 77, 153, 0, 32, 16, 10, 28, 104, 42, 182, 0, 96, 96, 16, 48, 100, 61, 42, 89]
abbrev dktX6_one_6 : List UInt8 := dkwX6_one_6 ++ dktX6_one_7
def dkwX6_one_5 : List UInt8 := [16, 57, 184, 0, 77, 153, 0, 63, 3, 61, 3, 62, 29, 7, 162, 0, 46, 42, 182, 0, 96, 16, 48]
abbrev dktX6_one_5 : List UInt8 := dkwX6_one_5 ++ dktX6_one_6
def dkwX6_one_4 : List UInt8 := [4, 167, 0, 4, 3, 181, 0, 88, 42, 89, 180, 0, 136, 4, 100, 181, 0, 136, 167, 0, 134, 27, 16, 48]
abbrev dktX6_one_4 : List UInt8 := dkwX6_one_4 ++ dktX6_one_5
def dkwX6_one_3 : List UInt8 := [42, 17, 78, 42, 182, 0, 110, 167, 0, 25, 42, 182, 0, 139, 42, 42, 16, 41, 182, 0, 106, 154, 0, 7]
abbrev dktX6_one_3 : List UInt8 := dkwX6_one_3 ++ dktX6_one_4
def dkwX6_one_2 : List UInt8 := [96, 181, 0, 136, 42, 89, 180, 0, 92, 4, 96, 181, 0, 92, 27, 16, 33, 160, 0, 17, 42, 182, 0, 123]
abbrev dktX6_one_2 : List UInt8 := dkwX6_one_2 ++ dktX6_one_3
def dkwX6_one_1 : List UInt8 := [160, 0, 7, 4, 167, 0, 4, 3, 181, 0, 88, 42, 180, 0, 88, 154, 0, 209, 42, 89, 180, 0, 136, 4]
abbrev dktX6_one_1 : List UInt8 := dkwX6_one_1 ++ dktX6_one_2
def dkwX6_one_0 : List UInt8 := [42, 182, 0, 96, 60, 27, 16, 33, 159, 0, 9, 27, 16, 40, 160, 0, 102, 42, 42, 180, 0, 136, 8]
abbrev dktX6_one_0 : List UInt8 := dkwX6_one_0 ++ dktX6_one_1
theorem dksX6_one_0 : cX6_one.data.toList.drop 0 = dktX6_one_0 := by decide +kernel
theorem dksX6_one_1 : cX6_one.data.toList.drop 23 = dktX6_one_1 := dk_seg dksX6_one_0 23 rfl rfl
theorem dksX6_one_2 : cX6_one.data.toList.drop 47 = dktX6_one_2 := dk_seg dksX6_one_1 24 rfl rfl
theorem dksX6_one_3 : cX6_one.data.toList.drop 71 = dktX6_one_3 := dk_seg dksX6_one_2 24 rfl rfl
theorem dksX6_one_4 : cX6_one.data.toList.drop 95 = dktX6_one_4 := dk_seg dksX6_one_3 24 rfl rfl
theorem dksX6_one_5 : cX6_one.data.toList.drop 119 = dktX6_one_5 := dk_seg dksX6_one_4 24 rfl rfl
theorem dksX6_one_6 : cX6_one.data.toList.drop 142 = dktX6_one_6 := dk_seg dksX6_one_5 23 rfl rfl
theorem dksX6_one_7 : cX6_one.data.toList.drop 165 = dktX6_one_7 := dk_seg dksX6_one_6 23 rfl rfl
theorem dksX6_one_8 : cX6_one.data.toList.drop 188 = dktX6_one_8 := dk_seg dksX6_one_7 23 rfl rfl
theorem dksX6_one_9 : cX6_one.data.toList.drop 210 = dktX6_one_9 := dk_seg dksX6_one_8 22 rfl rfl
theorem dksX6_one_10 : cX6_one.data.toList.drop 234 = dktX6_one_10 := dk_seg dksX6_one_9 24 rfl rfl
theorem dX6_one_0 : decode cX6_one 0 = .ok (.aload_n 0, 1) := dk_42 (dk_at dksX6_one_0 0 rfl rfl)
theorem dX6_one_1 : decode cX6_one 1 = .ok (.invokevirtual 96, 3) := dk_182 0 96 (dk_at dksX6_one_0 1 rfl rfl)
theorem dX6_one_4 : decode cX6_one 4 = .ok (.istore_n 1, 1) := dk_60 (dk_at dksX6_one_0 4 rfl rfl)
theorem dX6_one_5 : decode cX6_one 5 = .ok (.iload_n 1, 1) := dk_27 (dk_at dksX6_one_0 5 rfl rfl)
theorem dX6_one_6 : decode cX6_one 6 = .ok (.bipush 33, 2) := dk_16 33 (dk_at dksX6_one_0 6 rfl rfl)
theorem dX6_one_8 : decode cX6_one 8 = .ok (.if_icmp .eq 9, 3) := dk_159 0 9 (dk_at dksX6_one_0 8 rfl rfl)
theorem dX6_one_11 : decode cX6_one 11 = .ok (.iload_n 1, 1) := dk_27 (dk_at dksX6_one_0 11 rfl rfl)
theorem dX6_one_12 : decode cX6_one 12 = .ok (.bipush 40, 2) := dk_16 40 (dk_at dksX6_one_0 12 rfl rfl)
theorem dX6_one_14 : decode cX6_one 14 = .ok (.if_icmp .ne 102, 3) := dk_160 0 102 (dk_at dksX6_one_0 14 rfl rfl)
theorem dX6_one_17 : decode cX6_one 17 = .ok (.aload_n 0, 1) := dk_42 (dk_at dksX6_one_0 17 rfl rfl)
theorem dX6_one_18 : decode cX6_one 18 = .ok (.aload_n 0, 1) := dk_42 (dk_at dksX6_one_0 18 rfl rfl)
theorem dX6_one_19 : decode cX6_one 19 = .ok (.getfield 136, 3) := dk_180 0 136 (dk_at dksX6_one_0 19 rfl rfl)
theorem dX6_one_22 : decode cX6_one 22 = .ok (.iconst 5, 1) := dk_8 (dk_at dksX6_one_0 22 rfl rfl)
theorem dX6_one_23 : decode cX6_one 23 = .ok (.if_icmp .ne 7, 3) := dk_160 0 7 (dk_at dksX6_one_1 0 rfl rfl)
theorem dX6_one_26 : decode cX6_one 26 = .ok (.iconst 1, 1) := dk_4 (dk_at dksX6_one_1 3 rfl rfl)
theorem dX6_one_27 : decode cX6_one 27 = .ok (.goto 4, 3) := dk_167 0 4 (dk_at dksX6_one_1 4 rfl rfl)
theorem dX6_one_30 : decode cX6_one 30 = .ok (.iconst 0, 1) := dk_3 (dk_at dksX6_one_1 7 rfl rfl)
theorem dX6_one_31 : decode cX6_one 31 = .ok (.putfield 88, 3) := dk_181 0 88 (dk_at dksX6_one_1 8 rfl rfl)
theorem dX6_one_34 : decode cX6_one 34 = .ok (.aload_n 0, 1) := dk_42 (dk_at dksX6_one_1 11 rfl rfl)
theorem dX6_one_35 : decode cX6_one 35 = .ok (.getfield 88, 3) := dk_180 0 88 (dk_at dksX6_one_1 12 rfl rfl)
theorem dX6_one_38 : decode cX6_one 38 = .ok (.ifCond .ne 209, 3) := dk_154 0 209 (dk_at dksX6_one_1 15 rfl rfl)
theorem dX6_one_41 : decode cX6_one 41 = .ok (.aload_n 0, 1) := dk_42 (dk_at dksX6_one_1 18 rfl rfl)
theorem dX6_one_42 : decode cX6_one 42 = .ok (.dup, 1) := dk_89 (dk_at dksX6_one_1 19 rfl rfl)
theorem dX6_one_43 : decode cX6_one 43 = .ok (.getfield 136, 3) := dk_180 0 136 (dk_at dksX6_one_1 20 rfl rfl)
theorem dX6_one_46 : decode cX6_one 46 = .ok (.iconst 1, 1) := dk_4 (dk_at dksX6_one_1 23 rfl rfl)
theorem dX6_one_47 : decode cX6_one 47 = .ok (.iadd, 1) := dk_96 (dk_at dksX6_one_2 0 rfl rfl)
theorem dX6_one_48 : decode cX6_one 48 = .ok (.putfield 136, 3) := dk_181 0 136 (dk_at dksX6_one_2 1 rfl rfl)
theorem dX6_one_51 : decode cX6_one 51 = .ok (.aload_n 0, 1) := dk_42 (dk_at dksX6_one_2 4 rfl rfl)
theorem dX6_one_52 : decode cX6_one 52 = .ok (.dup, 1) := dk_89 (dk_at dksX6_one_2 5 rfl rfl)
theorem dX6_one_53 : decode cX6_one 53 = .ok (.getfield 92, 3) := dk_180 0 92 (dk_at dksX6_one_2 6 rfl rfl)
theorem dX6_one_56 : decode cX6_one 56 = .ok (.iconst 1, 1) := dk_4 (dk_at dksX6_one_2 9 rfl rfl)
theorem dX6_one_57 : decode cX6_one 57 = .ok (.iadd, 1) := dk_96 (dk_at dksX6_one_2 10 rfl rfl)
theorem dX6_one_58 : decode cX6_one 58 = .ok (.putfield 92, 3) := dk_181 0 92 (dk_at dksX6_one_2 11 rfl rfl)
theorem dX6_one_61 : decode cX6_one 61 = .ok (.iload_n 1, 1) := dk_27 (dk_at dksX6_one_2 14 rfl rfl)
theorem dX6_one_62 : decode cX6_one 62 = .ok (.bipush 33, 2) := dk_16 33 (dk_at dksX6_one_2 15 rfl rfl)
theorem dX6_one_64 : decode cX6_one 64 = .ok (.if_icmp .ne 17, 3) := dk_160 0 17 (dk_at dksX6_one_2 17 rfl rfl)
theorem dX6_one_67 : decode cX6_one 67 = .ok (.aload_n 0, 1) := dk_42 (dk_at dksX6_one_2 20 rfl rfl)
theorem dX6_one_68 : decode cX6_one 68 = .ok (.invokevirtual 123, 3) := dk_182 0 123 (dk_at dksX6_one_2 21 rfl rfl)
theorem dX6_one_71 : decode cX6_one 71 = .ok (.aload_n 0, 1) := dk_42 (dk_at dksX6_one_3 0 rfl rfl)
theorem dX6_one_72 : decode cX6_one 72 = .ok (.sipush 20010, 3) := dk_17 78 42 (dk_at dksX6_one_3 1 rfl rfl)
theorem dX6_one_75 : decode cX6_one 75 = .ok (.invokevirtual 110, 3) := dk_182 0 110 (dk_at dksX6_one_3 4 rfl rfl)
theorem dX6_one_78 : decode cX6_one 78 = .ok (.goto 25, 3) := dk_167 0 25 (dk_at dksX6_one_3 7 rfl rfl)
theorem dX6_one_81 : decode cX6_one 81 = .ok (.aload_n 0, 1) := dk_42 (dk_at dksX6_one_3 10 rfl rfl)
theorem dX6_one_82 : decode cX6_one 82 = .ok (.invokevirtual 139, 3) := dk_182 0 139 (dk_at dksX6_one_3 11 rfl rfl)
theorem dX6_one_85 : decode cX6_one 85 = .ok (.aload_n 0, 1) := dk_42 (dk_at dksX6_one_3 14 rfl rfl)
theorem dX6_one_86 : decode cX6_one 86 = .ok (.aload_n 0, 1) := dk_42 (dk_at dksX6_one_3 15 rfl rfl)
theorem dX6_one_87 : decode cX6_one 87 = .ok (.bipush 41, 2) := dk_16 41 (dk_at dksX6_one_3 16 rfl rfl)
theorem dX6_one_89 : decode cX6_one 89 = .ok (.invokevirtual 106, 3) := dk_182 0 106 (dk_at dksX6_one_3 18 rfl rfl)
theorem dX6_one_92 : decode cX6_one 92 = .ok (.ifCond .ne 7, 3) := dk_154 0 7 (dk_at dksX6_one_3 21 rfl rfl)
theorem dX6_one_95 : decode cX6_one 95 = .ok (.iconst 1, 1) := dk_4 (dk_at dksX6_one_4 0 rfl rfl)
theorem dX6_one_96 : decode cX6_one 96 = .ok (.goto 4, 3) := dk_167 0 4 (dk_at dksX6_one_4 1 rfl rfl)
theorem dX6_one_99 : decode cX6_one 99 = .ok (.iconst 0, 1) := dk_3 (dk_at dksX6_one_4 4 rfl rfl)
theorem dX6_one_100 : decode cX6_one 100 = .ok (.putfield 88, 3) := dk_181 0 88 (dk_at dksX6_one_4 5 rfl rfl)
theorem dX6_one_103 : decode cX6_one 103 = .ok (.aload_n 0, 1) := dk_42 (dk_at dksX6_one_4 8 rfl rfl)
theorem dX6_one_104 : decode cX6_one 104 = .ok (.dup, 1) := dk_89 (dk_at dksX6_one_4 9 rfl rfl)
theorem dX6_one_105 : decode cX6_one 105 = .ok (.getfield 136, 3) := dk_180 0 136 (dk_at dksX6_one_4 10 rfl rfl)
theorem dX6_one_108 : decode cX6_one 108 = .ok (.iconst 1, 1) := dk_4 (dk_at dksX6_one_4 13 rfl rfl)
theorem dX6_one_109 : decode cX6_one 109 = .ok (.isub, 1) := dk_100 (dk_at dksX6_one_4 14 rfl rfl)
theorem dX6_one_110 : decode cX6_one 110 = .ok (.putfield 136, 3) := dk_181 0 136 (dk_at dksX6_one_4 15 rfl rfl)
theorem dX6_one_113 : decode cX6_one 113 = .ok (.goto 134, 3) := dk_167 0 134 (dk_at dksX6_one_4 18 rfl rfl)
theorem dX6_one_116 : decode cX6_one 116 = .ok (.iload_n 1, 1) := dk_27 (dk_at dksX6_one_4 21 rfl rfl)
theorem dX6_one_117 : decode cX6_one 117 = .ok (.bipush 48, 2) := dk_16 48 (dk_at dksX6_one_4 22 rfl rfl)
theorem dX6_one_119 : decode cX6_one 119 = .ok (.bipush 57, 2) := dk_16 57 (dk_at dksX6_one_5 0 rfl rfl)
theorem dX6_one_121 : decode cX6_one 121 = .ok (.invokestatic 77, 3) := dk_184 0 77 (dk_at dksX6_one_5 2 rfl rfl)
theorem dX6_one_124 : decode cX6_one 124 = .ok (.ifCond .eq 63, 3) := dk_153 0 63 (dk_at dksX6_one_5 5 rfl rfl)
theorem dX6_one_127 : decode cX6_one 127 = .ok (.iconst 0, 1) := dk_3 (dk_at dksX6_one_5 8 rfl rfl)
theorem dX6_one_128 : decode cX6_one 128 = .ok (.istore_n 2, 1) := dk_61 (dk_at dksX6_one_5 9 rfl rfl)
theorem dX6_one_129 : decode cX6_one 129 = .ok (.iconst 0, 1) := dk_3 (dk_at dksX6_one_5 10 rfl rfl)
theorem dX6_one_130 : decode cX6_one 130 = .ok (.istore_n 3, 1) := dk_62 (dk_at dksX6_one_5 11 rfl rfl)
theorem dX6_one_131 : decode cX6_one 131 = .ok (.iload_n 3, 1) := dk_29 (dk_at dksX6_one_5 12 rfl rfl)
theorem dX6_one_132 : decode cX6_one 132 = .ok (.iconst 4, 1) := dk_7 (dk_at dksX6_one_5 13 rfl rfl)
theorem dX6_one_133 : decode cX6_one 133 = .ok (.if_icmp .ge 46, 3) := dk_162 0 46 (dk_at dksX6_one_5 14 rfl rfl)
theorem dX6_one_136 : decode cX6_one 136 = .ok (.aload_n 0, 1) := dk_42 (dk_at dksX6_one_5 17 rfl rfl)
theorem dX6_one_137 : decode cX6_one 137 = .ok (.invokevirtual 96, 3) := dk_182 0 96 (dk_at dksX6_one_5 18 rfl rfl)
theorem dX6_one_140 : decode cX6_one 140 = .ok (.bipush 48, 2) := dk_16 48 (dk_at dksX6_one_5 21 rfl rfl)
theorem dX6_one_142 : decode cX6_one 142 = .ok (.bipush 57, 2) := dk_16 57 (dk_at dksX6_one_6 0 rfl rfl)
theorem dX6_one_144 : decode cX6_one 144 = .ok (.invokestatic 77, 3) := dk_184 0 77 (dk_at dksX6_one_6 2 rfl rfl)
theorem dX6_one_147 : decode cX6_one 147 = .ok (.ifCond .eq 32, 3) := dk_153 0 32 (dk_at dksX6_one_6 5 rfl rfl)
theorem dX6_one_150 : decode cX6_one 150 = .ok (.bipush 10, 2) := dk_16 10 (dk_at dksX6_one_6 8 rfl rfl)
theorem dX6_one_152 : decode cX6_one 152 = .ok (.iload_n 2, 1) := dk_28 (dk_at dksX6_one_6 10 rfl rfl)
theorem dX6_one_153 : decode cX6_one 153 = .ok (.imul, 1) := dk_104 (dk_at dksX6_one_6 11 rfl rfl)
theorem dX6_one_154 : decode cX6_one 154 = .ok (.aload_n 0, 1) := dk_42 (dk_at dksX6_one_6 12 rfl rfl)
theorem dX6_one_155 : decode cX6_one 155 = .ok (.invokevirtual 96, 3) := dk_182 0 96 (dk_at dksX6_one_6 13 rfl rfl)
theorem dX6_one_158 : decode cX6_one 158 = .ok (.iadd, 1) := dk_96 (dk_at dksX6_one_6 16 rfl rfl)
theorem dX6_one_159 : decode cX6_one 159 = .ok (.bipush 48, 2) := dk_16 48 (dk_at dksX6_one_6 17 rfl rfl)
theorem dX6_one_161 : decode cX6_one 161 = .ok (.isub, 1) := dk_100 (dk_at dksX6_one_6 19 rfl rfl)
theorem dX6_one_162 : decode cX6_one 162 = .ok (.istore_n 2, 1) := dk_61 (dk_at dksX6_one_6 20 rfl rfl)
theorem dX6_one_163 : decode cX6_one 163 = .ok (.aload_n 0, 1) := dk_42 (dk_at dksX6_one_6 21 rfl rfl)
theorem dX6_one_164 : decode cX6_one 164 = .ok (.dup, 1) := dk_89 (dk_at dksX6_one_6 22 rfl rfl)
theorem dX6_one_165 : decode cX6_one 165 = .ok (.getfield 92, 3) := dk_180 0 92 (dk_at dksX6_one_7 0 rfl rfl)
theorem dX6_one_168 : decode cX6_one 168 = .ok (.iconst 1, 1) := dk_4 (dk_at dksX6_one_7 3 rfl rfl)
theorem dX6_one_169 : decode cX6_one 169 = .ok (.iadd, 1) := dk_96 (dk_at dksX6_one_7 4 rfl rfl)
theorem dX6_one_170 : decode cX6_one 170 = .ok (.putfield 92, 3) := dk_181 0 92 (dk_at dksX6_one_7 5 rfl rfl)
theorem dX6_one_173 : decode cX6_one 173 = .ok (.iinc 3 1, 3) := dk_132 3 1 (dk_at dksX6_one_7 8 rfl rfl)
theorem dX6_one_176 : decode cX6_one 176 = .ok (.goto (-45), 3) := dk_167 255 211 (dk_at dksX6_one_7 11 rfl rfl)
theorem dX6_one_179 : decode cX6_one 179 = .ok (.aload_n 0, 1) := dk_42 (dk_at dksX6_one_7 14 rfl rfl)
theorem dX6_one_180 : decode cX6_one 180 = .ok (.iload_n 2, 1) := dk_28 (dk_at dksX6_one_7 15 rfl rfl)
theorem dX6_one_181 : decode cX6_one 181 = .ok (.invokevirtual 110, 3) := dk_182 0 110 (dk_at dksX6_one_7 16 rfl rfl)
theorem dX6_one_184 : decode cX6_one 184 = .ok (.goto 63, 3) := dk_167 0 63 (dk_at dksX6_one_7 19 rfl rfl)
theorem dX6_one_187 : decode cX6_one 187 = .ok (.iload_n 1, 1) := dk_27 (dk_at dksX6_one_7 22 rfl rfl)
theorem dX6_one_188 : decode cX6_one 188 = .ok (.ifCond .ge 7, 3) := dk_156 0 7 (dk_at dksX6_one_8 0 rfl rfl)
theorem dX6_one_191 : decode cX6_one 191 = .ok (.iconst (-1), 1) := dk_2 (dk_at dksX6_one_8 3 rfl rfl)
theorem dX6_one_192 : decode cX6_one 192 = .ok (.goto 8, 3) := dk_167 0 8 (dk_at dksX6_one_8 4 rfl rfl)
theorem dX6_one_195 : decode cX6_one 195 = .ok (.aload_n 0, 1) := dk_42 (dk_at dksX6_one_8 7 rfl rfl)
theorem dX6_one_196 : decode cX6_one 196 = .ok (.iload_n 1, 1) := dk_27 (dk_at dksX6_one_8 8 rfl rfl)
theorem dX6_one_197 : decode cX6_one 197 = .ok (.invokevirtual 142, 3) := dk_182 0 142 (dk_at dksX6_one_8 9 rfl rfl)
theorem dX6_one_200 : decode cX6_one 200 = .ok (.istore_n 2, 1) := dk_61 (dk_at dksX6_one_8 12 rfl rfl)
theorem dX6_one_201 : decode cX6_one 201 = .ok (.aload_n 0, 1) := dk_42 (dk_at dksX6_one_8 13 rfl rfl)
theorem dX6_one_202 : decode cX6_one 202 = .ok (.aload_n 0, 1) := dk_42 (dk_at dksX6_one_8 14 rfl rfl)
theorem dX6_one_203 : decode cX6_one 203 = .ok (.getfield 88, 3) := dk_180 0 88 (dk_at dksX6_one_8 15 rfl rfl)
theorem dX6_one_206 : decode cX6_one 206 = .ok (.ifCond .ne 7, 3) := dk_154 0 7 (dk_at dksX6_one_8 18 rfl rfl)
theorem dX6_one_209 : decode cX6_one 209 = .ok (.iload_n 2, 1) := dk_28 (dk_at dksX6_one_8 21 rfl rfl)
theorem dX6_one_210 : decode cX6_one 210 = .ok (.ifCond .ge 7, 3) := dk_156 0 7 (dk_at dksX6_one_9 0 rfl rfl)
theorem dX6_one_213 : decode cX6_one 213 = .ok (.iconst 1, 1) := dk_4 (dk_at dksX6_one_9 3 rfl rfl)
theorem dX6_one_214 : decode cX6_one 214 = .ok (.goto 4, 3) := dk_167 0 4 (dk_at dksX6_one_9 4 rfl rfl)
theorem dX6_one_217 : decode cX6_one 217 = .ok (.iconst 0, 1) := dk_3 (dk_at dksX6_one_9 7 rfl rfl)
theorem dX6_one_218 : decode cX6_one 218 = .ok (.putfield 88, 3) := dk_181 0 88 (dk_at dksX6_one_9 8 rfl rfl)
theorem dX6_one_221 : decode cX6_one 221 = .ok (.aload_n 0, 1) := dk_42 (dk_at dksX6_one_9 11 rfl rfl)
theorem dX6_one_222 : decode cX6_one 222 = .ok (.getfield 88, 3) := dk_180 0 88 (dk_at dksX6_one_9 12 rfl rfl)
theorem dX6_one_225 : decode cX6_one 225 = .ok (.ifCond .ne 22, 3) := dk_154 0 22 (dk_at dksX6_one_9 15 rfl rfl)
theorem dX6_one_228 : decode cX6_one 228 = .ok (.aload_n 0, 1) := dk_42 (dk_at dksX6_one_9 18 rfl rfl)
theorem dX6_one_229 : decode cX6_one 229 = .ok (.sipush 10000, 3) := dk_17 39 16 (dk_at dksX6_one_9 19 rfl rfl)
theorem dX6_one_232 : decode cX6_one 232 = .ok (.iload_n 2, 1) := dk_28 (dk_at dksX6_one_9 22 rfl rfl)
theorem dX6_one_233 : decode cX6_one 233 = .ok (.iadd, 1) := dk_96 (dk_at dksX6_one_9 23 rfl rfl)
theorem dX6_one_234 : decode cX6_one 234 = .ok (.invokevirtual 110, 3) := dk_182 0 110 (dk_at dksX6_one_10 0 rfl rfl)
theorem dX6_one_237 : decode cX6_one 237 = .ok (.aload_n 0, 1) := dk_42 (dk_at dksX6_one_10 3 rfl rfl)
theorem dX6_one_238 : decode cX6_one 238 = .ok (.dup, 1) := dk_89 (dk_at dksX6_one_10 4 rfl rfl)
theorem dX6_one_239 : decode cX6_one 239 = .ok (.getfield 92, 3) := dk_180 0 92 (dk_at dksX6_one_10 5 rfl rfl)
theorem dX6_one_242 : decode cX6_one 242 = .ok (.iconst 1, 1) := dk_4 (dk_at dksX6_one_10 8 rfl rfl)
theorem dX6_one_243 : decode cX6_one 243 = .ok (.iadd, 1) := dk_96 (dk_at dksX6_one_10 9 rfl rfl)
theorem dX6_one_244 : decode cX6_one 244 = .ok (.putfield 92, 3) := dk_181 0 92 (dk_at dksX6_one_10 10 rfl rfl)
theorem dX6_one_247 : decode cX6_one 247 = .ok (.return_, 1) := dk_177 (dk_at dksX6_one_10 13 rfl rfl)
abbrev cX6_here : ByteArray := prog_30_method_9_code
def yX6_here : MethodName := ⟨RX6, "here", "()I"⟩
def dkwX6_here_1 : List UInt8 := [180, 0, 9, 16, 68, 42, 180, 0, 92, 96, 46, 167, 0, 4, 2, 172]
abbrev dktX6_here_1 : List UInt8 := dkwX6_here_1 ++ []
def dkwX6_here_0 : List UInt8 := [42, 180, 0, 88, 154, 0, 32, 42, 180, 0, 92, 42, 180, 0, 9, 16, 7, 46, 162, 0, 18, 42]
abbrev dktX6_here_0 : List UInt8 := dkwX6_here_0 ++ dktX6_here_1
theorem dksX6_here_0 : cX6_here.data.toList.drop 0 = dktX6_here_0 := by decide +kernel
theorem dksX6_here_1 : cX6_here.data.toList.drop 22 = dktX6_here_1 := dk_seg dksX6_here_0 22 rfl rfl
theorem dX6_here_0 : decode cX6_here 0 = .ok (.aload_n 0, 1) := dk_42 (dk_at dksX6_here_0 0 rfl rfl)
theorem dX6_here_1 : decode cX6_here 1 = .ok (.getfield 88, 3) := dk_180 0 88 (dk_at dksX6_here_0 1 rfl rfl)
theorem dX6_here_4 : decode cX6_here 4 = .ok (.ifCond .ne 32, 3) := dk_154 0 32 (dk_at dksX6_here_0 4 rfl rfl)
theorem dX6_here_7 : decode cX6_here 7 = .ok (.aload_n 0, 1) := dk_42 (dk_at dksX6_here_0 7 rfl rfl)
theorem dX6_here_8 : decode cX6_here 8 = .ok (.getfield 92, 3) := dk_180 0 92 (dk_at dksX6_here_0 8 rfl rfl)
theorem dX6_here_11 : decode cX6_here 11 = .ok (.aload_n 0, 1) := dk_42 (dk_at dksX6_here_0 11 rfl rfl)
theorem dX6_here_12 : decode cX6_here 12 = .ok (.getfield 9, 3) := dk_180 0 9 (dk_at dksX6_here_0 12 rfl rfl)
theorem dX6_here_15 : decode cX6_here 15 = .ok (.bipush 7, 2) := dk_16 7 (dk_at dksX6_here_0 15 rfl rfl)
theorem dX6_here_17 : decode cX6_here 17 = .ok (.iaload, 1) := dk_46 (dk_at dksX6_here_0 17 rfl rfl)
theorem dX6_here_18 : decode cX6_here 18 = .ok (.if_icmp .ge 18, 3) := dk_162 0 18 (dk_at dksX6_here_0 18 rfl rfl)
theorem dX6_here_21 : decode cX6_here 21 = .ok (.aload_n 0, 1) := dk_42 (dk_at dksX6_here_0 21 rfl rfl)
theorem dX6_here_22 : decode cX6_here 22 = .ok (.getfield 9, 3) := dk_180 0 9 (dk_at dksX6_here_1 0 rfl rfl)
theorem dX6_here_25 : decode cX6_here 25 = .ok (.bipush 68, 2) := dk_16 68 (dk_at dksX6_here_1 3 rfl rfl)
theorem dX6_here_27 : decode cX6_here 27 = .ok (.aload_n 0, 1) := dk_42 (dk_at dksX6_here_1 5 rfl rfl)
theorem dX6_here_28 : decode cX6_here 28 = .ok (.getfield 92, 3) := dk_180 0 92 (dk_at dksX6_here_1 6 rfl rfl)
theorem dX6_here_31 : decode cX6_here 31 = .ok (.iadd, 1) := dk_96 (dk_at dksX6_here_1 9 rfl rfl)
theorem dX6_here_32 : decode cX6_here 32 = .ok (.iaload, 1) := dk_46 (dk_at dksX6_here_1 10 rfl rfl)
theorem dX6_here_33 : decode cX6_here 33 = .ok (.goto 4, 3) := dk_167 0 4 (dk_at dksX6_here_1 11 rfl rfl)
theorem dX6_here_36 : decode cX6_here 36 = .ok (.iconst (-1), 1) := dk_2 (dk_at dksX6_here_1 14 rfl rfl)
theorem dX6_here_37 : decode cX6_here 37 = .ok (.ireturn, 1) := dk_172 (dk_at dksX6_here_1 15 rfl rfl)
abbrev cX6_codes : ByteArray := prog_30_method_11_code
def yX6_codes : MethodName := ⟨RX6, "codes", "(I)V"⟩
def dkwX6_codes_1 : List UInt8 := [181, 0, 100, 177]
abbrev dktX6_codes_1 : List UInt8 := dkwX6_codes_1 ++ []
def dkwX6_codes_0 : List UInt8 := [42, 180, 0, 88, 154, 0, 23, 42, 180, 0, 35, 42, 180, 0, 100, 27, 79, 42, 89, 180, 0, 100, 4, 96]
abbrev dktX6_codes_0 : List UInt8 := dkwX6_codes_0 ++ dktX6_codes_1
theorem dksX6_codes_0 : cX6_codes.data.toList.drop 0 = dktX6_codes_0 := by decide +kernel
theorem dksX6_codes_1 : cX6_codes.data.toList.drop 24 = dktX6_codes_1 := dk_seg dksX6_codes_0 24 rfl rfl
theorem dX6_codes_0 : decode cX6_codes 0 = .ok (.aload_n 0, 1) := dk_42 (dk_at dksX6_codes_0 0 rfl rfl)
theorem dX6_codes_1 : decode cX6_codes 1 = .ok (.getfield 88, 3) := dk_180 0 88 (dk_at dksX6_codes_0 1 rfl rfl)
theorem dX6_codes_4 : decode cX6_codes 4 = .ok (.ifCond .ne 23, 3) := dk_154 0 23 (dk_at dksX6_codes_0 4 rfl rfl)
theorem dX6_codes_7 : decode cX6_codes 7 = .ok (.aload_n 0, 1) := dk_42 (dk_at dksX6_codes_0 7 rfl rfl)
theorem dX6_codes_8 : decode cX6_codes 8 = .ok (.getfield 35, 3) := dk_180 0 35 (dk_at dksX6_codes_0 8 rfl rfl)
theorem dX6_codes_11 : decode cX6_codes 11 = .ok (.aload_n 0, 1) := dk_42 (dk_at dksX6_codes_0 11 rfl rfl)
theorem dX6_codes_12 : decode cX6_codes 12 = .ok (.getfield 100, 3) := dk_180 0 100 (dk_at dksX6_codes_0 12 rfl rfl)
theorem dX6_codes_15 : decode cX6_codes 15 = .ok (.iload_n 1, 1) := dk_27 (dk_at dksX6_codes_0 15 rfl rfl)
theorem dX6_codes_16 : decode cX6_codes 16 = .ok (.iastore, 1) := dk_79 (dk_at dksX6_codes_0 16 rfl rfl)
theorem dX6_codes_17 : decode cX6_codes 17 = .ok (.aload_n 0, 1) := dk_42 (dk_at dksX6_codes_0 17 rfl rfl)
theorem dX6_codes_18 : decode cX6_codes 18 = .ok (.dup, 1) := dk_89 (dk_at dksX6_codes_0 18 rfl rfl)
theorem dX6_codes_19 : decode cX6_codes 19 = .ok (.getfield 100, 3) := dk_180 0 100 (dk_at dksX6_codes_0 19 rfl rfl)
theorem dX6_codes_22 : decode cX6_codes 22 = .ok (.iconst 1, 1) := dk_4 (dk_at dksX6_codes_0 22 rfl rfl)
theorem dX6_codes_23 : decode cX6_codes 23 = .ok (.iadd, 1) := dk_96 (dk_at dksX6_codes_0 23 rfl rfl)
theorem dX6_codes_24 : decode cX6_codes 24 = .ok (.putfield 100, 3) := dk_181 0 100 (dk_at dksX6_codes_1 0 rfl rfl)
theorem dX6_codes_27 : decode cX6_codes 27 = .ok (.return_, 1) := dk_177 (dk_at dksX6_codes_1 3 rfl rfl)
abbrev cX6_takes : ByteArray := prog_30_method_10_code
def yX6_takes : MethodName := ⟨RX6, "takes", "(I)Z"⟩
def dkwX6_takes_1 : List UInt8 := [167, 0, 4, 3, 96, 181, 0, 92, 28, 172]
abbrev dktX6_takes_1 : List UInt8 := dkwX6_takes_1 ++ []
def dkwX6_takes_0 : List UInt8 := [42, 182, 0, 96, 27, 160, 0, 7, 4, 167, 0, 4, 3, 61, 42, 89, 180, 0, 92, 28, 153, 0, 7, 4]
abbrev dktX6_takes_0 : List UInt8 := dkwX6_takes_0 ++ dktX6_takes_1
theorem dksX6_takes_0 : cX6_takes.data.toList.drop 0 = dktX6_takes_0 := by decide +kernel
theorem dksX6_takes_1 : cX6_takes.data.toList.drop 24 = dktX6_takes_1 := dk_seg dksX6_takes_0 24 rfl rfl
theorem dX6_takes_0 : decode cX6_takes 0 = .ok (.aload_n 0, 1) := dk_42 (dk_at dksX6_takes_0 0 rfl rfl)
theorem dX6_takes_1 : decode cX6_takes 1 = .ok (.invokevirtual 96, 3) := dk_182 0 96 (dk_at dksX6_takes_0 1 rfl rfl)
theorem dX6_takes_4 : decode cX6_takes 4 = .ok (.iload_n 1, 1) := dk_27 (dk_at dksX6_takes_0 4 rfl rfl)
theorem dX6_takes_5 : decode cX6_takes 5 = .ok (.if_icmp .ne 7, 3) := dk_160 0 7 (dk_at dksX6_takes_0 5 rfl rfl)
theorem dX6_takes_8 : decode cX6_takes 8 = .ok (.iconst 1, 1) := dk_4 (dk_at dksX6_takes_0 8 rfl rfl)
theorem dX6_takes_9 : decode cX6_takes 9 = .ok (.goto 4, 3) := dk_167 0 4 (dk_at dksX6_takes_0 9 rfl rfl)
theorem dX6_takes_12 : decode cX6_takes 12 = .ok (.iconst 0, 1) := dk_3 (dk_at dksX6_takes_0 12 rfl rfl)
theorem dX6_takes_13 : decode cX6_takes 13 = .ok (.istore_n 2, 1) := dk_61 (dk_at dksX6_takes_0 13 rfl rfl)
theorem dX6_takes_14 : decode cX6_takes 14 = .ok (.aload_n 0, 1) := dk_42 (dk_at dksX6_takes_0 14 rfl rfl)
theorem dX6_takes_15 : decode cX6_takes 15 = .ok (.dup, 1) := dk_89 (dk_at dksX6_takes_0 15 rfl rfl)
theorem dX6_takes_16 : decode cX6_takes 16 = .ok (.getfield 92, 3) := dk_180 0 92 (dk_at dksX6_takes_0 16 rfl rfl)
theorem dX6_takes_19 : decode cX6_takes 19 = .ok (.iload_n 2, 1) := dk_28 (dk_at dksX6_takes_0 19 rfl rfl)
theorem dX6_takes_20 : decode cX6_takes 20 = .ok (.ifCond .eq 7, 3) := dk_153 0 7 (dk_at dksX6_takes_0 20 rfl rfl)
theorem dX6_takes_23 : decode cX6_takes 23 = .ok (.iconst 1, 1) := dk_4 (dk_at dksX6_takes_0 23 rfl rfl)
theorem dX6_takes_24 : decode cX6_takes 24 = .ok (.goto 4, 3) := dk_167 0 4 (dk_at dksX6_takes_1 0 rfl rfl)
theorem dX6_takes_27 : decode cX6_takes 27 = .ok (.iconst 0, 1) := dk_3 (dk_at dksX6_takes_1 3 rfl rfl)
theorem dX6_takes_28 : decode cX6_takes 28 = .ok (.iadd, 1) := dk_96 (dk_at dksX6_takes_1 4 rfl rfl)
theorem dX6_takes_29 : decode cX6_takes 29 = .ok (.putfield 92, 3) := dk_181 0 92 (dk_at dksX6_takes_1 5 rfl rfl)
theorem dX6_takes_32 : decode cX6_takes 32 = .ok (.iload_n 2, 1) := dk_28 (dk_at dksX6_takes_1 8 rfl rfl)
theorem dX6_takes_33 : decode cX6_takes 33 = .ok (.ireturn, 1) := dk_172 (dk_at dksX6_takes_1 9 rfl rfl)
abbrev cX6_nameOf : ByteArray := prog_30_method_17_code
def yX6_nameOf : MethodName := ⟨RX6, "nameOf", "(I)I"⟩
def dkwX6_nameOf_2 : List UInt8 := [167, 255, 214, 28, 172]
abbrev dktX6_nameOf_2 : List UInt8 := dkwX6_nameOf_2 ++ []
def dkwX6_nameOf_1 : List UInt8 := [42, 180, 0, 126, 50, 29, 182, 0, 132, 27, 160, 0, 7, 29, 167, 0, 4, 28, 61, 132, 3, 1]
abbrev dktX6_nameOf_1 : List UInt8 := dkwX6_nameOf_1 ++ dktX6_nameOf_2
def dkwX6_nameOf_0 : List UInt8 := [2, 61, 3, 62, 29, 42, 180, 0, 31, 42, 180, 0, 126, 50, 182, 0, 129, 162, 0, 32, 42, 180, 0, 31]
abbrev dktX6_nameOf_0 : List UInt8 := dkwX6_nameOf_0 ++ dktX6_nameOf_1
theorem dksX6_nameOf_0 : cX6_nameOf.data.toList.drop 0 = dktX6_nameOf_0 := by decide +kernel
theorem dksX6_nameOf_1 : cX6_nameOf.data.toList.drop 24 = dktX6_nameOf_1 := dk_seg dksX6_nameOf_0 24 rfl rfl
theorem dksX6_nameOf_2 : cX6_nameOf.data.toList.drop 46 = dktX6_nameOf_2 := dk_seg dksX6_nameOf_1 22 rfl rfl
theorem dX6_nameOf_0 : decode cX6_nameOf 0 = .ok (.iconst (-1), 1) := dk_2 (dk_at dksX6_nameOf_0 0 rfl rfl)
theorem dX6_nameOf_1 : decode cX6_nameOf 1 = .ok (.istore_n 2, 1) := dk_61 (dk_at dksX6_nameOf_0 1 rfl rfl)
theorem dX6_nameOf_2 : decode cX6_nameOf 2 = .ok (.iconst 0, 1) := dk_3 (dk_at dksX6_nameOf_0 2 rfl rfl)
theorem dX6_nameOf_3 : decode cX6_nameOf 3 = .ok (.istore_n 3, 1) := dk_62 (dk_at dksX6_nameOf_0 3 rfl rfl)
theorem dX6_nameOf_4 : decode cX6_nameOf 4 = .ok (.iload_n 3, 1) := dk_29 (dk_at dksX6_nameOf_0 4 rfl rfl)
theorem dX6_nameOf_5 : decode cX6_nameOf 5 = .ok (.aload_n 0, 1) := dk_42 (dk_at dksX6_nameOf_0 5 rfl rfl)
theorem dX6_nameOf_6 : decode cX6_nameOf 6 = .ok (.getfield 31, 3) := dk_180 0 31 (dk_at dksX6_nameOf_0 6 rfl rfl)
theorem dX6_nameOf_9 : decode cX6_nameOf 9 = .ok (.aload_n 0, 1) := dk_42 (dk_at dksX6_nameOf_0 9 rfl rfl)
theorem dX6_nameOf_10 : decode cX6_nameOf 10 = .ok (.getfield 126, 3) := dk_180 0 126 (dk_at dksX6_nameOf_0 10 rfl rfl)
theorem dX6_nameOf_13 : decode cX6_nameOf 13 = .ok (.aaload, 1) := dk_50 (dk_at dksX6_nameOf_0 13 rfl rfl)
theorem dX6_nameOf_14 : decode cX6_nameOf 14 = .ok (.invokevirtual 129, 3) := dk_182 0 129 (dk_at dksX6_nameOf_0 14 rfl rfl)
theorem dX6_nameOf_17 : decode cX6_nameOf 17 = .ok (.if_icmp .ge 32, 3) := dk_162 0 32 (dk_at dksX6_nameOf_0 17 rfl rfl)
theorem dX6_nameOf_20 : decode cX6_nameOf 20 = .ok (.aload_n 0, 1) := dk_42 (dk_at dksX6_nameOf_0 20 rfl rfl)
theorem dX6_nameOf_21 : decode cX6_nameOf 21 = .ok (.getfield 31, 3) := dk_180 0 31 (dk_at dksX6_nameOf_0 21 rfl rfl)
theorem dX6_nameOf_24 : decode cX6_nameOf 24 = .ok (.aload_n 0, 1) := dk_42 (dk_at dksX6_nameOf_1 0 rfl rfl)
theorem dX6_nameOf_25 : decode cX6_nameOf 25 = .ok (.getfield 126, 3) := dk_180 0 126 (dk_at dksX6_nameOf_1 1 rfl rfl)
theorem dX6_nameOf_28 : decode cX6_nameOf 28 = .ok (.aaload, 1) := dk_50 (dk_at dksX6_nameOf_1 4 rfl rfl)
theorem dX6_nameOf_29 : decode cX6_nameOf 29 = .ok (.iload_n 3, 1) := dk_29 (dk_at dksX6_nameOf_1 5 rfl rfl)
theorem dX6_nameOf_30 : decode cX6_nameOf 30 = .ok (.invokevirtual 132, 3) := dk_182 0 132 (dk_at dksX6_nameOf_1 6 rfl rfl)
theorem dX6_nameOf_33 : decode cX6_nameOf 33 = .ok (.iload_n 1, 1) := dk_27 (dk_at dksX6_nameOf_1 9 rfl rfl)
theorem dX6_nameOf_34 : decode cX6_nameOf 34 = .ok (.if_icmp .ne 7, 3) := dk_160 0 7 (dk_at dksX6_nameOf_1 10 rfl rfl)
theorem dX6_nameOf_37 : decode cX6_nameOf 37 = .ok (.iload_n 3, 1) := dk_29 (dk_at dksX6_nameOf_1 13 rfl rfl)
theorem dX6_nameOf_38 : decode cX6_nameOf 38 = .ok (.goto 4, 3) := dk_167 0 4 (dk_at dksX6_nameOf_1 14 rfl rfl)
theorem dX6_nameOf_41 : decode cX6_nameOf 41 = .ok (.iload_n 2, 1) := dk_28 (dk_at dksX6_nameOf_1 17 rfl rfl)
theorem dX6_nameOf_42 : decode cX6_nameOf 42 = .ok (.istore_n 2, 1) := dk_61 (dk_at dksX6_nameOf_1 18 rfl rfl)
theorem dX6_nameOf_43 : decode cX6_nameOf 43 = .ok (.iinc 3 1, 3) := dk_132 3 1 (dk_at dksX6_nameOf_1 19 rfl rfl)
theorem dX6_nameOf_46 : decode cX6_nameOf 46 = .ok (.goto (-42), 3) := dk_167 255 214 (dk_at dksX6_nameOf_2 0 rfl rfl)
theorem dX6_nameOf_49 : decode cX6_nameOf 49 = .ok (.iload_n 2, 1) := dk_28 (dk_at dksX6_nameOf_2 3 rfl rfl)
theorem dX6_nameOf_50 : decode cX6_nameOf 50 = .ok (.ireturn, 1) := dk_172 (dk_at dksX6_nameOf_2 4 rfl rfl)
abbrev cX6_law : ByteArray := prog_30_method_24_code
def yX6_law : MethodName := ⟨RX6, "law", "(IIII)I"⟩
def dkwX6_law_1 : List UInt8 := [182, 0, 82, 172]
abbrev dktX6_law_1 : List UInt8 := dkwX6_law_1 ++ []
def dkwX6_law_0 : List UInt8 := [27, 3, 4, 184, 0, 77, 153, 0, 15, 42, 27, 28, 29, 21, 4, 182, 0, 161, 167, 0, 9, 42, 18, 81]
abbrev dktX6_law_0 : List UInt8 := dkwX6_law_0 ++ dktX6_law_1
theorem dksX6_law_0 : cX6_law.data.toList.drop 0 = dktX6_law_0 := by decide +kernel
theorem dksX6_law_1 : cX6_law.data.toList.drop 24 = dktX6_law_1 := dk_seg dksX6_law_0 24 rfl rfl
theorem dX6_law_0 : decode cX6_law 0 = .ok (.iload_n 1, 1) := dk_27 (dk_at dksX6_law_0 0 rfl rfl)
theorem dX6_law_1 : decode cX6_law 1 = .ok (.iconst 0, 1) := dk_3 (dk_at dksX6_law_0 1 rfl rfl)
theorem dX6_law_2 : decode cX6_law 2 = .ok (.iconst 1, 1) := dk_4 (dk_at dksX6_law_0 2 rfl rfl)
theorem dX6_law_3 : decode cX6_law 3 = .ok (.invokestatic 77, 3) := dk_184 0 77 (dk_at dksX6_law_0 3 rfl rfl)
theorem dX6_law_6 : decode cX6_law 6 = .ok (.ifCond .eq 15, 3) := dk_153 0 15 (dk_at dksX6_law_0 6 rfl rfl)
theorem dX6_law_9 : decode cX6_law 9 = .ok (.aload_n 0, 1) := dk_42 (dk_at dksX6_law_0 9 rfl rfl)
theorem dX6_law_10 : decode cX6_law 10 = .ok (.iload_n 1, 1) := dk_27 (dk_at dksX6_law_0 10 rfl rfl)
theorem dX6_law_11 : decode cX6_law 11 = .ok (.iload_n 2, 1) := dk_28 (dk_at dksX6_law_0 11 rfl rfl)
theorem dX6_law_12 : decode cX6_law 12 = .ok (.iload_n 3, 1) := dk_29 (dk_at dksX6_law_0 12 rfl rfl)
theorem dX6_law_13 : decode cX6_law 13 = .ok (.iload 4, 2) := dk_21 4 (dk_at dksX6_law_0 13 rfl rfl)
theorem dX6_law_15 : decode cX6_law 15 = .ok (.invokevirtual 161, 3) := dk_182 0 161 (dk_at dksX6_law_0 15 rfl rfl)
theorem dX6_law_18 : decode cX6_law 18 = .ok (.goto 9, 3) := dk_167 0 9 (dk_at dksX6_law_0 18 rfl rfl)
theorem dX6_law_21 : decode cX6_law 21 = .ok (.aload_n 0, 1) := dk_42 (dk_at dksX6_law_0 21 rfl rfl)
theorem dX6_law_22 : decode cX6_law 22 = .ok (.ldc 81, 2) := dk_18 81 (dk_at dksX6_law_0 22 rfl rfl)
theorem dX6_law_24 : decode cX6_law 24 = .ok (.invokevirtual 82, 3) := dk_182 0 82 (dk_at dksX6_law_1 0 rfl rfl)
theorem dX6_law_27 : decode cX6_law 27 = .ok (.ireturn, 1) := dk_172 (dk_at dksX6_law_1 3 rfl rfl)
abbrev cX6_given : ByteArray := prog_30_method_23_code
def yX6_given : MethodName := ⟨RX6, "given", "(IIII)I"⟩
def dkwX6_given_3 : List UInt8 := [167, 0, 4, 4, 184, 0, 158, 172]
abbrev dktX6_given_3 : List UInt8 := dkwX6_given_3 ++ []
def dkwX6_given_2 : List UInt8 := [16, 52, 27, 104, 96, 4, 96, 182, 0, 155, 167, 0, 5, 21, 5, 3, 27, 154, 0, 8, 16, 19]
abbrev dktX6_given_2 : List UInt8 := dkwX6_given_2 ++ dktX6_given_3
def dkwX6_given_1 : List UInt8 := [154, 0, 8, 21, 4, 167, 0, 4, 3, 54, 5, 42, 27, 182, 0, 152, 153, 0, 20, 42, 17, 0, 138]
abbrev dktX6_given_1 : List UInt8 := dkwX6_given_1 ++ dktX6_given_2
def dkwX6_given_0 : List UInt8 := [42, 180, 0, 38, 3, 28, 79, 42, 180, 0, 38, 4, 29, 79, 42, 180, 0, 38, 5, 21, 4, 79, 27]
abbrev dktX6_given_0 : List UInt8 := dkwX6_given_0 ++ dktX6_given_1
theorem dksX6_given_0 : cX6_given.data.toList.drop 0 = dktX6_given_0 := by decide +kernel
theorem dksX6_given_1 : cX6_given.data.toList.drop 23 = dktX6_given_1 := dk_seg dksX6_given_0 23 rfl rfl
theorem dksX6_given_2 : cX6_given.data.toList.drop 46 = dktX6_given_2 := dk_seg dksX6_given_1 23 rfl rfl
theorem dksX6_given_3 : cX6_given.data.toList.drop 68 = dktX6_given_3 := dk_seg dksX6_given_2 22 rfl rfl
theorem dX6_given_0 : decode cX6_given 0 = .ok (.aload_n 0, 1) := dk_42 (dk_at dksX6_given_0 0 rfl rfl)
theorem dX6_given_1 : decode cX6_given 1 = .ok (.getfield 38, 3) := dk_180 0 38 (dk_at dksX6_given_0 1 rfl rfl)
theorem dX6_given_4 : decode cX6_given 4 = .ok (.iconst 0, 1) := dk_3 (dk_at dksX6_given_0 4 rfl rfl)
theorem dX6_given_5 : decode cX6_given 5 = .ok (.iload_n 2, 1) := dk_28 (dk_at dksX6_given_0 5 rfl rfl)
theorem dX6_given_6 : decode cX6_given 6 = .ok (.iastore, 1) := dk_79 (dk_at dksX6_given_0 6 rfl rfl)
theorem dX6_given_7 : decode cX6_given 7 = .ok (.aload_n 0, 1) := dk_42 (dk_at dksX6_given_0 7 rfl rfl)
theorem dX6_given_8 : decode cX6_given 8 = .ok (.getfield 38, 3) := dk_180 0 38 (dk_at dksX6_given_0 8 rfl rfl)
theorem dX6_given_11 : decode cX6_given 11 = .ok (.iconst 1, 1) := dk_4 (dk_at dksX6_given_0 11 rfl rfl)
theorem dX6_given_12 : decode cX6_given 12 = .ok (.iload_n 3, 1) := dk_29 (dk_at dksX6_given_0 12 rfl rfl)
theorem dX6_given_13 : decode cX6_given 13 = .ok (.iastore, 1) := dk_79 (dk_at dksX6_given_0 13 rfl rfl)
theorem dX6_given_14 : decode cX6_given 14 = .ok (.aload_n 0, 1) := dk_42 (dk_at dksX6_given_0 14 rfl rfl)
theorem dX6_given_15 : decode cX6_given 15 = .ok (.getfield 38, 3) := dk_180 0 38 (dk_at dksX6_given_0 15 rfl rfl)
theorem dX6_given_18 : decode cX6_given 18 = .ok (.iconst 2, 1) := dk_5 (dk_at dksX6_given_0 18 rfl rfl)
theorem dX6_given_19 : decode cX6_given 19 = .ok (.iload 4, 2) := dk_21 4 (dk_at dksX6_given_0 19 rfl rfl)
theorem dX6_given_21 : decode cX6_given 21 = .ok (.iastore, 1) := dk_79 (dk_at dksX6_given_0 21 rfl rfl)
theorem dX6_given_22 : decode cX6_given 22 = .ok (.iload_n 1, 1) := dk_27 (dk_at dksX6_given_0 22 rfl rfl)
theorem dX6_given_23 : decode cX6_given 23 = .ok (.ifCond .ne 8, 3) := dk_154 0 8 (dk_at dksX6_given_1 0 rfl rfl)
theorem dX6_given_26 : decode cX6_given 26 = .ok (.iload 4, 2) := dk_21 4 (dk_at dksX6_given_1 3 rfl rfl)
theorem dX6_given_28 : decode cX6_given 28 = .ok (.goto 4, 3) := dk_167 0 4 (dk_at dksX6_given_1 5 rfl rfl)
theorem dX6_given_31 : decode cX6_given 31 = .ok (.iconst 0, 1) := dk_3 (dk_at dksX6_given_1 8 rfl rfl)
theorem dX6_given_32 : decode cX6_given 32 = .ok (.istore 5, 2) := dk_54 5 (dk_at dksX6_given_1 9 rfl rfl)
theorem dX6_given_34 : decode cX6_given 34 = .ok (.aload_n 0, 1) := dk_42 (dk_at dksX6_given_1 11 rfl rfl)
theorem dX6_given_35 : decode cX6_given 35 = .ok (.iload_n 1, 1) := dk_27 (dk_at dksX6_given_1 12 rfl rfl)
theorem dX6_given_36 : decode cX6_given 36 = .ok (.invokevirtual 152, 3) := dk_182 0 152 (dk_at dksX6_given_1 13 rfl rfl)
theorem dX6_given_39 : decode cX6_given 39 = .ok (.ifCond .eq 20, 3) := dk_153 0 20 (dk_at dksX6_given_1 16 rfl rfl)
theorem dX6_given_42 : decode cX6_given 42 = .ok (.aload_n 0, 1) := dk_42 (dk_at dksX6_given_1 19 rfl rfl)
theorem dX6_given_43 : decode cX6_given 43 = .ok (.sipush 138, 3) := dk_17 0 138 (dk_at dksX6_given_1 20 rfl rfl)
theorem dX6_given_46 : decode cX6_given 46 = .ok (.bipush 52, 2) := dk_16 52 (dk_at dksX6_given_2 0 rfl rfl)
theorem dX6_given_48 : decode cX6_given 48 = .ok (.iload_n 1, 1) := dk_27 (dk_at dksX6_given_2 2 rfl rfl)
theorem dX6_given_49 : decode cX6_given 49 = .ok (.imul, 1) := dk_104 (dk_at dksX6_given_2 3 rfl rfl)
theorem dX6_given_50 : decode cX6_given 50 = .ok (.iadd, 1) := dk_96 (dk_at dksX6_given_2 4 rfl rfl)
theorem dX6_given_51 : decode cX6_given 51 = .ok (.iconst 1, 1) := dk_4 (dk_at dksX6_given_2 5 rfl rfl)
theorem dX6_given_52 : decode cX6_given 52 = .ok (.iadd, 1) := dk_96 (dk_at dksX6_given_2 6 rfl rfl)
theorem dX6_given_53 : decode cX6_given 53 = .ok (.invokevirtual 155, 3) := dk_182 0 155 (dk_at dksX6_given_2 7 rfl rfl)
theorem dX6_given_56 : decode cX6_given 56 = .ok (.goto 5, 3) := dk_167 0 5 (dk_at dksX6_given_2 10 rfl rfl)
theorem dX6_given_59 : decode cX6_given 59 = .ok (.iload 5, 2) := dk_21 5 (dk_at dksX6_given_2 13 rfl rfl)
theorem dX6_given_61 : decode cX6_given 61 = .ok (.iconst 0, 1) := dk_3 (dk_at dksX6_given_2 15 rfl rfl)
theorem dX6_given_62 : decode cX6_given 62 = .ok (.iload_n 1, 1) := dk_27 (dk_at dksX6_given_2 16 rfl rfl)
theorem dX6_given_63 : decode cX6_given 63 = .ok (.ifCond .ne 8, 3) := dk_154 0 8 (dk_at dksX6_given_2 17 rfl rfl)
theorem dX6_given_66 : decode cX6_given 66 = .ok (.bipush 19, 2) := dk_16 19 (dk_at dksX6_given_2 20 rfl rfl)
theorem dX6_given_68 : decode cX6_given 68 = .ok (.goto 4, 3) := dk_167 0 4 (dk_at dksX6_given_3 0 rfl rfl)
theorem dX6_given_71 : decode cX6_given 71 = .ok (.iconst 1, 1) := dk_4 (dk_at dksX6_given_3 3 rfl rfl)
theorem dX6_given_72 : decode cX6_given 72 = .ok (.invokestatic 158, 3) := dk_184 0 158 (dk_at dksX6_given_3 4 rfl rfl)
theorem dX6_given_75 : decode cX6_given 75 = .ok (.ireturn, 1) := dk_172 (dk_at dksX6_given_3 7 rfl rfl)
abbrev cX6_hasText : ByteArray := prog_30_method_22_code
def yX6_hasText : MethodName := ⟨RX6, "hasText", "(I)Z"⟩
def dkwX6_hasText_0 : List UInt8 := [42, 180, 0, 9, 17, 0, 138, 16, 52, 27, 104, 96, 46, 158, 0, 7, 4, 167, 0, 4, 3, 172]
abbrev dktX6_hasText_0 : List UInt8 := dkwX6_hasText_0 ++ []
theorem dksX6_hasText_0 : cX6_hasText.data.toList.drop 0 = dktX6_hasText_0 := by decide +kernel
theorem dX6_hasText_0 : decode cX6_hasText 0 = .ok (.aload_n 0, 1) := dk_42 (dk_at dksX6_hasText_0 0 rfl rfl)
theorem dX6_hasText_1 : decode cX6_hasText 1 = .ok (.getfield 9, 3) := dk_180 0 9 (dk_at dksX6_hasText_0 1 rfl rfl)
theorem dX6_hasText_4 : decode cX6_hasText 4 = .ok (.sipush 138, 3) := dk_17 0 138 (dk_at dksX6_hasText_0 4 rfl rfl)
theorem dX6_hasText_7 : decode cX6_hasText 7 = .ok (.bipush 52, 2) := dk_16 52 (dk_at dksX6_hasText_0 7 rfl rfl)
theorem dX6_hasText_9 : decode cX6_hasText 9 = .ok (.iload_n 1, 1) := dk_27 (dk_at dksX6_hasText_0 9 rfl rfl)
theorem dX6_hasText_10 : decode cX6_hasText 10 = .ok (.imul, 1) := dk_104 (dk_at dksX6_hasText_0 10 rfl rfl)
theorem dX6_hasText_11 : decode cX6_hasText 11 = .ok (.iadd, 1) := dk_96 (dk_at dksX6_hasText_0 11 rfl rfl)
theorem dX6_hasText_12 : decode cX6_hasText 12 = .ok (.iaload, 1) := dk_46 (dk_at dksX6_hasText_0 12 rfl rfl)
theorem dX6_hasText_13 : decode cX6_hasText 13 = .ok (.ifCond .le 7, 3) := dk_158 0 7 (dk_at dksX6_hasText_0 13 rfl rfl)
theorem dX6_hasText_16 : decode cX6_hasText 16 = .ok (.iconst 1, 1) := dk_4 (dk_at dksX6_hasText_0 16 rfl rfl)
theorem dX6_hasText_17 : decode cX6_hasText 17 = .ok (.goto 4, 3) := dk_167 0 4 (dk_at dksX6_hasText_0 17 rfl rfl)
theorem dX6_hasText_20 : decode cX6_hasText 20 = .ok (.iconst 0, 1) := dk_3 (dk_at dksX6_hasText_0 20 rfl rfl)
theorem dX6_hasText_21 : decode cX6_hasText 21 = .ok (.ireturn, 1) := dk_172 (dk_at dksX6_hasText_0 21 rfl rfl)
abbrev cX6_worked : ByteArray := prog_30_method_21_code
def yX6_worked : MethodName := ⟨RX6, "worked", "(I)I"⟩
def dkwX6_worked_6 : List UInt8 := [42, 180, 0, 41, 3, 46, 172]
abbrev dktX6_worked_6 : List UInt8 := dkwX6_worked_6 ++ []
def dkwX6_worked_5 : List UInt8 := [42, 180, 0, 41, 28, 4, 100, 46, 42, 180, 0, 41, 28, 46, 184, 0, 148, 79, 132, 3, 1, 167, 255, 122]
abbrev dktX6_worked_5 : List UInt8 := dkwX6_worked_5 ++ dktX6_worked_6
def dkwX6_worked_4 : List UInt8 := [154, 0, 7, 4, 167, 0, 4, 3, 79, 167, 0, 33, 132, 2, 255, 42, 180, 0, 41, 28, 4, 100, 21, 4]
abbrev dktX6_worked_4 : List UInt8 := dkwX6_worked_4 ++ dktX6_worked_5
def dkwX6_worked_3 : List UInt8 := [21, 4, 17, 78, 42, 160, 0, 30, 42, 180, 0, 41, 28, 4, 100, 42, 180, 0, 41, 28, 4, 100, 46]
abbrev dktX6_worked_3 : List UInt8 := dkwX6_worked_3 ++ dktX6_worked_4
def dkwX6_worked_2 : List UInt8 := [21, 4, 167, 0, 14, 42, 180, 0, 38, 21, 4, 17, 39, 16, 100, 46, 79, 132, 2, 1, 167, 0, 68]
abbrev dktX6_worked_2 : List UInt8 := dkwX6_worked_2 ++ dktX6_worked_3
def dkwX6_worked_1 : List UInt8 := [54, 4, 21, 4, 17, 78, 32, 162, 0, 39, 42, 180, 0, 41, 28, 21, 4, 17, 39, 16, 162, 0, 8]
abbrev dktX6_worked_1 : List UInt8 := dkwX6_worked_1 ++ dktX6_worked_2
def dkwX6_worked_0 : List UInt8 := [3, 61, 27, 62, 29, 27, 42, 180, 0, 9, 27, 4, 100, 46, 96, 162, 0, 126, 42, 180, 0, 9, 29, 46]
abbrev dktX6_worked_0 : List UInt8 := dkwX6_worked_0 ++ dktX6_worked_1
theorem dksX6_worked_0 : cX6_worked.data.toList.drop 0 = dktX6_worked_0 := by decide +kernel
theorem dksX6_worked_1 : cX6_worked.data.toList.drop 24 = dktX6_worked_1 := dk_seg dksX6_worked_0 24 rfl rfl
theorem dksX6_worked_2 : cX6_worked.data.toList.drop 47 = dktX6_worked_2 := dk_seg dksX6_worked_1 23 rfl rfl
theorem dksX6_worked_3 : cX6_worked.data.toList.drop 70 = dktX6_worked_3 := dk_seg dksX6_worked_2 23 rfl rfl
theorem dksX6_worked_4 : cX6_worked.data.toList.drop 93 = dktX6_worked_4 := dk_seg dksX6_worked_3 23 rfl rfl
theorem dksX6_worked_5 : cX6_worked.data.toList.drop 117 = dktX6_worked_5 := dk_seg dksX6_worked_4 24 rfl rfl
theorem dksX6_worked_6 : cX6_worked.data.toList.drop 141 = dktX6_worked_6 := dk_seg dksX6_worked_5 24 rfl rfl
theorem dX6_worked_0 : decode cX6_worked 0 = .ok (.iconst 0, 1) := dk_3 (dk_at dksX6_worked_0 0 rfl rfl)
theorem dX6_worked_1 : decode cX6_worked 1 = .ok (.istore_n 2, 1) := dk_61 (dk_at dksX6_worked_0 1 rfl rfl)
theorem dX6_worked_2 : decode cX6_worked 2 = .ok (.iload_n 1, 1) := dk_27 (dk_at dksX6_worked_0 2 rfl rfl)
theorem dX6_worked_3 : decode cX6_worked 3 = .ok (.istore_n 3, 1) := dk_62 (dk_at dksX6_worked_0 3 rfl rfl)
theorem dX6_worked_4 : decode cX6_worked 4 = .ok (.iload_n 3, 1) := dk_29 (dk_at dksX6_worked_0 4 rfl rfl)
theorem dX6_worked_5 : decode cX6_worked 5 = .ok (.iload_n 1, 1) := dk_27 (dk_at dksX6_worked_0 5 rfl rfl)
theorem dX6_worked_6 : decode cX6_worked 6 = .ok (.aload_n 0, 1) := dk_42 (dk_at dksX6_worked_0 6 rfl rfl)
theorem dX6_worked_7 : decode cX6_worked 7 = .ok (.getfield 9, 3) := dk_180 0 9 (dk_at dksX6_worked_0 7 rfl rfl)
theorem dX6_worked_10 : decode cX6_worked 10 = .ok (.iload_n 1, 1) := dk_27 (dk_at dksX6_worked_0 10 rfl rfl)
theorem dX6_worked_11 : decode cX6_worked 11 = .ok (.iconst 1, 1) := dk_4 (dk_at dksX6_worked_0 11 rfl rfl)
theorem dX6_worked_12 : decode cX6_worked 12 = .ok (.isub, 1) := dk_100 (dk_at dksX6_worked_0 12 rfl rfl)
theorem dX6_worked_13 : decode cX6_worked 13 = .ok (.iaload, 1) := dk_46 (dk_at dksX6_worked_0 13 rfl rfl)
theorem dX6_worked_14 : decode cX6_worked 14 = .ok (.iadd, 1) := dk_96 (dk_at dksX6_worked_0 14 rfl rfl)
theorem dX6_worked_15 : decode cX6_worked 15 = .ok (.if_icmp .ge 126, 3) := dk_162 0 126 (dk_at dksX6_worked_0 15 rfl rfl)
theorem dX6_worked_18 : decode cX6_worked 18 = .ok (.aload_n 0, 1) := dk_42 (dk_at dksX6_worked_0 18 rfl rfl)
theorem dX6_worked_19 : decode cX6_worked 19 = .ok (.getfield 9, 3) := dk_180 0 9 (dk_at dksX6_worked_0 19 rfl rfl)
theorem dX6_worked_22 : decode cX6_worked 22 = .ok (.iload_n 3, 1) := dk_29 (dk_at dksX6_worked_0 22 rfl rfl)
theorem dX6_worked_23 : decode cX6_worked 23 = .ok (.iaload, 1) := dk_46 (dk_at dksX6_worked_0 23 rfl rfl)
theorem dX6_worked_24 : decode cX6_worked 24 = .ok (.istore 4, 2) := dk_54 4 (dk_at dksX6_worked_1 0 rfl rfl)
theorem dX6_worked_26 : decode cX6_worked 26 = .ok (.iload 4, 2) := dk_21 4 (dk_at dksX6_worked_1 2 rfl rfl)
theorem dX6_worked_28 : decode cX6_worked 28 = .ok (.sipush 20000, 3) := dk_17 78 32 (dk_at dksX6_worked_1 4 rfl rfl)
theorem dX6_worked_31 : decode cX6_worked 31 = .ok (.if_icmp .ge 39, 3) := dk_162 0 39 (dk_at dksX6_worked_1 7 rfl rfl)
theorem dX6_worked_34 : decode cX6_worked 34 = .ok (.aload_n 0, 1) := dk_42 (dk_at dksX6_worked_1 10 rfl rfl)
theorem dX6_worked_35 : decode cX6_worked 35 = .ok (.getfield 41, 3) := dk_180 0 41 (dk_at dksX6_worked_1 11 rfl rfl)
theorem dX6_worked_38 : decode cX6_worked 38 = .ok (.iload_n 2, 1) := dk_28 (dk_at dksX6_worked_1 14 rfl rfl)
theorem dX6_worked_39 : decode cX6_worked 39 = .ok (.iload 4, 2) := dk_21 4 (dk_at dksX6_worked_1 15 rfl rfl)
theorem dX6_worked_41 : decode cX6_worked 41 = .ok (.sipush 10000, 3) := dk_17 39 16 (dk_at dksX6_worked_1 17 rfl rfl)
theorem dX6_worked_44 : decode cX6_worked 44 = .ok (.if_icmp .ge 8, 3) := dk_162 0 8 (dk_at dksX6_worked_1 20 rfl rfl)
theorem dX6_worked_47 : decode cX6_worked 47 = .ok (.iload 4, 2) := dk_21 4 (dk_at dksX6_worked_2 0 rfl rfl)
theorem dX6_worked_49 : decode cX6_worked 49 = .ok (.goto 14, 3) := dk_167 0 14 (dk_at dksX6_worked_2 2 rfl rfl)
theorem dX6_worked_52 : decode cX6_worked 52 = .ok (.aload_n 0, 1) := dk_42 (dk_at dksX6_worked_2 5 rfl rfl)
theorem dX6_worked_53 : decode cX6_worked 53 = .ok (.getfield 38, 3) := dk_180 0 38 (dk_at dksX6_worked_2 6 rfl rfl)
theorem dX6_worked_56 : decode cX6_worked 56 = .ok (.iload 4, 2) := dk_21 4 (dk_at dksX6_worked_2 9 rfl rfl)
theorem dX6_worked_58 : decode cX6_worked 58 = .ok (.sipush 10000, 3) := dk_17 39 16 (dk_at dksX6_worked_2 11 rfl rfl)
theorem dX6_worked_61 : decode cX6_worked 61 = .ok (.isub, 1) := dk_100 (dk_at dksX6_worked_2 14 rfl rfl)
theorem dX6_worked_62 : decode cX6_worked 62 = .ok (.iaload, 1) := dk_46 (dk_at dksX6_worked_2 15 rfl rfl)
theorem dX6_worked_63 : decode cX6_worked 63 = .ok (.iastore, 1) := dk_79 (dk_at dksX6_worked_2 16 rfl rfl)
theorem dX6_worked_64 : decode cX6_worked 64 = .ok (.iinc 2 1, 3) := dk_132 2 1 (dk_at dksX6_worked_2 17 rfl rfl)
theorem dX6_worked_67 : decode cX6_worked 67 = .ok (.goto 68, 3) := dk_167 0 68 (dk_at dksX6_worked_2 20 rfl rfl)
theorem dX6_worked_70 : decode cX6_worked 70 = .ok (.iload 4, 2) := dk_21 4 (dk_at dksX6_worked_3 0 rfl rfl)
theorem dX6_worked_72 : decode cX6_worked 72 = .ok (.sipush 20010, 3) := dk_17 78 42 (dk_at dksX6_worked_3 2 rfl rfl)
theorem dX6_worked_75 : decode cX6_worked 75 = .ok (.if_icmp .ne 30, 3) := dk_160 0 30 (dk_at dksX6_worked_3 5 rfl rfl)
theorem dX6_worked_78 : decode cX6_worked 78 = .ok (.aload_n 0, 1) := dk_42 (dk_at dksX6_worked_3 8 rfl rfl)
theorem dX6_worked_79 : decode cX6_worked 79 = .ok (.getfield 41, 3) := dk_180 0 41 (dk_at dksX6_worked_3 9 rfl rfl)
theorem dX6_worked_82 : decode cX6_worked 82 = .ok (.iload_n 2, 1) := dk_28 (dk_at dksX6_worked_3 12 rfl rfl)
theorem dX6_worked_83 : decode cX6_worked 83 = .ok (.iconst 1, 1) := dk_4 (dk_at dksX6_worked_3 13 rfl rfl)
theorem dX6_worked_84 : decode cX6_worked 84 = .ok (.isub, 1) := dk_100 (dk_at dksX6_worked_3 14 rfl rfl)
theorem dX6_worked_85 : decode cX6_worked 85 = .ok (.aload_n 0, 1) := dk_42 (dk_at dksX6_worked_3 15 rfl rfl)
theorem dX6_worked_86 : decode cX6_worked 86 = .ok (.getfield 41, 3) := dk_180 0 41 (dk_at dksX6_worked_3 16 rfl rfl)
theorem dX6_worked_89 : decode cX6_worked 89 = .ok (.iload_n 2, 1) := dk_28 (dk_at dksX6_worked_3 19 rfl rfl)
theorem dX6_worked_90 : decode cX6_worked 90 = .ok (.iconst 1, 1) := dk_4 (dk_at dksX6_worked_3 20 rfl rfl)
theorem dX6_worked_91 : decode cX6_worked 91 = .ok (.isub, 1) := dk_100 (dk_at dksX6_worked_3 21 rfl rfl)
theorem dX6_worked_92 : decode cX6_worked 92 = .ok (.iaload, 1) := dk_46 (dk_at dksX6_worked_3 22 rfl rfl)
theorem dX6_worked_93 : decode cX6_worked 93 = .ok (.ifCond .ne 7, 3) := dk_154 0 7 (dk_at dksX6_worked_4 0 rfl rfl)
theorem dX6_worked_96 : decode cX6_worked 96 = .ok (.iconst 1, 1) := dk_4 (dk_at dksX6_worked_4 3 rfl rfl)
theorem dX6_worked_97 : decode cX6_worked 97 = .ok (.goto 4, 3) := dk_167 0 4 (dk_at dksX6_worked_4 4 rfl rfl)
theorem dX6_worked_100 : decode cX6_worked 100 = .ok (.iconst 0, 1) := dk_3 (dk_at dksX6_worked_4 7 rfl rfl)
theorem dX6_worked_101 : decode cX6_worked 101 = .ok (.iastore, 1) := dk_79 (dk_at dksX6_worked_4 8 rfl rfl)
theorem dX6_worked_102 : decode cX6_worked 102 = .ok (.goto 33, 3) := dk_167 0 33 (dk_at dksX6_worked_4 9 rfl rfl)
theorem dX6_worked_105 : decode cX6_worked 105 = .ok (.iinc 2 (-1), 3) := dk_132 2 255 (dk_at dksX6_worked_4 12 rfl rfl)
theorem dX6_worked_108 : decode cX6_worked 108 = .ok (.aload_n 0, 1) := dk_42 (dk_at dksX6_worked_4 15 rfl rfl)
theorem dX6_worked_109 : decode cX6_worked 109 = .ok (.getfield 41, 3) := dk_180 0 41 (dk_at dksX6_worked_4 16 rfl rfl)
theorem dX6_worked_112 : decode cX6_worked 112 = .ok (.iload_n 2, 1) := dk_28 (dk_at dksX6_worked_4 19 rfl rfl)
theorem dX6_worked_113 : decode cX6_worked 113 = .ok (.iconst 1, 1) := dk_4 (dk_at dksX6_worked_4 20 rfl rfl)
theorem dX6_worked_114 : decode cX6_worked 114 = .ok (.isub, 1) := dk_100 (dk_at dksX6_worked_4 21 rfl rfl)
theorem dX6_worked_115 : decode cX6_worked 115 = .ok (.iload 4, 2) := dk_21 4 (dk_at dksX6_worked_4 22 rfl rfl)
theorem dX6_worked_117 : decode cX6_worked 117 = .ok (.aload_n 0, 1) := dk_42 (dk_at dksX6_worked_5 0 rfl rfl)
theorem dX6_worked_118 : decode cX6_worked 118 = .ok (.getfield 41, 3) := dk_180 0 41 (dk_at dksX6_worked_5 1 rfl rfl)
theorem dX6_worked_121 : decode cX6_worked 121 = .ok (.iload_n 2, 1) := dk_28 (dk_at dksX6_worked_5 4 rfl rfl)
theorem dX6_worked_122 : decode cX6_worked 122 = .ok (.iconst 1, 1) := dk_4 (dk_at dksX6_worked_5 5 rfl rfl)
theorem dX6_worked_123 : decode cX6_worked 123 = .ok (.isub, 1) := dk_100 (dk_at dksX6_worked_5 6 rfl rfl)
theorem dX6_worked_124 : decode cX6_worked 124 = .ok (.iaload, 1) := dk_46 (dk_at dksX6_worked_5 7 rfl rfl)
theorem dX6_worked_125 : decode cX6_worked 125 = .ok (.aload_n 0, 1) := dk_42 (dk_at dksX6_worked_5 8 rfl rfl)
theorem dX6_worked_126 : decode cX6_worked 126 = .ok (.getfield 41, 3) := dk_180 0 41 (dk_at dksX6_worked_5 9 rfl rfl)
theorem dX6_worked_129 : decode cX6_worked 129 = .ok (.iload_n 2, 1) := dk_28 (dk_at dksX6_worked_5 12 rfl rfl)
theorem dX6_worked_130 : decode cX6_worked 130 = .ok (.iaload, 1) := dk_46 (dk_at dksX6_worked_5 13 rfl rfl)
theorem dX6_worked_131 : decode cX6_worked 131 = .ok (.invokestatic 148, 3) := dk_184 0 148 (dk_at dksX6_worked_5 14 rfl rfl)
theorem dX6_worked_134 : decode cX6_worked 134 = .ok (.iastore, 1) := dk_79 (dk_at dksX6_worked_5 17 rfl rfl)
theorem dX6_worked_135 : decode cX6_worked 135 = .ok (.iinc 3 1, 3) := dk_132 3 1 (dk_at dksX6_worked_5 18 rfl rfl)
theorem dX6_worked_138 : decode cX6_worked 138 = .ok (.goto (-134), 3) := dk_167 255 122 (dk_at dksX6_worked_5 21 rfl rfl)
theorem dX6_worked_141 : decode cX6_worked 141 = .ok (.aload_n 0, 1) := dk_42 (dk_at dksX6_worked_6 0 rfl rfl)
theorem dX6_worked_142 : decode cX6_worked 142 = .ok (.getfield 41, 3) := dk_180 0 41 (dk_at dksX6_worked_6 1 rfl rfl)
theorem dX6_worked_145 : decode cX6_worked 145 = .ok (.iconst 0, 1) := dk_3 (dk_at dksX6_worked_6 4 rfl rfl)
theorem dX6_worked_146 : decode cX6_worked 146 = .ok (.iaload, 1) := dk_46 (dk_at dksX6_worked_6 5 rfl rfl)
theorem dX6_worked_147 : decode cX6_worked 147 = .ok (.ireturn, 1) := dk_172 (dk_at dksX6_worked_6 6 rfl rfl)
abbrev cX6_done : ByteArray := prog_30_method_20_code
def yX6_done : MethodName := ⟨RX6, "done", "(III)I"⟩
def dkwX6_done_6 : List UInt8 := [27, 28, 112, 172]
abbrev dktX6_done_6 : List UInt8 := dkwX6_done_6 ++ []
def dkwX6_done_5 : List UInt8 := [27, 28, 104, 172, 28, 154, 0, 7, 3, 167, 0, 6, 27, 28, 108, 172, 28, 154, 0, 7, 3, 167, 0, 6]
abbrev dktX6_done_5 : List UInt8 := dkwX6_done_5 ++ dktX6_done_6
def dkwX6_done_4 : List UInt8 := [167, 0, 4, 3, 172, 27, 28, 164, 0, 7, 4, 167, 0, 4, 3, 172, 27, 28, 96, 172, 27, 28, 100, 172]
abbrev dktX6_done_4 : List UInt8 := dkwX6_done_4 ++ dktX6_done_5
def dkwX6_done_3 : List UInt8 := [167, 0, 4, 3, 172, 27, 28, 162, 0, 7, 4, 167, 0, 4, 3, 172, 27, 28, 160, 0, 7, 4]
abbrev dktX6_done_3 : List UInt8 := dkwX6_done_3 ++ dktX6_done_4
def dkwX6_done_2 : List UInt8 := [27, 154, 0, 7, 28, 153, 0, 7, 4, 167, 0, 4, 3, 172, 27, 153, 0, 11, 28, 153, 0, 7, 4]
abbrev dktX6_done_2 : List UInt8 := dkwX6_done_2 ++ dktX6_done_3
def dkwX6_done_1 : List UInt8 := [170, 0, 0, 0, 0, 0, 136, 0, 0, 78, 32, 0, 0, 78, 40, 0, 0, 0, 51, 0, 0, 0, 65, 0, 0, 0, 79, 0, 0, 0, 90, 0, 0, 0, 101, 0, 0, 0, 112, 0, 0, 0, 116, 0, 0, 0, 120, 0, 0, 0, 124]
abbrev dktX6_done_1 : List UInt8 := dkwX6_done_1 ++ dktX6_done_2
def dkwX6_done_0 : List UInt8 := [26]
abbrev dktX6_done_0 : List UInt8 := dkwX6_done_0 ++ dktX6_done_1
theorem dksX6_done_0 : cX6_done.data.toList.drop 0 = dktX6_done_0 := by decide +kernel
theorem dksX6_done_1 : cX6_done.data.toList.drop 1 = dktX6_done_1 := dk_seg dksX6_done_0 1 rfl rfl
theorem dksX6_done_2 : cX6_done.data.toList.drop 52 = dktX6_done_2 := dk_seg dksX6_done_1 51 rfl rfl
theorem dksX6_done_3 : cX6_done.data.toList.drop 75 = dktX6_done_3 := dk_seg dksX6_done_2 23 rfl rfl
theorem dksX6_done_4 : cX6_done.data.toList.drop 97 = dktX6_done_4 := dk_seg dksX6_done_3 22 rfl rfl
theorem dksX6_done_5 : cX6_done.data.toList.drop 121 = dktX6_done_5 := dk_seg dksX6_done_4 24 rfl rfl
theorem dksX6_done_6 : cX6_done.data.toList.drop 145 = dktX6_done_6 := dk_seg dksX6_done_5 24 rfl rfl
theorem dX6_done_0 : decode cX6_done 0 = .ok (.iload_n 0, 1) := dk_26 (dk_at dksX6_done_0 0 rfl rfl)
theorem dX6_done_1 : decode cX6_done 1 = .ok (.tableswitch 136 20000 20008 #[51, 65, 79, 90, 101, 112, 116, 120, 124], 51) := by decide +kernel
theorem dX6_done_52 : decode cX6_done 52 = .ok (.iload_n 1, 1) := dk_27 (dk_at dksX6_done_2 0 rfl rfl)
theorem dX6_done_53 : decode cX6_done 53 = .ok (.ifCond .ne 7, 3) := dk_154 0 7 (dk_at dksX6_done_2 1 rfl rfl)
theorem dX6_done_56 : decode cX6_done 56 = .ok (.iload_n 2, 1) := dk_28 (dk_at dksX6_done_2 4 rfl rfl)
theorem dX6_done_57 : decode cX6_done 57 = .ok (.ifCond .eq 7, 3) := dk_153 0 7 (dk_at dksX6_done_2 5 rfl rfl)
theorem dX6_done_60 : decode cX6_done 60 = .ok (.iconst 1, 1) := dk_4 (dk_at dksX6_done_2 8 rfl rfl)
theorem dX6_done_61 : decode cX6_done 61 = .ok (.goto 4, 3) := dk_167 0 4 (dk_at dksX6_done_2 9 rfl rfl)
theorem dX6_done_64 : decode cX6_done 64 = .ok (.iconst 0, 1) := dk_3 (dk_at dksX6_done_2 12 rfl rfl)
theorem dX6_done_65 : decode cX6_done 65 = .ok (.ireturn, 1) := dk_172 (dk_at dksX6_done_2 13 rfl rfl)
theorem dX6_done_66 : decode cX6_done 66 = .ok (.iload_n 1, 1) := dk_27 (dk_at dksX6_done_2 14 rfl rfl)
theorem dX6_done_67 : decode cX6_done 67 = .ok (.ifCond .eq 11, 3) := dk_153 0 11 (dk_at dksX6_done_2 15 rfl rfl)
theorem dX6_done_70 : decode cX6_done 70 = .ok (.iload_n 2, 1) := dk_28 (dk_at dksX6_done_2 18 rfl rfl)
theorem dX6_done_71 : decode cX6_done 71 = .ok (.ifCond .eq 7, 3) := dk_153 0 7 (dk_at dksX6_done_2 19 rfl rfl)
theorem dX6_done_74 : decode cX6_done 74 = .ok (.iconst 1, 1) := dk_4 (dk_at dksX6_done_2 22 rfl rfl)
theorem dX6_done_75 : decode cX6_done 75 = .ok (.goto 4, 3) := dk_167 0 4 (dk_at dksX6_done_3 0 rfl rfl)
theorem dX6_done_78 : decode cX6_done 78 = .ok (.iconst 0, 1) := dk_3 (dk_at dksX6_done_3 3 rfl rfl)
theorem dX6_done_79 : decode cX6_done 79 = .ok (.ireturn, 1) := dk_172 (dk_at dksX6_done_3 4 rfl rfl)
theorem dX6_done_80 : decode cX6_done 80 = .ok (.iload_n 1, 1) := dk_27 (dk_at dksX6_done_3 5 rfl rfl)
theorem dX6_done_81 : decode cX6_done 81 = .ok (.iload_n 2, 1) := dk_28 (dk_at dksX6_done_3 6 rfl rfl)
theorem dX6_done_82 : decode cX6_done 82 = .ok (.if_icmp .ge 7, 3) := dk_162 0 7 (dk_at dksX6_done_3 7 rfl rfl)
theorem dX6_done_85 : decode cX6_done 85 = .ok (.iconst 1, 1) := dk_4 (dk_at dksX6_done_3 10 rfl rfl)
theorem dX6_done_86 : decode cX6_done 86 = .ok (.goto 4, 3) := dk_167 0 4 (dk_at dksX6_done_3 11 rfl rfl)
theorem dX6_done_89 : decode cX6_done 89 = .ok (.iconst 0, 1) := dk_3 (dk_at dksX6_done_3 14 rfl rfl)
theorem dX6_done_90 : decode cX6_done 90 = .ok (.ireturn, 1) := dk_172 (dk_at dksX6_done_3 15 rfl rfl)
theorem dX6_done_91 : decode cX6_done 91 = .ok (.iload_n 1, 1) := dk_27 (dk_at dksX6_done_3 16 rfl rfl)
theorem dX6_done_92 : decode cX6_done 92 = .ok (.iload_n 2, 1) := dk_28 (dk_at dksX6_done_3 17 rfl rfl)
theorem dX6_done_93 : decode cX6_done 93 = .ok (.if_icmp .ne 7, 3) := dk_160 0 7 (dk_at dksX6_done_3 18 rfl rfl)
theorem dX6_done_96 : decode cX6_done 96 = .ok (.iconst 1, 1) := dk_4 (dk_at dksX6_done_3 21 rfl rfl)
theorem dX6_done_97 : decode cX6_done 97 = .ok (.goto 4, 3) := dk_167 0 4 (dk_at dksX6_done_4 0 rfl rfl)
theorem dX6_done_100 : decode cX6_done 100 = .ok (.iconst 0, 1) := dk_3 (dk_at dksX6_done_4 3 rfl rfl)
theorem dX6_done_101 : decode cX6_done 101 = .ok (.ireturn, 1) := dk_172 (dk_at dksX6_done_4 4 rfl rfl)
theorem dX6_done_102 : decode cX6_done 102 = .ok (.iload_n 1, 1) := dk_27 (dk_at dksX6_done_4 5 rfl rfl)
theorem dX6_done_103 : decode cX6_done 103 = .ok (.iload_n 2, 1) := dk_28 (dk_at dksX6_done_4 6 rfl rfl)
theorem dX6_done_104 : decode cX6_done 104 = .ok (.if_icmp .le 7, 3) := dk_164 0 7 (dk_at dksX6_done_4 7 rfl rfl)
theorem dX6_done_107 : decode cX6_done 107 = .ok (.iconst 1, 1) := dk_4 (dk_at dksX6_done_4 10 rfl rfl)
theorem dX6_done_108 : decode cX6_done 108 = .ok (.goto 4, 3) := dk_167 0 4 (dk_at dksX6_done_4 11 rfl rfl)
theorem dX6_done_111 : decode cX6_done 111 = .ok (.iconst 0, 1) := dk_3 (dk_at dksX6_done_4 14 rfl rfl)
theorem dX6_done_112 : decode cX6_done 112 = .ok (.ireturn, 1) := dk_172 (dk_at dksX6_done_4 15 rfl rfl)
theorem dX6_done_113 : decode cX6_done 113 = .ok (.iload_n 1, 1) := dk_27 (dk_at dksX6_done_4 16 rfl rfl)
theorem dX6_done_114 : decode cX6_done 114 = .ok (.iload_n 2, 1) := dk_28 (dk_at dksX6_done_4 17 rfl rfl)
theorem dX6_done_115 : decode cX6_done 115 = .ok (.iadd, 1) := dk_96 (dk_at dksX6_done_4 18 rfl rfl)
theorem dX6_done_116 : decode cX6_done 116 = .ok (.ireturn, 1) := dk_172 (dk_at dksX6_done_4 19 rfl rfl)
theorem dX6_done_117 : decode cX6_done 117 = .ok (.iload_n 1, 1) := dk_27 (dk_at dksX6_done_4 20 rfl rfl)
theorem dX6_done_118 : decode cX6_done 118 = .ok (.iload_n 2, 1) := dk_28 (dk_at dksX6_done_4 21 rfl rfl)
theorem dX6_done_119 : decode cX6_done 119 = .ok (.isub, 1) := dk_100 (dk_at dksX6_done_4 22 rfl rfl)
theorem dX6_done_120 : decode cX6_done 120 = .ok (.ireturn, 1) := dk_172 (dk_at dksX6_done_4 23 rfl rfl)
theorem dX6_done_121 : decode cX6_done 121 = .ok (.iload_n 1, 1) := dk_27 (dk_at dksX6_done_5 0 rfl rfl)
theorem dX6_done_122 : decode cX6_done 122 = .ok (.iload_n 2, 1) := dk_28 (dk_at dksX6_done_5 1 rfl rfl)
theorem dX6_done_123 : decode cX6_done 123 = .ok (.imul, 1) := dk_104 (dk_at dksX6_done_5 2 rfl rfl)
theorem dX6_done_124 : decode cX6_done 124 = .ok (.ireturn, 1) := dk_172 (dk_at dksX6_done_5 3 rfl rfl)
theorem dX6_done_125 : decode cX6_done 125 = .ok (.iload_n 2, 1) := dk_28 (dk_at dksX6_done_5 4 rfl rfl)
theorem dX6_done_126 : decode cX6_done 126 = .ok (.ifCond .ne 7, 3) := dk_154 0 7 (dk_at dksX6_done_5 5 rfl rfl)
theorem dX6_done_129 : decode cX6_done 129 = .ok (.iconst 0, 1) := dk_3 (dk_at dksX6_done_5 8 rfl rfl)
theorem dX6_done_130 : decode cX6_done 130 = .ok (.goto 6, 3) := dk_167 0 6 (dk_at dksX6_done_5 9 rfl rfl)
theorem dX6_done_133 : decode cX6_done 133 = .ok (.iload_n 1, 1) := dk_27 (dk_at dksX6_done_5 12 rfl rfl)
theorem dX6_done_134 : decode cX6_done 134 = .ok (.iload_n 2, 1) := dk_28 (dk_at dksX6_done_5 13 rfl rfl)
theorem dX6_done_135 : decode cX6_done 135 = .ok (.idiv, 1) := dk_108 (dk_at dksX6_done_5 14 rfl rfl)
theorem dX6_done_136 : decode cX6_done 136 = .ok (.ireturn, 1) := dk_172 (dk_at dksX6_done_5 15 rfl rfl)
theorem dX6_done_137 : decode cX6_done 137 = .ok (.iload_n 2, 1) := dk_28 (dk_at dksX6_done_5 16 rfl rfl)
theorem dX6_done_138 : decode cX6_done 138 = .ok (.ifCond .ne 7, 3) := dk_154 0 7 (dk_at dksX6_done_5 17 rfl rfl)
theorem dX6_done_141 : decode cX6_done 141 = .ok (.iconst 0, 1) := dk_3 (dk_at dksX6_done_5 20 rfl rfl)
theorem dX6_done_142 : decode cX6_done 142 = .ok (.goto 6, 3) := dk_167 0 6 (dk_at dksX6_done_5 21 rfl rfl)
theorem dX6_done_145 : decode cX6_done 145 = .ok (.iload_n 1, 1) := dk_27 (dk_at dksX6_done_6 0 rfl rfl)
theorem dX6_done_146 : decode cX6_done 146 = .ok (.iload_n 2, 1) := dk_28 (dk_at dksX6_done_6 1 rfl rfl)
theorem dX6_done_147 : decode cX6_done 147 = .ok (.irem, 1) := dk_112 (dk_at dksX6_done_6 2 rfl rfl)
theorem dX6_done_148 : decode cX6_done 148 = .ok (.ireturn, 1) := dk_172 (dk_at dksX6_done_6 3 rfl rfl)
abbrev cX6_held : ByteArray := prog_30_method_4_code
def yX6_held : MethodName := ⟨RX6, "held", "(III)I"⟩
def dkwX6_held_0 : List UInt8 := [27, 28, 26, 184, 0, 64, 184, 0, 70, 172]
abbrev dktX6_held_0 : List UInt8 := dkwX6_held_0 ++ []
theorem dksX6_held_0 : cX6_held.data.toList.drop 0 = dktX6_held_0 := by decide +kernel
theorem dX6_held_0 : decode cX6_held 0 = .ok (.iload_n 1, 1) := dk_27 (dk_at dksX6_held_0 0 rfl rfl)
theorem dX6_held_1 : decode cX6_held 1 = .ok (.iload_n 2, 1) := dk_28 (dk_at dksX6_held_0 1 rfl rfl)
theorem dX6_held_2 : decode cX6_held 2 = .ok (.iload_n 0, 1) := dk_26 (dk_at dksX6_held_0 2 rfl rfl)
theorem dX6_held_3 : decode cX6_held 3 = .ok (.invokestatic 64, 3) := dk_184 0 64 (dk_at dksX6_held_0 3 rfl rfl)
theorem dX6_held_6 : decode cX6_held 6 = .ok (.invokestatic 70, 3) := dk_184 0 70 (dk_at dksX6_held_0 6 rfl rfl)
theorem dX6_held_9 : decode cX6_held 9 = .ok (.ireturn, 1) := dk_172 (dk_at dksX6_held_0 9 rfl rfl)
abbrev cX6_bay : ByteArray := prog_30_method_37_code
def yX6_bay : MethodName := ⟨RX6, "bay", "(I)I"⟩
def dkwX6_bay_1 : List UInt8 := [158, 0, 12, 42, 18, 174, 182, 0, 82, 167, 0, 8, 42, 27, 182, 0, 59, 172]
abbrev dktX6_bay_1 : List UInt8 := dkwX6_bay_1 ++ []
def dkwX6_bay_0 : List UInt8 := [27, 6, 16, 8, 184, 0, 77, 154, 0, 10, 42, 18, 81, 182, 0, 82, 172, 42, 180, 0, 9, 5, 46]
abbrev dktX6_bay_0 : List UInt8 := dkwX6_bay_0 ++ dktX6_bay_1
theorem dksX6_bay_0 : cX6_bay.data.toList.drop 0 = dktX6_bay_0 := by decide +kernel
theorem dksX6_bay_1 : cX6_bay.data.toList.drop 23 = dktX6_bay_1 := dk_seg dksX6_bay_0 23 rfl rfl
theorem dX6_bay_0 : decode cX6_bay 0 = .ok (.iload_n 1, 1) := dk_27 (dk_at dksX6_bay_0 0 rfl rfl)
theorem dX6_bay_1 : decode cX6_bay 1 = .ok (.iconst 3, 1) := dk_6 (dk_at dksX6_bay_0 1 rfl rfl)
theorem dX6_bay_2 : decode cX6_bay 2 = .ok (.bipush 8, 2) := dk_16 8 (dk_at dksX6_bay_0 2 rfl rfl)
theorem dX6_bay_4 : decode cX6_bay 4 = .ok (.invokestatic 77, 3) := dk_184 0 77 (dk_at dksX6_bay_0 4 rfl rfl)
theorem dX6_bay_7 : decode cX6_bay 7 = .ok (.ifCond .ne 10, 3) := dk_154 0 10 (dk_at dksX6_bay_0 7 rfl rfl)
theorem dX6_bay_10 : decode cX6_bay 10 = .ok (.aload_n 0, 1) := dk_42 (dk_at dksX6_bay_0 10 rfl rfl)
theorem dX6_bay_11 : decode cX6_bay 11 = .ok (.ldc 81, 2) := dk_18 81 (dk_at dksX6_bay_0 11 rfl rfl)
theorem dX6_bay_13 : decode cX6_bay 13 = .ok (.invokevirtual 82, 3) := dk_182 0 82 (dk_at dksX6_bay_0 13 rfl rfl)
theorem dX6_bay_16 : decode cX6_bay 16 = .ok (.ireturn, 1) := dk_172 (dk_at dksX6_bay_0 16 rfl rfl)
theorem dX6_bay_17 : decode cX6_bay 17 = .ok (.aload_n 0, 1) := dk_42 (dk_at dksX6_bay_0 17 rfl rfl)
theorem dX6_bay_18 : decode cX6_bay 18 = .ok (.getfield 9, 3) := dk_180 0 9 (dk_at dksX6_bay_0 18 rfl rfl)
theorem dX6_bay_21 : decode cX6_bay 21 = .ok (.iconst 2, 1) := dk_5 (dk_at dksX6_bay_0 21 rfl rfl)
theorem dX6_bay_22 : decode cX6_bay 22 = .ok (.iaload, 1) := dk_46 (dk_at dksX6_bay_0 22 rfl rfl)
theorem dX6_bay_23 : decode cX6_bay 23 = .ok (.ifCond .le 12, 3) := dk_158 0 12 (dk_at dksX6_bay_1 0 rfl rfl)
theorem dX6_bay_26 : decode cX6_bay 26 = .ok (.aload_n 0, 1) := dk_42 (dk_at dksX6_bay_1 3 rfl rfl)
theorem dX6_bay_27 : decode cX6_bay 27 = .ok (.ldc 174, 2) := dk_18 174 (dk_at dksX6_bay_1 4 rfl rfl)
theorem dX6_bay_29 : decode cX6_bay 29 = .ok (.invokevirtual 82, 3) := dk_182 0 82 (dk_at dksX6_bay_1 6 rfl rfl)
theorem dX6_bay_32 : decode cX6_bay 32 = .ok (.goto 8, 3) := dk_167 0 8 (dk_at dksX6_bay_1 9 rfl rfl)
theorem dX6_bay_35 : decode cX6_bay 35 = .ok (.aload_n 0, 1) := dk_42 (dk_at dksX6_bay_1 12 rfl rfl)
theorem dX6_bay_36 : decode cX6_bay 36 = .ok (.iload_n 1, 1) := dk_27 (dk_at dksX6_bay_1 13 rfl rfl)
theorem dX6_bay_37 : decode cX6_bay 37 = .ok (.invokevirtual 59, 3) := dk_182 0 59 (dk_at dksX6_bay_1 14 rfl rfl)
theorem dX6_bay_40 : decode cX6_bay 40 = .ok (.ireturn, 1) := dk_172 (dk_at dksX6_bay_1 17 rfl rfl)
abbrev cX6_lay : ByteArray := prog_30_method_38_code
def yX6_lay : MethodName := ⟨RX6, "lay", "(III)I"⟩
def dkwX6_lay_2 : List UInt8 := [182, 0, 145, 42, 27, 28, 184, 0, 165, 29, 182, 0, 171, 172]
abbrev dktX6_lay_2 : List UInt8 := dkwX6_lay_2 ++ []
def dkwX6_lay_1 : List UInt8 := [16, 9, 167, 0, 6, 17, 3, 231, 184, 0, 77, 154, 0, 10, 42, 18, 81, 182, 0, 82, 172, 42]
abbrev dktX6_lay_1 : List UInt8 := dkwX6_lay_1 ++ dktX6_lay_2
def dkwX6_lay_0 : List UInt8 := [42, 27, 182, 0, 175, 153, 0, 32, 28, 3, 5, 184, 0, 77, 153, 0, 23, 29, 3, 28, 154, 0, 8]
abbrev dktX6_lay_0 : List UInt8 := dkwX6_lay_0 ++ dktX6_lay_1
theorem dksX6_lay_0 : cX6_lay.data.toList.drop 0 = dktX6_lay_0 := by decide +kernel
theorem dksX6_lay_1 : cX6_lay.data.toList.drop 23 = dktX6_lay_1 := dk_seg dksX6_lay_0 23 rfl rfl
theorem dksX6_lay_2 : cX6_lay.data.toList.drop 45 = dktX6_lay_2 := dk_seg dksX6_lay_1 22 rfl rfl
theorem dX6_lay_0 : decode cX6_lay 0 = .ok (.aload_n 0, 1) := dk_42 (dk_at dksX6_lay_0 0 rfl rfl)
theorem dX6_lay_1 : decode cX6_lay 1 = .ok (.iload_n 1, 1) := dk_27 (dk_at dksX6_lay_0 1 rfl rfl)
theorem dX6_lay_2 : decode cX6_lay 2 = .ok (.invokevirtual 175, 3) := dk_182 0 175 (dk_at dksX6_lay_0 2 rfl rfl)
theorem dX6_lay_5 : decode cX6_lay 5 = .ok (.ifCond .eq 32, 3) := dk_153 0 32 (dk_at dksX6_lay_0 5 rfl rfl)
theorem dX6_lay_8 : decode cX6_lay 8 = .ok (.iload_n 2, 1) := dk_28 (dk_at dksX6_lay_0 8 rfl rfl)
theorem dX6_lay_9 : decode cX6_lay 9 = .ok (.iconst 0, 1) := dk_3 (dk_at dksX6_lay_0 9 rfl rfl)
theorem dX6_lay_10 : decode cX6_lay 10 = .ok (.iconst 2, 1) := dk_5 (dk_at dksX6_lay_0 10 rfl rfl)
theorem dX6_lay_11 : decode cX6_lay 11 = .ok (.invokestatic 77, 3) := dk_184 0 77 (dk_at dksX6_lay_0 11 rfl rfl)
theorem dX6_lay_14 : decode cX6_lay 14 = .ok (.ifCond .eq 23, 3) := dk_153 0 23 (dk_at dksX6_lay_0 14 rfl rfl)
theorem dX6_lay_17 : decode cX6_lay 17 = .ok (.iload_n 3, 1) := dk_29 (dk_at dksX6_lay_0 17 rfl rfl)
theorem dX6_lay_18 : decode cX6_lay 18 = .ok (.iconst 0, 1) := dk_3 (dk_at dksX6_lay_0 18 rfl rfl)
theorem dX6_lay_19 : decode cX6_lay 19 = .ok (.iload_n 2, 1) := dk_28 (dk_at dksX6_lay_0 19 rfl rfl)
theorem dX6_lay_20 : decode cX6_lay 20 = .ok (.ifCond .ne 8, 3) := dk_154 0 8 (dk_at dksX6_lay_0 20 rfl rfl)
theorem dX6_lay_23 : decode cX6_lay 23 = .ok (.bipush 9, 2) := dk_16 9 (dk_at dksX6_lay_1 0 rfl rfl)
theorem dX6_lay_25 : decode cX6_lay 25 = .ok (.goto 6, 3) := dk_167 0 6 (dk_at dksX6_lay_1 2 rfl rfl)
theorem dX6_lay_28 : decode cX6_lay 28 = .ok (.sipush 999, 3) := dk_17 3 231 (dk_at dksX6_lay_1 5 rfl rfl)
theorem dX6_lay_31 : decode cX6_lay 31 = .ok (.invokestatic 77, 3) := dk_184 0 77 (dk_at dksX6_lay_1 8 rfl rfl)
theorem dX6_lay_34 : decode cX6_lay 34 = .ok (.ifCond .ne 10, 3) := dk_154 0 10 (dk_at dksX6_lay_1 11 rfl rfl)
theorem dX6_lay_37 : decode cX6_lay 37 = .ok (.aload_n 0, 1) := dk_42 (dk_at dksX6_lay_1 14 rfl rfl)
theorem dX6_lay_38 : decode cX6_lay 38 = .ok (.ldc 81, 2) := dk_18 81 (dk_at dksX6_lay_1 15 rfl rfl)
theorem dX6_lay_40 : decode cX6_lay 40 = .ok (.invokevirtual 82, 3) := dk_182 0 82 (dk_at dksX6_lay_1 17 rfl rfl)
theorem dX6_lay_43 : decode cX6_lay 43 = .ok (.ireturn, 1) := dk_172 (dk_at dksX6_lay_1 20 rfl rfl)
theorem dX6_lay_44 : decode cX6_lay 44 = .ok (.aload_n 0, 1) := dk_42 (dk_at dksX6_lay_1 21 rfl rfl)
theorem dX6_lay_45 : decode cX6_lay 45 = .ok (.invokevirtual 145, 3) := dk_182 0 145 (dk_at dksX6_lay_2 0 rfl rfl)
theorem dX6_lay_48 : decode cX6_lay 48 = .ok (.aload_n 0, 1) := dk_42 (dk_at dksX6_lay_2 3 rfl rfl)
theorem dX6_lay_49 : decode cX6_lay 49 = .ok (.iload_n 1, 1) := dk_27 (dk_at dksX6_lay_2 4 rfl rfl)
theorem dX6_lay_50 : decode cX6_lay 50 = .ok (.iload_n 2, 1) := dk_28 (dk_at dksX6_lay_2 5 rfl rfl)
theorem dX6_lay_51 : decode cX6_lay 51 = .ok (.invokestatic 165, 3) := dk_184 0 165 (dk_at dksX6_lay_2 6 rfl rfl)
theorem dX6_lay_54 : decode cX6_lay 54 = .ok (.iload_n 3, 1) := dk_29 (dk_at dksX6_lay_2 9 rfl rfl)
theorem dX6_lay_55 : decode cX6_lay 55 = .ok (.invokevirtual 171, 3) := dk_182 0 171 (dk_at dksX6_lay_2 10 rfl rfl)
theorem dX6_lay_58 : decode cX6_lay 58 = .ok (.ireturn, 1) := dk_172 (dk_at dksX6_lay_2 13 rfl rfl)
abbrev cX6_isCell : ByteArray := prog_30_method_28_code
def yX6_isCell : MethodName := ⟨RX6, "isCell", "(I)Z"⟩
def dkwX6_isCell_0 : List UInt8 := [27, 3, 42, 180, 0, 9, 4, 46, 4, 100, 184, 0, 77, 172]
abbrev dktX6_isCell_0 : List UInt8 := dkwX6_isCell_0 ++ []
theorem dksX6_isCell_0 : cX6_isCell.data.toList.drop 0 = dktX6_isCell_0 := by decide +kernel
theorem dX6_isCell_0 : decode cX6_isCell 0 = .ok (.iload_n 1, 1) := dk_27 (dk_at dksX6_isCell_0 0 rfl rfl)
theorem dX6_isCell_1 : decode cX6_isCell 1 = .ok (.iconst 0, 1) := dk_3 (dk_at dksX6_isCell_0 1 rfl rfl)
theorem dX6_isCell_2 : decode cX6_isCell 2 = .ok (.aload_n 0, 1) := dk_42 (dk_at dksX6_isCell_0 2 rfl rfl)
theorem dX6_isCell_3 : decode cX6_isCell 3 = .ok (.getfield 9, 3) := dk_180 0 9 (dk_at dksX6_isCell_0 3 rfl rfl)
theorem dX6_isCell_6 : decode cX6_isCell 6 = .ok (.iconst 1, 1) := dk_4 (dk_at dksX6_isCell_0 6 rfl rfl)
theorem dX6_isCell_7 : decode cX6_isCell 7 = .ok (.iaload, 1) := dk_46 (dk_at dksX6_isCell_0 7 rfl rfl)
theorem dX6_isCell_8 : decode cX6_isCell 8 = .ok (.iconst 1, 1) := dk_4 (dk_at dksX6_isCell_0 8 rfl rfl)
theorem dX6_isCell_9 : decode cX6_isCell 9 = .ok (.isub, 1) := dk_100 (dk_at dksX6_isCell_0 9 rfl rfl)
theorem dX6_isCell_10 : decode cX6_isCell 10 = .ok (.invokestatic 77, 3) := dk_184 0 77 (dk_at dksX6_isCell_0 10 rfl rfl)
theorem dX6_isCell_13 : decode cX6_isCell 13 = .ok (.ireturn, 1) := dk_172 (dk_at dksX6_isCell_0 13 rfl rfl)
abbrev cX6_ofCell : ByteArray := prog_30_method_44_code
def yX6_ofCell : MethodName := ⟨RX6, "ofCell", "(II)I"⟩
def dkwX6_ofCell_3 : List UInt8 := [182, 0, 200, 172]
abbrev dktX6_ofCell_3 : List UInt8 := dkwX6_ofCell_3 ++ []
def dkwX6_ofCell_2 : List UInt8 := [167, 0, 27, 28, 7, 160, 0, 17, 42, 27, 42, 180, 0, 9, 7, 46, 182, 0, 197, 167, 0, 8, 42, 27]
abbrev dktX6_ofCell_2 : List UInt8 := dkwX6_ofCell_2 ++ dktX6_ofCell_3
def dkwX6_ofCell_1 : List UInt8 := [28, 6, 162, 0, 12, 42, 27, 28, 182, 0, 178, 167, 0, 40, 28, 6, 160, 0, 11, 42, 27, 182, 0, 194]
abbrev dktX6_ofCell_1 : List UInt8 := dkwX6_ofCell_1 ++ dktX6_ofCell_2
def dkwX6_ofCell_0 : List UInt8 := [42, 27, 182, 0, 175, 153, 0, 12, 28, 3, 8, 184, 0, 77, 154, 0, 10, 42, 18, 81, 182, 0, 82, 172]
abbrev dktX6_ofCell_0 : List UInt8 := dkwX6_ofCell_0 ++ dktX6_ofCell_1
theorem dksX6_ofCell_0 : cX6_ofCell.data.toList.drop 0 = dktX6_ofCell_0 := by decide +kernel
theorem dksX6_ofCell_1 : cX6_ofCell.data.toList.drop 24 = dktX6_ofCell_1 := dk_seg dksX6_ofCell_0 24 rfl rfl
theorem dksX6_ofCell_2 : cX6_ofCell.data.toList.drop 48 = dktX6_ofCell_2 := dk_seg dksX6_ofCell_1 24 rfl rfl
theorem dksX6_ofCell_3 : cX6_ofCell.data.toList.drop 72 = dktX6_ofCell_3 := dk_seg dksX6_ofCell_2 24 rfl rfl
theorem dX6_ofCell_0 : decode cX6_ofCell 0 = .ok (.aload_n 0, 1) := dk_42 (dk_at dksX6_ofCell_0 0 rfl rfl)
theorem dX6_ofCell_1 : decode cX6_ofCell 1 = .ok (.iload_n 1, 1) := dk_27 (dk_at dksX6_ofCell_0 1 rfl rfl)
theorem dX6_ofCell_2 : decode cX6_ofCell 2 = .ok (.invokevirtual 175, 3) := dk_182 0 175 (dk_at dksX6_ofCell_0 2 rfl rfl)
theorem dX6_ofCell_5 : decode cX6_ofCell 5 = .ok (.ifCond .eq 12, 3) := dk_153 0 12 (dk_at dksX6_ofCell_0 5 rfl rfl)
theorem dX6_ofCell_8 : decode cX6_ofCell 8 = .ok (.iload_n 2, 1) := dk_28 (dk_at dksX6_ofCell_0 8 rfl rfl)
theorem dX6_ofCell_9 : decode cX6_ofCell 9 = .ok (.iconst 0, 1) := dk_3 (dk_at dksX6_ofCell_0 9 rfl rfl)
theorem dX6_ofCell_10 : decode cX6_ofCell 10 = .ok (.iconst 5, 1) := dk_8 (dk_at dksX6_ofCell_0 10 rfl rfl)
theorem dX6_ofCell_11 : decode cX6_ofCell 11 = .ok (.invokestatic 77, 3) := dk_184 0 77 (dk_at dksX6_ofCell_0 11 rfl rfl)
theorem dX6_ofCell_14 : decode cX6_ofCell 14 = .ok (.ifCond .ne 10, 3) := dk_154 0 10 (dk_at dksX6_ofCell_0 14 rfl rfl)
theorem dX6_ofCell_17 : decode cX6_ofCell 17 = .ok (.aload_n 0, 1) := dk_42 (dk_at dksX6_ofCell_0 17 rfl rfl)
theorem dX6_ofCell_18 : decode cX6_ofCell 18 = .ok (.ldc 81, 2) := dk_18 81 (dk_at dksX6_ofCell_0 18 rfl rfl)
theorem dX6_ofCell_20 : decode cX6_ofCell 20 = .ok (.invokevirtual 82, 3) := dk_182 0 82 (dk_at dksX6_ofCell_0 20 rfl rfl)
theorem dX6_ofCell_23 : decode cX6_ofCell 23 = .ok (.ireturn, 1) := dk_172 (dk_at dksX6_ofCell_0 23 rfl rfl)
theorem dX6_ofCell_24 : decode cX6_ofCell 24 = .ok (.iload_n 2, 1) := dk_28 (dk_at dksX6_ofCell_1 0 rfl rfl)
theorem dX6_ofCell_25 : decode cX6_ofCell 25 = .ok (.iconst 3, 1) := dk_6 (dk_at dksX6_ofCell_1 1 rfl rfl)
theorem dX6_ofCell_26 : decode cX6_ofCell 26 = .ok (.if_icmp .ge 12, 3) := dk_162 0 12 (dk_at dksX6_ofCell_1 2 rfl rfl)
theorem dX6_ofCell_29 : decode cX6_ofCell 29 = .ok (.aload_n 0, 1) := dk_42 (dk_at dksX6_ofCell_1 5 rfl rfl)
theorem dX6_ofCell_30 : decode cX6_ofCell 30 = .ok (.iload_n 1, 1) := dk_27 (dk_at dksX6_ofCell_1 6 rfl rfl)
theorem dX6_ofCell_31 : decode cX6_ofCell 31 = .ok (.iload_n 2, 1) := dk_28 (dk_at dksX6_ofCell_1 7 rfl rfl)
theorem dX6_ofCell_32 : decode cX6_ofCell 32 = .ok (.invokevirtual 178, 3) := dk_182 0 178 (dk_at dksX6_ofCell_1 8 rfl rfl)
theorem dX6_ofCell_35 : decode cX6_ofCell 35 = .ok (.goto 40, 3) := dk_167 0 40 (dk_at dksX6_ofCell_1 11 rfl rfl)
theorem dX6_ofCell_38 : decode cX6_ofCell 38 = .ok (.iload_n 2, 1) := dk_28 (dk_at dksX6_ofCell_1 14 rfl rfl)
theorem dX6_ofCell_39 : decode cX6_ofCell 39 = .ok (.iconst 3, 1) := dk_6 (dk_at dksX6_ofCell_1 15 rfl rfl)
theorem dX6_ofCell_40 : decode cX6_ofCell 40 = .ok (.if_icmp .ne 11, 3) := dk_160 0 11 (dk_at dksX6_ofCell_1 16 rfl rfl)
theorem dX6_ofCell_43 : decode cX6_ofCell 43 = .ok (.aload_n 0, 1) := dk_42 (dk_at dksX6_ofCell_1 19 rfl rfl)
theorem dX6_ofCell_44 : decode cX6_ofCell 44 = .ok (.iload_n 1, 1) := dk_27 (dk_at dksX6_ofCell_1 20 rfl rfl)
theorem dX6_ofCell_45 : decode cX6_ofCell 45 = .ok (.invokevirtual 194, 3) := dk_182 0 194 (dk_at dksX6_ofCell_1 21 rfl rfl)
theorem dX6_ofCell_48 : decode cX6_ofCell 48 = .ok (.goto 27, 3) := dk_167 0 27 (dk_at dksX6_ofCell_2 0 rfl rfl)
theorem dX6_ofCell_51 : decode cX6_ofCell 51 = .ok (.iload_n 2, 1) := dk_28 (dk_at dksX6_ofCell_2 3 rfl rfl)
theorem dX6_ofCell_52 : decode cX6_ofCell 52 = .ok (.iconst 4, 1) := dk_7 (dk_at dksX6_ofCell_2 4 rfl rfl)
theorem dX6_ofCell_53 : decode cX6_ofCell 53 = .ok (.if_icmp .ne 17, 3) := dk_160 0 17 (dk_at dksX6_ofCell_2 5 rfl rfl)
theorem dX6_ofCell_56 : decode cX6_ofCell 56 = .ok (.aload_n 0, 1) := dk_42 (dk_at dksX6_ofCell_2 8 rfl rfl)
theorem dX6_ofCell_57 : decode cX6_ofCell 57 = .ok (.iload_n 1, 1) := dk_27 (dk_at dksX6_ofCell_2 9 rfl rfl)
theorem dX6_ofCell_58 : decode cX6_ofCell 58 = .ok (.aload_n 0, 1) := dk_42 (dk_at dksX6_ofCell_2 10 rfl rfl)
theorem dX6_ofCell_59 : decode cX6_ofCell 59 = .ok (.getfield 9, 3) := dk_180 0 9 (dk_at dksX6_ofCell_2 11 rfl rfl)
theorem dX6_ofCell_62 : decode cX6_ofCell 62 = .ok (.iconst 4, 1) := dk_7 (dk_at dksX6_ofCell_2 14 rfl rfl)
theorem dX6_ofCell_63 : decode cX6_ofCell 63 = .ok (.iaload, 1) := dk_46 (dk_at dksX6_ofCell_2 15 rfl rfl)
theorem dX6_ofCell_64 : decode cX6_ofCell 64 = .ok (.invokevirtual 197, 3) := dk_182 0 197 (dk_at dksX6_ofCell_2 16 rfl rfl)
theorem dX6_ofCell_67 : decode cX6_ofCell 67 = .ok (.goto 8, 3) := dk_167 0 8 (dk_at dksX6_ofCell_2 19 rfl rfl)
theorem dX6_ofCell_70 : decode cX6_ofCell 70 = .ok (.aload_n 0, 1) := dk_42 (dk_at dksX6_ofCell_2 22 rfl rfl)
theorem dX6_ofCell_71 : decode cX6_ofCell 71 = .ok (.iload_n 1, 1) := dk_27 (dk_at dksX6_ofCell_2 23 rfl rfl)
theorem dX6_ofCell_72 : decode cX6_ofCell 72 = .ok (.invokevirtual 200, 3) := dk_182 0 200 (dk_at dksX6_ofCell_3 0 rfl rfl)
theorem dX6_ofCell_75 : decode cX6_ofCell 75 = .ok (.ireturn, 1) := dk_172 (dk_at dksX6_ofCell_3 3 rfl rfl)
abbrev cX6_cellIs : ByteArray := prog_30_method_33_code
def yX6_cellIs : MethodName := ⟨RX6, "cellIs", "(II)I"⟩
def dkwX6_cellIs_0 : List UInt8 := [42, 180, 0, 9, 27, 28, 184, 0, 165, 46, 172]
abbrev dktX6_cellIs_0 : List UInt8 := dkwX6_cellIs_0 ++ []
theorem dksX6_cellIs_0 : cX6_cellIs.data.toList.drop 0 = dktX6_cellIs_0 := by decide +kernel
theorem dX6_cellIs_0 : decode cX6_cellIs 0 = .ok (.aload_n 0, 1) := dk_42 (dk_at dksX6_cellIs_0 0 rfl rfl)
theorem dX6_cellIs_1 : decode cX6_cellIs 1 = .ok (.getfield 9, 3) := dk_180 0 9 (dk_at dksX6_cellIs_0 1 rfl rfl)
theorem dX6_cellIs_4 : decode cX6_cellIs 4 = .ok (.iload_n 1, 1) := dk_27 (dk_at dksX6_cellIs_0 4 rfl rfl)
theorem dX6_cellIs_5 : decode cX6_cellIs 5 = .ok (.iload_n 2, 1) := dk_28 (dk_at dksX6_cellIs_0 5 rfl rfl)
theorem dX6_cellIs_6 : decode cX6_cellIs 6 = .ok (.invokestatic 165, 3) := dk_184 0 165 (dk_at dksX6_cellIs_0 6 rfl rfl)
theorem dX6_cellIs_9 : decode cX6_cellIs 9 = .ok (.iaload, 1) := dk_46 (dk_at dksX6_cellIs_0 9 rfl rfl)
theorem dX6_cellIs_10 : decode cX6_cellIs 10 = .ok (.ireturn, 1) := dk_172 (dk_at dksX6_cellIs_0 10 rfl rfl)
abbrev cX6_trueDepth : ByteArray := prog_30_method_41_code
def yX6_trueDepth : MethodName := ⟨RX6, "trueDepth", "(I)I"⟩
def dkwX6_trueDepth_0 : List UInt8 := [42, 27, 42, 180, 0, 9, 6, 46, 182, 0, 184, 172]
abbrev dktX6_trueDepth_0 : List UInt8 := dkwX6_trueDepth_0 ++ []
theorem dksX6_trueDepth_0 : cX6_trueDepth.data.toList.drop 0 = dktX6_trueDepth_0 := by decide +kernel
theorem dX6_trueDepth_0 : decode cX6_trueDepth 0 = .ok (.aload_n 0, 1) := dk_42 (dk_at dksX6_trueDepth_0 0 rfl rfl)
theorem dX6_trueDepth_1 : decode cX6_trueDepth 1 = .ok (.iload_n 1, 1) := dk_27 (dk_at dksX6_trueDepth_0 1 rfl rfl)
theorem dX6_trueDepth_2 : decode cX6_trueDepth 2 = .ok (.aload_n 0, 1) := dk_42 (dk_at dksX6_trueDepth_0 2 rfl rfl)
theorem dX6_trueDepth_3 : decode cX6_trueDepth 3 = .ok (.getfield 9, 3) := dk_180 0 9 (dk_at dksX6_trueDepth_0 3 rfl rfl)
theorem dX6_trueDepth_6 : decode cX6_trueDepth 6 = .ok (.iconst 3, 1) := dk_6 (dk_at dksX6_trueDepth_0 6 rfl rfl)
theorem dX6_trueDepth_7 : decode cX6_trueDepth 7 = .ok (.iaload, 1) := dk_46 (dk_at dksX6_trueDepth_0 7 rfl rfl)
theorem dX6_trueDepth_8 : decode cX6_trueDepth 8 = .ok (.invokevirtual 184, 3) := dk_182 0 184 (dk_at dksX6_trueDepth_0 8 rfl rfl)
theorem dX6_trueDepth_11 : decode cX6_trueDepth 11 = .ok (.ireturn, 1) := dk_172 (dk_at dksX6_trueDepth_0 11 rfl rfl)
abbrev cX6_depthIn : ByteArray := prog_30_method_40_code
def yX6_depthIn : MethodName := ⟨RX6, "depthIn", "(II)I"⟩
def dkwX6_depthIn_2 : List UInt8 := [46, 4, 100, 172]
abbrev dktX6_depthIn_2 : List UInt8 := dkwX6_depthIn_2 ++ []
def dkwX6_depthIn_1 : List UInt8 := [154, 0, 18, 42, 180, 0, 22, 21, 4, 4, 42, 27, 29, 182, 0, 181, 96, 79, 42, 180, 0, 22, 21, 4]
abbrev dktX6_depthIn_1 : List UInt8 := dkwX6_depthIn_1 ++ dktX6_depthIn_2
def dkwX6_depthIn_0 : List UInt8 := [3, 28, 184, 0, 70, 62, 17, 3, 232, 27, 104, 29, 96, 54, 4, 42, 180, 0, 22, 21, 4, 46]
abbrev dktX6_depthIn_0 : List UInt8 := dkwX6_depthIn_0 ++ dktX6_depthIn_1
theorem dksX6_depthIn_0 : cX6_depthIn.data.toList.drop 0 = dktX6_depthIn_0 := by decide +kernel
theorem dksX6_depthIn_1 : cX6_depthIn.data.toList.drop 22 = dktX6_depthIn_1 := dk_seg dksX6_depthIn_0 22 rfl rfl
theorem dksX6_depthIn_2 : cX6_depthIn.data.toList.drop 46 = dktX6_depthIn_2 := dk_seg dksX6_depthIn_1 24 rfl rfl
theorem dX6_depthIn_0 : decode cX6_depthIn 0 = .ok (.iconst 0, 1) := dk_3 (dk_at dksX6_depthIn_0 0 rfl rfl)
theorem dX6_depthIn_1 : decode cX6_depthIn 1 = .ok (.iload_n 2, 1) := dk_28 (dk_at dksX6_depthIn_0 1 rfl rfl)
theorem dX6_depthIn_2 : decode cX6_depthIn 2 = .ok (.invokestatic 70, 3) := dk_184 0 70 (dk_at dksX6_depthIn_0 2 rfl rfl)
theorem dX6_depthIn_5 : decode cX6_depthIn 5 = .ok (.istore_n 3, 1) := dk_62 (dk_at dksX6_depthIn_0 5 rfl rfl)
theorem dX6_depthIn_6 : decode cX6_depthIn 6 = .ok (.sipush 1000, 3) := dk_17 3 232 (dk_at dksX6_depthIn_0 6 rfl rfl)
theorem dX6_depthIn_9 : decode cX6_depthIn 9 = .ok (.iload_n 1, 1) := dk_27 (dk_at dksX6_depthIn_0 9 rfl rfl)
theorem dX6_depthIn_10 : decode cX6_depthIn 10 = .ok (.imul, 1) := dk_104 (dk_at dksX6_depthIn_0 10 rfl rfl)
theorem dX6_depthIn_11 : decode cX6_depthIn 11 = .ok (.iload_n 3, 1) := dk_29 (dk_at dksX6_depthIn_0 11 rfl rfl)
theorem dX6_depthIn_12 : decode cX6_depthIn 12 = .ok (.iadd, 1) := dk_96 (dk_at dksX6_depthIn_0 12 rfl rfl)
theorem dX6_depthIn_13 : decode cX6_depthIn 13 = .ok (.istore 4, 2) := dk_54 4 (dk_at dksX6_depthIn_0 13 rfl rfl)
theorem dX6_depthIn_15 : decode cX6_depthIn 15 = .ok (.aload_n 0, 1) := dk_42 (dk_at dksX6_depthIn_0 15 rfl rfl)
theorem dX6_depthIn_16 : decode cX6_depthIn 16 = .ok (.getfield 22, 3) := dk_180 0 22 (dk_at dksX6_depthIn_0 16 rfl rfl)
theorem dX6_depthIn_19 : decode cX6_depthIn 19 = .ok (.iload 4, 2) := dk_21 4 (dk_at dksX6_depthIn_0 19 rfl rfl)
theorem dX6_depthIn_21 : decode cX6_depthIn 21 = .ok (.iaload, 1) := dk_46 (dk_at dksX6_depthIn_0 21 rfl rfl)
theorem dX6_depthIn_22 : decode cX6_depthIn 22 = .ok (.ifCond .ne 18, 3) := dk_154 0 18 (dk_at dksX6_depthIn_1 0 rfl rfl)
theorem dX6_depthIn_25 : decode cX6_depthIn 25 = .ok (.aload_n 0, 1) := dk_42 (dk_at dksX6_depthIn_1 3 rfl rfl)
theorem dX6_depthIn_26 : decode cX6_depthIn 26 = .ok (.getfield 22, 3) := dk_180 0 22 (dk_at dksX6_depthIn_1 4 rfl rfl)
theorem dX6_depthIn_29 : decode cX6_depthIn 29 = .ok (.iload 4, 2) := dk_21 4 (dk_at dksX6_depthIn_1 7 rfl rfl)
theorem dX6_depthIn_31 : decode cX6_depthIn 31 = .ok (.iconst 1, 1) := dk_4 (dk_at dksX6_depthIn_1 9 rfl rfl)
theorem dX6_depthIn_32 : decode cX6_depthIn 32 = .ok (.aload_n 0, 1) := dk_42 (dk_at dksX6_depthIn_1 10 rfl rfl)
theorem dX6_depthIn_33 : decode cX6_depthIn 33 = .ok (.iload_n 1, 1) := dk_27 (dk_at dksX6_depthIn_1 11 rfl rfl)
theorem dX6_depthIn_34 : decode cX6_depthIn 34 = .ok (.iload_n 3, 1) := dk_29 (dk_at dksX6_depthIn_1 12 rfl rfl)
theorem dX6_depthIn_35 : decode cX6_depthIn 35 = .ok (.invokevirtual 181, 3) := dk_182 0 181 (dk_at dksX6_depthIn_1 13 rfl rfl)
theorem dX6_depthIn_38 : decode cX6_depthIn 38 = .ok (.iadd, 1) := dk_96 (dk_at dksX6_depthIn_1 16 rfl rfl)
theorem dX6_depthIn_39 : decode cX6_depthIn 39 = .ok (.iastore, 1) := dk_79 (dk_at dksX6_depthIn_1 17 rfl rfl)
theorem dX6_depthIn_40 : decode cX6_depthIn 40 = .ok (.aload_n 0, 1) := dk_42 (dk_at dksX6_depthIn_1 18 rfl rfl)
theorem dX6_depthIn_41 : decode cX6_depthIn 41 = .ok (.getfield 22, 3) := dk_180 0 22 (dk_at dksX6_depthIn_1 19 rfl rfl)
theorem dX6_depthIn_44 : decode cX6_depthIn 44 = .ok (.iload 4, 2) := dk_21 4 (dk_at dksX6_depthIn_1 22 rfl rfl)
theorem dX6_depthIn_46 : decode cX6_depthIn 46 = .ok (.iaload, 1) := dk_46 (dk_at dksX6_depthIn_2 0 rfl rfl)
theorem dX6_depthIn_47 : decode cX6_depthIn 47 = .ok (.iconst 1, 1) := dk_4 (dk_at dksX6_depthIn_2 1 rfl rfl)
theorem dX6_depthIn_48 : decode cX6_depthIn 48 = .ok (.isub, 1) := dk_100 (dk_at dksX6_depthIn_2 2 rfl rfl)
theorem dX6_depthIn_49 : decode cX6_depthIn 49 = .ok (.ireturn, 1) := dk_172 (dk_at dksX6_depthIn_2 3 rfl rfl)
abbrev cX6_depthFor : ByteArray := prog_30_method_39_code
def yX6_depthFor : MethodName := ⟨RX6, "depthFor", "(II)I"⟩
def dkwX6_depthFor_1 : List UInt8 := [3, 62, 29, 153, 0, 7, 3, 167, 0, 16, 42, 3, 27, 28, 42, 27, 3, 182, 0, 178, 182, 0, 161, 172]
abbrev dktX6_depthFor_1 : List UInt8 := dkwX6_depthFor_1 ++ []
def dkwX6_depthFor_0 : List UInt8 := [42, 27, 4, 182, 0, 178, 28, 163, 0, 17, 28, 42, 27, 5, 182, 0, 178, 163, 0, 7, 4, 167, 0, 4]
abbrev dktX6_depthFor_0 : List UInt8 := dkwX6_depthFor_0 ++ dktX6_depthFor_1
theorem dksX6_depthFor_0 : cX6_depthFor.data.toList.drop 0 = dktX6_depthFor_0 := by decide +kernel
theorem dksX6_depthFor_1 : cX6_depthFor.data.toList.drop 24 = dktX6_depthFor_1 := dk_seg dksX6_depthFor_0 24 rfl rfl
theorem dX6_depthFor_0 : decode cX6_depthFor 0 = .ok (.aload_n 0, 1) := dk_42 (dk_at dksX6_depthFor_0 0 rfl rfl)
theorem dX6_depthFor_1 : decode cX6_depthFor 1 = .ok (.iload_n 1, 1) := dk_27 (dk_at dksX6_depthFor_0 1 rfl rfl)
theorem dX6_depthFor_2 : decode cX6_depthFor 2 = .ok (.iconst 1, 1) := dk_4 (dk_at dksX6_depthFor_0 2 rfl rfl)
theorem dX6_depthFor_3 : decode cX6_depthFor 3 = .ok (.invokevirtual 178, 3) := dk_182 0 178 (dk_at dksX6_depthFor_0 3 rfl rfl)
theorem dX6_depthFor_6 : decode cX6_depthFor 6 = .ok (.iload_n 2, 1) := dk_28 (dk_at dksX6_depthFor_0 6 rfl rfl)
theorem dX6_depthFor_7 : decode cX6_depthFor 7 = .ok (.if_icmp .gt 17, 3) := dk_163 0 17 (dk_at dksX6_depthFor_0 7 rfl rfl)
theorem dX6_depthFor_10 : decode cX6_depthFor 10 = .ok (.iload_n 2, 1) := dk_28 (dk_at dksX6_depthFor_0 10 rfl rfl)
theorem dX6_depthFor_11 : decode cX6_depthFor 11 = .ok (.aload_n 0, 1) := dk_42 (dk_at dksX6_depthFor_0 11 rfl rfl)
theorem dX6_depthFor_12 : decode cX6_depthFor 12 = .ok (.iload_n 1, 1) := dk_27 (dk_at dksX6_depthFor_0 12 rfl rfl)
theorem dX6_depthFor_13 : decode cX6_depthFor 13 = .ok (.iconst 2, 1) := dk_5 (dk_at dksX6_depthFor_0 13 rfl rfl)
theorem dX6_depthFor_14 : decode cX6_depthFor 14 = .ok (.invokevirtual 178, 3) := dk_182 0 178 (dk_at dksX6_depthFor_0 14 rfl rfl)
theorem dX6_depthFor_17 : decode cX6_depthFor 17 = .ok (.if_icmp .gt 7, 3) := dk_163 0 7 (dk_at dksX6_depthFor_0 17 rfl rfl)
theorem dX6_depthFor_20 : decode cX6_depthFor 20 = .ok (.iconst 1, 1) := dk_4 (dk_at dksX6_depthFor_0 20 rfl rfl)
theorem dX6_depthFor_21 : decode cX6_depthFor 21 = .ok (.goto 4, 3) := dk_167 0 4 (dk_at dksX6_depthFor_0 21 rfl rfl)
theorem dX6_depthFor_24 : decode cX6_depthFor 24 = .ok (.iconst 0, 1) := dk_3 (dk_at dksX6_depthFor_1 0 rfl rfl)
theorem dX6_depthFor_25 : decode cX6_depthFor 25 = .ok (.istore_n 3, 1) := dk_62 (dk_at dksX6_depthFor_1 1 rfl rfl)
theorem dX6_depthFor_26 : decode cX6_depthFor 26 = .ok (.iload_n 3, 1) := dk_29 (dk_at dksX6_depthFor_1 2 rfl rfl)
theorem dX6_depthFor_27 : decode cX6_depthFor 27 = .ok (.ifCond .eq 7, 3) := dk_153 0 7 (dk_at dksX6_depthFor_1 3 rfl rfl)
theorem dX6_depthFor_30 : decode cX6_depthFor 30 = .ok (.iconst 0, 1) := dk_3 (dk_at dksX6_depthFor_1 6 rfl rfl)
theorem dX6_depthFor_31 : decode cX6_depthFor 31 = .ok (.goto 16, 3) := dk_167 0 16 (dk_at dksX6_depthFor_1 7 rfl rfl)
theorem dX6_depthFor_34 : decode cX6_depthFor 34 = .ok (.aload_n 0, 1) := dk_42 (dk_at dksX6_depthFor_1 10 rfl rfl)
theorem dX6_depthFor_35 : decode cX6_depthFor 35 = .ok (.iconst 0, 1) := dk_3 (dk_at dksX6_depthFor_1 11 rfl rfl)
theorem dX6_depthFor_36 : decode cX6_depthFor 36 = .ok (.iload_n 1, 1) := dk_27 (dk_at dksX6_depthFor_1 12 rfl rfl)
theorem dX6_depthFor_37 : decode cX6_depthFor 37 = .ok (.iload_n 2, 1) := dk_28 (dk_at dksX6_depthFor_1 13 rfl rfl)
theorem dX6_depthFor_38 : decode cX6_depthFor 38 = .ok (.aload_n 0, 1) := dk_42 (dk_at dksX6_depthFor_1 14 rfl rfl)
theorem dX6_depthFor_39 : decode cX6_depthFor 39 = .ok (.iload_n 1, 1) := dk_27 (dk_at dksX6_depthFor_1 15 rfl rfl)
theorem dX6_depthFor_40 : decode cX6_depthFor 40 = .ok (.iconst 0, 1) := dk_3 (dk_at dksX6_depthFor_1 16 rfl rfl)
theorem dX6_depthFor_41 : decode cX6_depthFor 41 = .ok (.invokevirtual 178, 3) := dk_182 0 178 (dk_at dksX6_depthFor_1 17 rfl rfl)
theorem dX6_depthFor_44 : decode cX6_depthFor 44 = .ok (.invokevirtual 161, 3) := dk_182 0 161 (dk_at dksX6_depthFor_1 20 rfl rfl)
theorem dX6_depthFor_47 : decode cX6_depthFor 47 = .ok (.ireturn, 1) := dk_172 (dk_at dksX6_depthFor_1 23 rfl rfl)
abbrev cX6_shown : ByteArray := prog_30_method_42_code
def yX6_shown : MethodName := ⟨RX6, "shown", "(II)I"⟩
def dkwX6_shown_1 : List UInt8 := [167, 0, 9, 42, 180, 0, 9, 6, 46, 182, 0, 184, 172]
abbrev dktX6_shown_1 : List UInt8 := dkwX6_shown_1 ++ []
def dkwX6_shown_0 : List UInt8 := [42, 27, 42, 180, 0, 9, 8, 46, 27, 184, 0, 187, 153, 0, 14, 42, 180, 0, 9, 6, 46, 28, 100]
abbrev dktX6_shown_0 : List UInt8 := dkwX6_shown_0 ++ dktX6_shown_1
theorem dksX6_shown_0 : cX6_shown.data.toList.drop 0 = dktX6_shown_0 := by decide +kernel
theorem dksX6_shown_1 : cX6_shown.data.toList.drop 23 = dktX6_shown_1 := dk_seg dksX6_shown_0 23 rfl rfl
theorem dX6_shown_0 : decode cX6_shown 0 = .ok (.aload_n 0, 1) := dk_42 (dk_at dksX6_shown_0 0 rfl rfl)
theorem dX6_shown_1 : decode cX6_shown 1 = .ok (.iload_n 1, 1) := dk_27 (dk_at dksX6_shown_0 1 rfl rfl)
theorem dX6_shown_2 : decode cX6_shown 2 = .ok (.aload_n 0, 1) := dk_42 (dk_at dksX6_shown_0 2 rfl rfl)
theorem dX6_shown_3 : decode cX6_shown 3 = .ok (.getfield 9, 3) := dk_180 0 9 (dk_at dksX6_shown_0 3 rfl rfl)
theorem dX6_shown_6 : decode cX6_shown 6 = .ok (.iconst 5, 1) := dk_8 (dk_at dksX6_shown_0 6 rfl rfl)
theorem dX6_shown_7 : decode cX6_shown 7 = .ok (.iaload, 1) := dk_46 (dk_at dksX6_shown_0 7 rfl rfl)
theorem dX6_shown_8 : decode cX6_shown 8 = .ok (.iload_n 1, 1) := dk_27 (dk_at dksX6_shown_0 8 rfl rfl)
theorem dX6_shown_9 : decode cX6_shown 9 = .ok (.invokestatic 187, 3) := dk_184 0 187 (dk_at dksX6_shown_0 9 rfl rfl)
theorem dX6_shown_12 : decode cX6_shown 12 = .ok (.ifCond .eq 14, 3) := dk_153 0 14 (dk_at dksX6_shown_0 12 rfl rfl)
theorem dX6_shown_15 : decode cX6_shown 15 = .ok (.aload_n 0, 1) := dk_42 (dk_at dksX6_shown_0 15 rfl rfl)
theorem dX6_shown_16 : decode cX6_shown 16 = .ok (.getfield 9, 3) := dk_180 0 9 (dk_at dksX6_shown_0 16 rfl rfl)
theorem dX6_shown_19 : decode cX6_shown 19 = .ok (.iconst 3, 1) := dk_6 (dk_at dksX6_shown_0 19 rfl rfl)
theorem dX6_shown_20 : decode cX6_shown 20 = .ok (.iaload, 1) := dk_46 (dk_at dksX6_shown_0 20 rfl rfl)
theorem dX6_shown_21 : decode cX6_shown 21 = .ok (.iload_n 2, 1) := dk_28 (dk_at dksX6_shown_0 21 rfl rfl)
theorem dX6_shown_22 : decode cX6_shown 22 = .ok (.isub, 1) := dk_100 (dk_at dksX6_shown_0 22 rfl rfl)
theorem dX6_shown_23 : decode cX6_shown 23 = .ok (.goto 9, 3) := dk_167 0 9 (dk_at dksX6_shown_1 0 rfl rfl)
theorem dX6_shown_26 : decode cX6_shown 26 = .ok (.aload_n 0, 1) := dk_42 (dk_at dksX6_shown_1 3 rfl rfl)
theorem dX6_shown_27 : decode cX6_shown 27 = .ok (.getfield 9, 3) := dk_180 0 9 (dk_at dksX6_shown_1 4 rfl rfl)
theorem dX6_shown_30 : decode cX6_shown 30 = .ok (.iconst 3, 1) := dk_6 (dk_at dksX6_shown_1 7 rfl rfl)
theorem dX6_shown_31 : decode cX6_shown 31 = .ok (.iaload, 1) := dk_46 (dk_at dksX6_shown_1 8 rfl rfl)
theorem dX6_shown_32 : decode cX6_shown 32 = .ok (.invokevirtual 184, 3) := dk_182 0 184 (dk_at dksX6_shown_1 9 rfl rfl)
theorem dX6_shown_35 : decode cX6_shown 35 = .ok (.ireturn, 1) := dk_172 (dk_at dksX6_shown_1 12 rfl rfl)
abbrev cX6_hasBit : ByteArray := prog_30_method_25_code
def yX6_hasBit : MethodName := ⟨RX6, "hasBit", "(II)Z"⟩
def dkwX6_hasBit_0 : List UInt8 := [26, 27, 122, 4, 126, 4, 160, 0, 7, 4, 167, 0, 4, 3, 172]
abbrev dktX6_hasBit_0 : List UInt8 := dkwX6_hasBit_0 ++ []
theorem dksX6_hasBit_0 : cX6_hasBit.data.toList.drop 0 = dktX6_hasBit_0 := by decide +kernel
theorem dX6_hasBit_0 : decode cX6_hasBit 0 = .ok (.iload_n 0, 1) := dk_26 (dk_at dksX6_hasBit_0 0 rfl rfl)
theorem dX6_hasBit_1 : decode cX6_hasBit 1 = .ok (.iload_n 1, 1) := dk_27 (dk_at dksX6_hasBit_0 1 rfl rfl)
theorem dX6_hasBit_2 : decode cX6_hasBit 2 = .ok (.ishr, 1) := dk_122 (dk_at dksX6_hasBit_0 2 rfl rfl)
theorem dX6_hasBit_3 : decode cX6_hasBit 3 = .ok (.iconst 1, 1) := dk_4 (dk_at dksX6_hasBit_0 3 rfl rfl)
theorem dX6_hasBit_4 : decode cX6_hasBit 4 = .ok (.iand, 1) := dk_126 (dk_at dksX6_hasBit_0 4 rfl rfl)
theorem dX6_hasBit_5 : decode cX6_hasBit 5 = .ok (.iconst 1, 1) := dk_4 (dk_at dksX6_hasBit_0 5 rfl rfl)
theorem dX6_hasBit_6 : decode cX6_hasBit 6 = .ok (.if_icmp .ne 7, 3) := dk_160 0 7 (dk_at dksX6_hasBit_0 6 rfl rfl)
theorem dX6_hasBit_9 : decode cX6_hasBit 9 = .ok (.iconst 1, 1) := dk_4 (dk_at dksX6_hasBit_0 9 rfl rfl)
theorem dX6_hasBit_10 : decode cX6_hasBit 10 = .ok (.goto 4, 3) := dk_167 0 4 (dk_at dksX6_hasBit_0 10 rfl rfl)
theorem dX6_hasBit_13 : decode cX6_hasBit 13 = .ok (.iconst 0, 1) := dk_3 (dk_at dksX6_hasBit_0 13 rfl rfl)
theorem dX6_hasBit_14 : decode cX6_hasBit 14 = .ok (.ireturn, 1) := dk_172 (dk_at dksX6_hasBit_0 14 rfl rfl)
abbrev cX6_shipsAt : ByteArray := prog_30_method_43_code
def yX6_shipsAt : MethodName := ⟨RX6, "shipsAt", "(I)I"⟩
def dkwX6_shipsAt_1 : List UInt8 := [160, 0, 9, 4, 29, 120, 167, 0, 4, 3, 128, 61, 132, 3, 1, 167, 255, 223, 28, 172]
abbrev dktX6_shipsAt_1 : List UInt8 := dkwX6_shipsAt_1 ++ []
def dkwX6_shipsAt_0 : List UInt8 := [3, 61, 3, 62, 29, 42, 180, 0, 9, 5, 46, 162, 0, 29, 28, 42, 29, 6, 182, 0, 191, 27]
abbrev dktX6_shipsAt_0 : List UInt8 := dkwX6_shipsAt_0 ++ dktX6_shipsAt_1
theorem dksX6_shipsAt_0 : cX6_shipsAt.data.toList.drop 0 = dktX6_shipsAt_0 := by decide +kernel
theorem dksX6_shipsAt_1 : cX6_shipsAt.data.toList.drop 22 = dktX6_shipsAt_1 := dk_seg dksX6_shipsAt_0 22 rfl rfl
theorem dX6_shipsAt_0 : decode cX6_shipsAt 0 = .ok (.iconst 0, 1) := dk_3 (dk_at dksX6_shipsAt_0 0 rfl rfl)
theorem dX6_shipsAt_1 : decode cX6_shipsAt 1 = .ok (.istore_n 2, 1) := dk_61 (dk_at dksX6_shipsAt_0 1 rfl rfl)
theorem dX6_shipsAt_2 : decode cX6_shipsAt 2 = .ok (.iconst 0, 1) := dk_3 (dk_at dksX6_shipsAt_0 2 rfl rfl)
theorem dX6_shipsAt_3 : decode cX6_shipsAt 3 = .ok (.istore_n 3, 1) := dk_62 (dk_at dksX6_shipsAt_0 3 rfl rfl)
theorem dX6_shipsAt_4 : decode cX6_shipsAt 4 = .ok (.iload_n 3, 1) := dk_29 (dk_at dksX6_shipsAt_0 4 rfl rfl)
theorem dX6_shipsAt_5 : decode cX6_shipsAt 5 = .ok (.aload_n 0, 1) := dk_42 (dk_at dksX6_shipsAt_0 5 rfl rfl)
theorem dX6_shipsAt_6 : decode cX6_shipsAt 6 = .ok (.getfield 9, 3) := dk_180 0 9 (dk_at dksX6_shipsAt_0 6 rfl rfl)
theorem dX6_shipsAt_9 : decode cX6_shipsAt 9 = .ok (.iconst 2, 1) := dk_5 (dk_at dksX6_shipsAt_0 9 rfl rfl)
theorem dX6_shipsAt_10 : decode cX6_shipsAt 10 = .ok (.iaload, 1) := dk_46 (dk_at dksX6_shipsAt_0 10 rfl rfl)
theorem dX6_shipsAt_11 : decode cX6_shipsAt 11 = .ok (.if_icmp .ge 29, 3) := dk_162 0 29 (dk_at dksX6_shipsAt_0 11 rfl rfl)
theorem dX6_shipsAt_14 : decode cX6_shipsAt 14 = .ok (.iload_n 2, 1) := dk_28 (dk_at dksX6_shipsAt_0 14 rfl rfl)
theorem dX6_shipsAt_15 : decode cX6_shipsAt 15 = .ok (.aload_n 0, 1) := dk_42 (dk_at dksX6_shipsAt_0 15 rfl rfl)
theorem dX6_shipsAt_16 : decode cX6_shipsAt 16 = .ok (.iload_n 3, 1) := dk_29 (dk_at dksX6_shipsAt_0 16 rfl rfl)
theorem dX6_shipsAt_17 : decode cX6_shipsAt 17 = .ok (.iconst 3, 1) := dk_6 (dk_at dksX6_shipsAt_0 17 rfl rfl)
theorem dX6_shipsAt_18 : decode cX6_shipsAt 18 = .ok (.invokevirtual 191, 3) := dk_182 0 191 (dk_at dksX6_shipsAt_0 18 rfl rfl)
theorem dX6_shipsAt_21 : decode cX6_shipsAt 21 = .ok (.iload_n 1, 1) := dk_27 (dk_at dksX6_shipsAt_0 21 rfl rfl)
theorem dX6_shipsAt_22 : decode cX6_shipsAt 22 = .ok (.if_icmp .ne 9, 3) := dk_160 0 9 (dk_at dksX6_shipsAt_1 0 rfl rfl)
theorem dX6_shipsAt_25 : decode cX6_shipsAt 25 = .ok (.iconst 1, 1) := dk_4 (dk_at dksX6_shipsAt_1 3 rfl rfl)
theorem dX6_shipsAt_26 : decode cX6_shipsAt 26 = .ok (.iload_n 3, 1) := dk_29 (dk_at dksX6_shipsAt_1 4 rfl rfl)
theorem dX6_shipsAt_27 : decode cX6_shipsAt 27 = .ok (.ishl, 1) := dk_120 (dk_at dksX6_shipsAt_1 5 rfl rfl)
theorem dX6_shipsAt_28 : decode cX6_shipsAt 28 = .ok (.goto 4, 3) := dk_167 0 4 (dk_at dksX6_shipsAt_1 6 rfl rfl)
theorem dX6_shipsAt_31 : decode cX6_shipsAt 31 = .ok (.iconst 0, 1) := dk_3 (dk_at dksX6_shipsAt_1 9 rfl rfl)
theorem dX6_shipsAt_32 : decode cX6_shipsAt 32 = .ok (.ior, 1) := dk_128 (dk_at dksX6_shipsAt_1 10 rfl rfl)
theorem dX6_shipsAt_33 : decode cX6_shipsAt 33 = .ok (.istore_n 2, 1) := dk_61 (dk_at dksX6_shipsAt_1 11 rfl rfl)
theorem dX6_shipsAt_34 : decode cX6_shipsAt 34 = .ok (.iinc 3 1, 3) := dk_132 3 1 (dk_at dksX6_shipsAt_1 12 rfl rfl)
theorem dX6_shipsAt_37 : decode cX6_shipsAt 37 = .ok (.goto (-33), 3) := dk_167 255 223 (dk_at dksX6_shipsAt_1 15 rfl rfl)
theorem dX6_shipsAt_40 : decode cX6_shipsAt 40 = .ok (.iload_n 2, 1) := dk_28 (dk_at dksX6_shipsAt_1 18 rfl rfl)
theorem dX6_shipsAt_41 : decode cX6_shipsAt 41 = .ok (.ireturn, 1) := dk_172 (dk_at dksX6_shipsAt_1 19 rfl rfl)
abbrev cX6_shipIs : ByteArray := prog_30_method_35_code
def yX6_shipIs : MethodName := ⟨RX6, "shipIs", "(II)I"⟩
def dkwX6_shipIs_0 : List UInt8 := [42, 180, 0, 9, 27, 28, 184, 0, 168, 46, 172]
abbrev dktX6_shipIs_0 : List UInt8 := dkwX6_shipIs_0 ++ []
theorem dksX6_shipIs_0 : cX6_shipIs.data.toList.drop 0 = dktX6_shipIs_0 := by decide +kernel
theorem dX6_shipIs_0 : decode cX6_shipIs 0 = .ok (.aload_n 0, 1) := dk_42 (dk_at dksX6_shipIs_0 0 rfl rfl)
theorem dX6_shipIs_1 : decode cX6_shipIs 1 = .ok (.getfield 9, 3) := dk_180 0 9 (dk_at dksX6_shipIs_0 1 rfl rfl)
theorem dX6_shipIs_4 : decode cX6_shipIs 4 = .ok (.iload_n 1, 1) := dk_27 (dk_at dksX6_shipIs_0 4 rfl rfl)
theorem dX6_shipIs_5 : decode cX6_shipIs 5 = .ok (.iload_n 2, 1) := dk_28 (dk_at dksX6_shipIs_0 5 rfl rfl)
theorem dX6_shipIs_6 : decode cX6_shipIs 6 = .ok (.invokestatic 168, 3) := dk_184 0 168 (dk_at dksX6_shipIs_0 6 rfl rfl)
theorem dX6_shipIs_9 : decode cX6_shipIs 9 = .ok (.iaload, 1) := dk_46 (dk_at dksX6_shipIs_0 9 rfl rfl)
theorem dX6_shipIs_10 : decode cX6_shipIs 10 = .ok (.ireturn, 1) := dk_172 (dk_at dksX6_shipIs_0 10 rfl rfl)
abbrev cX6_shipAt : ByteArray := prog_30_method_34_code
def yX6_shipAt : MethodName := ⟨RX6, "shipAt", "(II)I"⟩
def dkwX6_shipAt_0 : List UInt8 := [16, 33, 8, 26, 104, 96, 27, 96, 172]
abbrev dktX6_shipAt_0 : List UInt8 := dkwX6_shipAt_0 ++ []
theorem dksX6_shipAt_0 : cX6_shipAt.data.toList.drop 0 = dktX6_shipAt_0 := by decide +kernel
theorem dX6_shipAt_0 : decode cX6_shipAt 0 = .ok (.bipush 33, 2) := dk_16 33 (dk_at dksX6_shipAt_0 0 rfl rfl)
theorem dX6_shipAt_2 : decode cX6_shipAt 2 = .ok (.iconst 5, 1) := dk_8 (dk_at dksX6_shipAt_0 2 rfl rfl)
theorem dX6_shipAt_3 : decode cX6_shipAt 3 = .ok (.iload_n 0, 1) := dk_26 (dk_at dksX6_shipAt_0 3 rfl rfl)
theorem dX6_shipAt_4 : decode cX6_shipAt 4 = .ok (.imul, 1) := dk_104 (dk_at dksX6_shipAt_0 4 rfl rfl)
theorem dX6_shipAt_5 : decode cX6_shipAt 5 = .ok (.iadd, 1) := dk_96 (dk_at dksX6_shipAt_0 5 rfl rfl)
theorem dX6_shipAt_6 : decode cX6_shipAt 6 = .ok (.iload_n 1, 1) := dk_27 (dk_at dksX6_shipAt_0 6 rfl rfl)
theorem dX6_shipAt_7 : decode cX6_shipAt 7 = .ok (.iadd, 1) := dk_96 (dk_at dksX6_shipAt_0 7 rfl rfl)
theorem dX6_shipAt_8 : decode cX6_shipAt 8 = .ok (.ireturn, 1) := dk_172 (dk_at dksX6_shipAt_0 8 rfl rfl)
abbrev cX6_set : ByteArray := prog_30_method_45_code
def yX6_set : MethodName := ⟨RX6, "set", "(II)I"⟩
def dkwX6_set_3 : List UInt8 := [42, 18, 81, 182, 0, 82, 172]
abbrev dktX6_set_3 : List UInt8 := dkwX6_set_3 ++ []
def dkwX6_set_2 : List UInt8 := [153, 0, 7, 4, 167, 0, 4, 3, 62, 29, 153, 0, 14, 42, 6, 27, 96, 28, 182, 0, 171, 167, 0, 9]
abbrev dktX6_set_2 : List UInt8 := dkwX6_set_2 ++ dktX6_set_3
def dkwX6_set_1 : List UInt8 := [167, 0, 31, 27, 5, 160, 0, 25, 28, 3, 4, 42, 180, 0, 9, 4, 46, 120, 4, 100, 184, 0, 77]
abbrev dktX6_set_1 : List UInt8 := dkwX6_set_1 ++ dktX6_set_2
def dkwX6_set_0 : List UInt8 := [27, 154, 0, 10, 28, 184, 0, 203, 167, 0, 46, 27, 4, 160, 0, 13, 28, 3, 16, 99, 184, 0, 77]
abbrev dktX6_set_0 : List UInt8 := dkwX6_set_0 ++ dktX6_set_1
theorem dksX6_set_0 : cX6_set.data.toList.drop 0 = dktX6_set_0 := by decide +kernel
theorem dksX6_set_1 : cX6_set.data.toList.drop 23 = dktX6_set_1 := dk_seg dksX6_set_0 23 rfl rfl
theorem dksX6_set_2 : cX6_set.data.toList.drop 46 = dktX6_set_2 := dk_seg dksX6_set_1 23 rfl rfl
theorem dksX6_set_3 : cX6_set.data.toList.drop 70 = dktX6_set_3 := dk_seg dksX6_set_2 24 rfl rfl
theorem dX6_set_0 : decode cX6_set 0 = .ok (.iload_n 1, 1) := dk_27 (dk_at dksX6_set_0 0 rfl rfl)
theorem dX6_set_1 : decode cX6_set 1 = .ok (.ifCond .ne 10, 3) := dk_154 0 10 (dk_at dksX6_set_0 1 rfl rfl)
theorem dX6_set_4 : decode cX6_set 4 = .ok (.iload_n 2, 1) := dk_28 (dk_at dksX6_set_0 4 rfl rfl)
theorem dX6_set_5 : decode cX6_set 5 = .ok (.invokestatic 203, 3) := dk_184 0 203 (dk_at dksX6_set_0 5 rfl rfl)
theorem dX6_set_8 : decode cX6_set 8 = .ok (.goto 46, 3) := dk_167 0 46 (dk_at dksX6_set_0 8 rfl rfl)
theorem dX6_set_11 : decode cX6_set 11 = .ok (.iload_n 1, 1) := dk_27 (dk_at dksX6_set_0 11 rfl rfl)
theorem dX6_set_12 : decode cX6_set 12 = .ok (.iconst 1, 1) := dk_4 (dk_at dksX6_set_0 12 rfl rfl)
theorem dX6_set_13 : decode cX6_set 13 = .ok (.if_icmp .ne 13, 3) := dk_160 0 13 (dk_at dksX6_set_0 13 rfl rfl)
theorem dX6_set_16 : decode cX6_set 16 = .ok (.iload_n 2, 1) := dk_28 (dk_at dksX6_set_0 16 rfl rfl)
theorem dX6_set_17 : decode cX6_set 17 = .ok (.iconst 0, 1) := dk_3 (dk_at dksX6_set_0 17 rfl rfl)
theorem dX6_set_18 : decode cX6_set 18 = .ok (.bipush 99, 2) := dk_16 99 (dk_at dksX6_set_0 18 rfl rfl)
theorem dX6_set_20 : decode cX6_set 20 = .ok (.invokestatic 77, 3) := dk_184 0 77 (dk_at dksX6_set_0 20 rfl rfl)
theorem dX6_set_23 : decode cX6_set 23 = .ok (.goto 31, 3) := dk_167 0 31 (dk_at dksX6_set_1 0 rfl rfl)
theorem dX6_set_26 : decode cX6_set 26 = .ok (.iload_n 1, 1) := dk_27 (dk_at dksX6_set_1 3 rfl rfl)
theorem dX6_set_27 : decode cX6_set 27 = .ok (.iconst 2, 1) := dk_5 (dk_at dksX6_set_1 4 rfl rfl)
theorem dX6_set_28 : decode cX6_set 28 = .ok (.if_icmp .ne 25, 3) := dk_160 0 25 (dk_at dksX6_set_1 5 rfl rfl)
theorem dX6_set_31 : decode cX6_set 31 = .ok (.iload_n 2, 1) := dk_28 (dk_at dksX6_set_1 8 rfl rfl)
theorem dX6_set_32 : decode cX6_set 32 = .ok (.iconst 0, 1) := dk_3 (dk_at dksX6_set_1 9 rfl rfl)
theorem dX6_set_33 : decode cX6_set 33 = .ok (.iconst 1, 1) := dk_4 (dk_at dksX6_set_1 10 rfl rfl)
theorem dX6_set_34 : decode cX6_set 34 = .ok (.aload_n 0, 1) := dk_42 (dk_at dksX6_set_1 11 rfl rfl)
theorem dX6_set_35 : decode cX6_set 35 = .ok (.getfield 9, 3) := dk_180 0 9 (dk_at dksX6_set_1 12 rfl rfl)
theorem dX6_set_38 : decode cX6_set 38 = .ok (.iconst 1, 1) := dk_4 (dk_at dksX6_set_1 15 rfl rfl)
theorem dX6_set_39 : decode cX6_set 39 = .ok (.iaload, 1) := dk_46 (dk_at dksX6_set_1 16 rfl rfl)
theorem dX6_set_40 : decode cX6_set 40 = .ok (.ishl, 1) := dk_120 (dk_at dksX6_set_1 17 rfl rfl)
theorem dX6_set_41 : decode cX6_set 41 = .ok (.iconst 1, 1) := dk_4 (dk_at dksX6_set_1 18 rfl rfl)
theorem dX6_set_42 : decode cX6_set 42 = .ok (.isub, 1) := dk_100 (dk_at dksX6_set_1 19 rfl rfl)
theorem dX6_set_43 : decode cX6_set 43 = .ok (.invokestatic 77, 3) := dk_184 0 77 (dk_at dksX6_set_1 20 rfl rfl)
theorem dX6_set_46 : decode cX6_set 46 = .ok (.ifCond .eq 7, 3) := dk_153 0 7 (dk_at dksX6_set_2 0 rfl rfl)
theorem dX6_set_49 : decode cX6_set 49 = .ok (.iconst 1, 1) := dk_4 (dk_at dksX6_set_2 3 rfl rfl)
theorem dX6_set_50 : decode cX6_set 50 = .ok (.goto 4, 3) := dk_167 0 4 (dk_at dksX6_set_2 4 rfl rfl)
theorem dX6_set_53 : decode cX6_set 53 = .ok (.iconst 0, 1) := dk_3 (dk_at dksX6_set_2 7 rfl rfl)
theorem dX6_set_54 : decode cX6_set 54 = .ok (.istore_n 3, 1) := dk_62 (dk_at dksX6_set_2 8 rfl rfl)
theorem dX6_set_55 : decode cX6_set 55 = .ok (.iload_n 3, 1) := dk_29 (dk_at dksX6_set_2 9 rfl rfl)
theorem dX6_set_56 : decode cX6_set 56 = .ok (.ifCond .eq 14, 3) := dk_153 0 14 (dk_at dksX6_set_2 10 rfl rfl)
theorem dX6_set_59 : decode cX6_set 59 = .ok (.aload_n 0, 1) := dk_42 (dk_at dksX6_set_2 13 rfl rfl)
theorem dX6_set_60 : decode cX6_set 60 = .ok (.iconst 3, 1) := dk_6 (dk_at dksX6_set_2 14 rfl rfl)
theorem dX6_set_61 : decode cX6_set 61 = .ok (.iload_n 1, 1) := dk_27 (dk_at dksX6_set_2 15 rfl rfl)
theorem dX6_set_62 : decode cX6_set 62 = .ok (.iadd, 1) := dk_96 (dk_at dksX6_set_2 16 rfl rfl)
theorem dX6_set_63 : decode cX6_set 63 = .ok (.iload_n 2, 1) := dk_28 (dk_at dksX6_set_2 17 rfl rfl)
theorem dX6_set_64 : decode cX6_set 64 = .ok (.invokevirtual 171, 3) := dk_182 0 171 (dk_at dksX6_set_2 18 rfl rfl)
theorem dX6_set_67 : decode cX6_set 67 = .ok (.goto 9, 3) := dk_167 0 9 (dk_at dksX6_set_2 21 rfl rfl)
theorem dX6_set_70 : decode cX6_set 70 = .ok (.aload_n 0, 1) := dk_42 (dk_at dksX6_set_3 0 rfl rfl)
theorem dX6_set_71 : decode cX6_set 71 = .ok (.ldc 81, 2) := dk_18 81 (dk_at dksX6_set_3 1 rfl rfl)
theorem dX6_set_73 : decode cX6_set 73 = .ok (.invokevirtual 82, 3) := dk_182 0 82 (dk_at dksX6_set_3 3 rfl rfl)
theorem dX6_set_76 : decode cX6_set 76 = .ok (.ireturn, 1) := dk_172 (dk_at dksX6_set_3 6 rfl rfl)
abbrev cX6_isYear : ByteArray := prog_30_method_31_code
def yX6_isYear : MethodName := ⟨RX6, "isYear", "(I)Z"⟩
def dkwX6_isYear_0 : List UInt8 := [26, 3, 17, 3, 231, 184, 0, 77, 172]
abbrev dktX6_isYear_0 : List UInt8 := dkwX6_isYear_0 ++ []
theorem dksX6_isYear_0 : cX6_isYear.data.toList.drop 0 = dktX6_isYear_0 := by decide +kernel
theorem dX6_isYear_0 : decode cX6_isYear 0 = .ok (.iload_n 0, 1) := dk_26 (dk_at dksX6_isYear_0 0 rfl rfl)
theorem dX6_isYear_1 : decode cX6_isYear 1 = .ok (.iconst 0, 1) := dk_3 (dk_at dksX6_isYear_0 1 rfl rfl)
theorem dX6_isYear_2 : decode cX6_isYear 2 = .ok (.sipush 999, 3) := dk_17 3 231 (dk_at dksX6_isYear_0 2 rfl rfl)
theorem dX6_isYear_5 : decode cX6_isYear 5 = .ok (.invokestatic 77, 3) := dk_184 0 77 (dk_at dksX6_isYear_0 5 rfl rfl)
theorem dX6_isYear_8 : decode cX6_isYear 8 = .ok (.ireturn, 1) := dk_172 (dk_at dksX6_isYear_0 8 rfl rfl)
abbrev cX6_depth : ByteArray := prog_30_method_46_code
def yX6_depth : MethodName := ⟨RX6, "depth", "(II)I"⟩
def dkwX6_depth_1 : List UInt8 := [182, 0, 184, 167, 0, 9, 42, 18, 81, 182, 0, 82, 172]
abbrev dktX6_depth_1 : List UInt8 := dkwX6_depth_1 ++ []
def dkwX6_depth_0 : List UInt8 := [42, 27, 182, 0, 175, 153, 0, 24, 28, 16, 157, 17, 3, 231, 184, 0, 77, 153, 0, 12, 42, 27, 28]
abbrev dktX6_depth_0 : List UInt8 := dkwX6_depth_0 ++ dktX6_depth_1
theorem dksX6_depth_0 : cX6_depth.data.toList.drop 0 = dktX6_depth_0 := by decide +kernel
theorem dksX6_depth_1 : cX6_depth.data.toList.drop 23 = dktX6_depth_1 := dk_seg dksX6_depth_0 23 rfl rfl
theorem dX6_depth_0 : decode cX6_depth 0 = .ok (.aload_n 0, 1) := dk_42 (dk_at dksX6_depth_0 0 rfl rfl)
theorem dX6_depth_1 : decode cX6_depth 1 = .ok (.iload_n 1, 1) := dk_27 (dk_at dksX6_depth_0 1 rfl rfl)
theorem dX6_depth_2 : decode cX6_depth 2 = .ok (.invokevirtual 175, 3) := dk_182 0 175 (dk_at dksX6_depth_0 2 rfl rfl)
theorem dX6_depth_5 : decode cX6_depth 5 = .ok (.ifCond .eq 24, 3) := dk_153 0 24 (dk_at dksX6_depth_0 5 rfl rfl)
theorem dX6_depth_8 : decode cX6_depth 8 = .ok (.iload_n 2, 1) := dk_28 (dk_at dksX6_depth_0 8 rfl rfl)
theorem dX6_depth_9 : decode cX6_depth 9 = .ok (.bipush (-99), 2) := dk_16 157 (dk_at dksX6_depth_0 9 rfl rfl)
theorem dX6_depth_11 : decode cX6_depth 11 = .ok (.sipush 999, 3) := dk_17 3 231 (dk_at dksX6_depth_0 11 rfl rfl)
theorem dX6_depth_14 : decode cX6_depth 14 = .ok (.invokestatic 77, 3) := dk_184 0 77 (dk_at dksX6_depth_0 14 rfl rfl)
theorem dX6_depth_17 : decode cX6_depth 17 = .ok (.ifCond .eq 12, 3) := dk_153 0 12 (dk_at dksX6_depth_0 17 rfl rfl)
theorem dX6_depth_20 : decode cX6_depth 20 = .ok (.aload_n 0, 1) := dk_42 (dk_at dksX6_depth_0 20 rfl rfl)
theorem dX6_depth_21 : decode cX6_depth 21 = .ok (.iload_n 1, 1) := dk_27 (dk_at dksX6_depth_0 21 rfl rfl)
theorem dX6_depth_22 : decode cX6_depth 22 = .ok (.iload_n 2, 1) := dk_28 (dk_at dksX6_depth_0 22 rfl rfl)
theorem dX6_depth_23 : decode cX6_depth 23 = .ok (.invokevirtual 184, 3) := dk_182 0 184 (dk_at dksX6_depth_1 0 rfl rfl)
theorem dX6_depth_26 : decode cX6_depth 26 = .ok (.goto 9, 3) := dk_167 0 9 (dk_at dksX6_depth_1 3 rfl rfl)
theorem dX6_depth_29 : decode cX6_depth 29 = .ok (.aload_n 0, 1) := dk_42 (dk_at dksX6_depth_1 6 rfl rfl)
theorem dX6_depth_30 : decode cX6_depth 30 = .ok (.ldc 81, 2) := dk_18 81 (dk_at dksX6_depth_1 7 rfl rfl)
theorem dX6_depth_32 : decode cX6_depth 32 = .ok (.invokevirtual 82, 3) := dk_182 0 82 (dk_at dksX6_depth_1 9 rfl rfl)
theorem dX6_depth_35 : decode cX6_depth 35 = .ok (.ireturn, 1) := dk_172 (dk_at dksX6_depth_1 12 rfl rfl)
abbrev cX6_ship : ByteArray := prog_30_method_49_code
def yX6_ship : MethodName := ⟨RX6, "ship", "(III)I"⟩
def dkwX6_ship_2 : List UInt8 := [167, 0, 10, 42, 27, 28, 29, 182, 0, 212, 172]
abbrev dktX6_ship_2 : List UInt8 := dkwX6_ship_2 ++ []
def dkwX6_ship_1 : List UInt8 := [18, 81, 182, 0, 82, 172, 42, 180, 0, 9, 5, 46, 16, 7, 160, 0, 12, 42, 18, 85, 182, 0, 82]
abbrev dktX6_ship_1 : List UInt8 := dkwX6_ship_1 ++ dktX6_ship_2
def dkwX6_ship_0 : List UInt8 := [27, 184, 0, 206, 153, 0, 18, 28, 184, 0, 209, 153, 0, 11, 42, 29, 182, 0, 175, 154, 0, 10, 42]
abbrev dktX6_ship_0 : List UInt8 := dkwX6_ship_0 ++ dktX6_ship_1
theorem dksX6_ship_0 : cX6_ship.data.toList.drop 0 = dktX6_ship_0 := by decide +kernel
theorem dksX6_ship_1 : cX6_ship.data.toList.drop 23 = dktX6_ship_1 := dk_seg dksX6_ship_0 23 rfl rfl
theorem dksX6_ship_2 : cX6_ship.data.toList.drop 46 = dktX6_ship_2 := dk_seg dksX6_ship_1 23 rfl rfl
theorem dX6_ship_0 : decode cX6_ship 0 = .ok (.iload_n 1, 1) := dk_27 (dk_at dksX6_ship_0 0 rfl rfl)
theorem dX6_ship_1 : decode cX6_ship 1 = .ok (.invokestatic 206, 3) := dk_184 0 206 (dk_at dksX6_ship_0 1 rfl rfl)
theorem dX6_ship_4 : decode cX6_ship 4 = .ok (.ifCond .eq 18, 3) := dk_153 0 18 (dk_at dksX6_ship_0 4 rfl rfl)
theorem dX6_ship_7 : decode cX6_ship 7 = .ok (.iload_n 2, 1) := dk_28 (dk_at dksX6_ship_0 7 rfl rfl)
theorem dX6_ship_8 : decode cX6_ship 8 = .ok (.invokestatic 209, 3) := dk_184 0 209 (dk_at dksX6_ship_0 8 rfl rfl)
theorem dX6_ship_11 : decode cX6_ship 11 = .ok (.ifCond .eq 11, 3) := dk_153 0 11 (dk_at dksX6_ship_0 11 rfl rfl)
theorem dX6_ship_14 : decode cX6_ship 14 = .ok (.aload_n 0, 1) := dk_42 (dk_at dksX6_ship_0 14 rfl rfl)
theorem dX6_ship_15 : decode cX6_ship 15 = .ok (.iload_n 3, 1) := dk_29 (dk_at dksX6_ship_0 15 rfl rfl)
theorem dX6_ship_16 : decode cX6_ship 16 = .ok (.invokevirtual 175, 3) := dk_182 0 175 (dk_at dksX6_ship_0 16 rfl rfl)
theorem dX6_ship_19 : decode cX6_ship 19 = .ok (.ifCond .ne 10, 3) := dk_154 0 10 (dk_at dksX6_ship_0 19 rfl rfl)
theorem dX6_ship_22 : decode cX6_ship 22 = .ok (.aload_n 0, 1) := dk_42 (dk_at dksX6_ship_0 22 rfl rfl)
theorem dX6_ship_23 : decode cX6_ship 23 = .ok (.ldc 81, 2) := dk_18 81 (dk_at dksX6_ship_1 0 rfl rfl)
theorem dX6_ship_25 : decode cX6_ship 25 = .ok (.invokevirtual 82, 3) := dk_182 0 82 (dk_at dksX6_ship_1 2 rfl rfl)
theorem dX6_ship_28 : decode cX6_ship 28 = .ok (.ireturn, 1) := dk_172 (dk_at dksX6_ship_1 5 rfl rfl)
theorem dX6_ship_29 : decode cX6_ship 29 = .ok (.aload_n 0, 1) := dk_42 (dk_at dksX6_ship_1 6 rfl rfl)
theorem dX6_ship_30 : decode cX6_ship 30 = .ok (.getfield 9, 3) := dk_180 0 9 (dk_at dksX6_ship_1 7 rfl rfl)
theorem dX6_ship_33 : decode cX6_ship 33 = .ok (.iconst 2, 1) := dk_5 (dk_at dksX6_ship_1 10 rfl rfl)
theorem dX6_ship_34 : decode cX6_ship 34 = .ok (.iaload, 1) := dk_46 (dk_at dksX6_ship_1 11 rfl rfl)
theorem dX6_ship_35 : decode cX6_ship 35 = .ok (.bipush 7, 2) := dk_16 7 (dk_at dksX6_ship_1 12 rfl rfl)
theorem dX6_ship_37 : decode cX6_ship 37 = .ok (.if_icmp .ne 12, 3) := dk_160 0 12 (dk_at dksX6_ship_1 14 rfl rfl)
theorem dX6_ship_40 : decode cX6_ship 40 = .ok (.aload_n 0, 1) := dk_42 (dk_at dksX6_ship_1 17 rfl rfl)
theorem dX6_ship_41 : decode cX6_ship 41 = .ok (.ldc 85, 2) := dk_18 85 (dk_at dksX6_ship_1 18 rfl rfl)
theorem dX6_ship_43 : decode cX6_ship 43 = .ok (.invokevirtual 82, 3) := dk_182 0 82 (dk_at dksX6_ship_1 20 rfl rfl)
theorem dX6_ship_46 : decode cX6_ship 46 = .ok (.goto 10, 3) := dk_167 0 10 (dk_at dksX6_ship_2 0 rfl rfl)
theorem dX6_ship_49 : decode cX6_ship 49 = .ok (.aload_n 0, 1) := dk_42 (dk_at dksX6_ship_2 3 rfl rfl)
theorem dX6_ship_50 : decode cX6_ship 50 = .ok (.iload_n 1, 1) := dk_27 (dk_at dksX6_ship_2 4 rfl rfl)
theorem dX6_ship_51 : decode cX6_ship 51 = .ok (.iload_n 2, 1) := dk_28 (dk_at dksX6_ship_2 5 rfl rfl)
theorem dX6_ship_52 : decode cX6_ship 52 = .ok (.iload_n 3, 1) := dk_29 (dk_at dksX6_ship_2 6 rfl rfl)
theorem dX6_ship_53 : decode cX6_ship 53 = .ok (.invokevirtual 212, 3) := dk_182 0 212 (dk_at dksX6_ship_2 7 rfl rfl)
theorem dX6_ship_56 : decode cX6_ship 56 = .ok (.ireturn, 1) := dk_172 (dk_at dksX6_ship_2 10 rfl rfl)
abbrev cX6_isKindM : ByteArray := prog_30_method_47_code
def yX6_isKindM : MethodName := ⟨RX6, "isKindM", "(I)Z"⟩
def dkwX6_isKindM_0 : List UInt8 := [26, 3, 16, 69, 184, 0, 77, 172]
abbrev dktX6_isKindM_0 : List UInt8 := dkwX6_isKindM_0 ++ []
theorem dksX6_isKindM_0 : cX6_isKindM.data.toList.drop 0 = dktX6_isKindM_0 := by decide +kernel
theorem dX6_isKindM_0 : decode cX6_isKindM 0 = .ok (.iload_n 0, 1) := dk_26 (dk_at dksX6_isKindM_0 0 rfl rfl)
theorem dX6_isKindM_1 : decode cX6_isKindM 1 = .ok (.iconst 0, 1) := dk_3 (dk_at dksX6_isKindM_0 1 rfl rfl)
theorem dX6_isKindM_2 : decode cX6_isKindM 2 = .ok (.bipush 69, 2) := dk_16 69 (dk_at dksX6_isKindM_0 2 rfl rfl)
theorem dX6_isKindM_4 : decode cX6_isKindM 4 = .ok (.invokestatic 77, 3) := dk_184 0 77 (dk_at dksX6_isKindM_0 4 rfl rfl)
theorem dX6_isKindM_7 : decode cX6_isKindM 7 = .ok (.ireturn, 1) := dk_172 (dk_at dksX6_isKindM_0 7 rfl rfl)
abbrev cX6_isDigit : ByteArray := prog_30_method_30_code
def yX6_isDigit : MethodName := ⟨RX6, "isDigit", "(I)Z"⟩
def dkwX6_isDigit_0 : List UInt8 := [26, 3, 16, 9, 184, 0, 77, 172]
abbrev dktX6_isDigit_0 : List UInt8 := dkwX6_isDigit_0 ++ []
theorem dksX6_isDigit_0 : cX6_isDigit.data.toList.drop 0 = dktX6_isDigit_0 := by decide +kernel
theorem dX6_isDigit_0 : decode cX6_isDigit 0 = .ok (.iload_n 0, 1) := dk_26 (dk_at dksX6_isDigit_0 0 rfl rfl)
theorem dX6_isDigit_1 : decode cX6_isDigit 1 = .ok (.iconst 0, 1) := dk_3 (dk_at dksX6_isDigit_0 1 rfl rfl)
theorem dX6_isDigit_2 : decode cX6_isDigit 2 = .ok (.bipush 9, 2) := dk_16 9 (dk_at dksX6_isDigit_0 2 rfl rfl)
theorem dX6_isDigit_4 : decode cX6_isDigit 4 = .ok (.invokestatic 77, 3) := dk_184 0 77 (dk_at dksX6_isDigit_0 4 rfl rfl)
theorem dX6_isDigit_7 : decode cX6_isDigit 7 = .ok (.ireturn, 1) := dk_172 (dk_at dksX6_isDigit_0 7 rfl rfl)
abbrev cX6_shipComes : ByteArray := prog_30_method_48_code
def yX6_shipComes : MethodName := ⟨RX6, "shipComes", "(III)I"⟩
def dkwX6_shipComes_3 : List UInt8 := [3, 79, 42, 180, 0, 9, 5, 92, 46, 4, 96, 79, 21, 4, 172]
abbrev dktX6_shipComes_3 : List UInt8 := dkwX6_shipComes_3 ++ []
def dkwX6_shipComes_2 : List UInt8 := [28, 79, 42, 180, 0, 9, 21, 4, 6, 184, 0, 168, 29, 79, 42, 180, 0, 9, 21, 4, 7, 184, 0, 168]
abbrev dktX6_shipComes_2 : List UInt8 := dkwX6_shipComes_2 ++ dktX6_shipComes_3
def dkwX6_shipComes_1 : List UInt8 := [180, 0, 9, 21, 4, 4, 184, 0, 168, 27, 16, 10, 112, 79, 42, 180, 0, 9, 21, 4, 5, 184, 0, 168]
abbrev dktX6_shipComes_1 : List UInt8 := dkwX6_shipComes_1 ++ dktX6_shipComes_2
def dkwX6_shipComes_0 : List UInt8 := [42, 180, 0, 9, 5, 46, 54, 4, 42, 180, 0, 9, 21, 4, 3, 184, 0, 168, 27, 16, 10, 108, 79, 42]
abbrev dktX6_shipComes_0 : List UInt8 := dkwX6_shipComes_0 ++ dktX6_shipComes_1
theorem dksX6_shipComes_0 : cX6_shipComes.data.toList.drop 0 = dktX6_shipComes_0 := by decide +kernel
theorem dksX6_shipComes_1 : cX6_shipComes.data.toList.drop 24 = dktX6_shipComes_1 := dk_seg dksX6_shipComes_0 24 rfl rfl
theorem dksX6_shipComes_2 : cX6_shipComes.data.toList.drop 48 = dktX6_shipComes_2 := dk_seg dksX6_shipComes_1 24 rfl rfl
theorem dksX6_shipComes_3 : cX6_shipComes.data.toList.drop 72 = dktX6_shipComes_3 := dk_seg dksX6_shipComes_2 24 rfl rfl
theorem dX6_shipComes_0 : decode cX6_shipComes 0 = .ok (.aload_n 0, 1) := dk_42 (dk_at dksX6_shipComes_0 0 rfl rfl)
theorem dX6_shipComes_1 : decode cX6_shipComes 1 = .ok (.getfield 9, 3) := dk_180 0 9 (dk_at dksX6_shipComes_0 1 rfl rfl)
theorem dX6_shipComes_4 : decode cX6_shipComes 4 = .ok (.iconst 2, 1) := dk_5 (dk_at dksX6_shipComes_0 4 rfl rfl)
theorem dX6_shipComes_5 : decode cX6_shipComes 5 = .ok (.iaload, 1) := dk_46 (dk_at dksX6_shipComes_0 5 rfl rfl)
theorem dX6_shipComes_6 : decode cX6_shipComes 6 = .ok (.istore 4, 2) := dk_54 4 (dk_at dksX6_shipComes_0 6 rfl rfl)
theorem dX6_shipComes_8 : decode cX6_shipComes 8 = .ok (.aload_n 0, 1) := dk_42 (dk_at dksX6_shipComes_0 8 rfl rfl)
theorem dX6_shipComes_9 : decode cX6_shipComes 9 = .ok (.getfield 9, 3) := dk_180 0 9 (dk_at dksX6_shipComes_0 9 rfl rfl)
theorem dX6_shipComes_12 : decode cX6_shipComes 12 = .ok (.iload 4, 2) := dk_21 4 (dk_at dksX6_shipComes_0 12 rfl rfl)
theorem dX6_shipComes_14 : decode cX6_shipComes 14 = .ok (.iconst 0, 1) := dk_3 (dk_at dksX6_shipComes_0 14 rfl rfl)
theorem dX6_shipComes_15 : decode cX6_shipComes 15 = .ok (.invokestatic 168, 3) := dk_184 0 168 (dk_at dksX6_shipComes_0 15 rfl rfl)
theorem dX6_shipComes_18 : decode cX6_shipComes 18 = .ok (.iload_n 1, 1) := dk_27 (dk_at dksX6_shipComes_0 18 rfl rfl)
theorem dX6_shipComes_19 : decode cX6_shipComes 19 = .ok (.bipush 10, 2) := dk_16 10 (dk_at dksX6_shipComes_0 19 rfl rfl)
theorem dX6_shipComes_21 : decode cX6_shipComes 21 = .ok (.idiv, 1) := dk_108 (dk_at dksX6_shipComes_0 21 rfl rfl)
theorem dX6_shipComes_22 : decode cX6_shipComes 22 = .ok (.iastore, 1) := dk_79 (dk_at dksX6_shipComes_0 22 rfl rfl)
theorem dX6_shipComes_23 : decode cX6_shipComes 23 = .ok (.aload_n 0, 1) := dk_42 (dk_at dksX6_shipComes_0 23 rfl rfl)
theorem dX6_shipComes_24 : decode cX6_shipComes 24 = .ok (.getfield 9, 3) := dk_180 0 9 (dk_at dksX6_shipComes_1 0 rfl rfl)
theorem dX6_shipComes_27 : decode cX6_shipComes 27 = .ok (.iload 4, 2) := dk_21 4 (dk_at dksX6_shipComes_1 3 rfl rfl)
theorem dX6_shipComes_29 : decode cX6_shipComes 29 = .ok (.iconst 1, 1) := dk_4 (dk_at dksX6_shipComes_1 5 rfl rfl)
theorem dX6_shipComes_30 : decode cX6_shipComes 30 = .ok (.invokestatic 168, 3) := dk_184 0 168 (dk_at dksX6_shipComes_1 6 rfl rfl)
theorem dX6_shipComes_33 : decode cX6_shipComes 33 = .ok (.iload_n 1, 1) := dk_27 (dk_at dksX6_shipComes_1 9 rfl rfl)
theorem dX6_shipComes_34 : decode cX6_shipComes 34 = .ok (.bipush 10, 2) := dk_16 10 (dk_at dksX6_shipComes_1 10 rfl rfl)
theorem dX6_shipComes_36 : decode cX6_shipComes 36 = .ok (.irem, 1) := dk_112 (dk_at dksX6_shipComes_1 12 rfl rfl)
theorem dX6_shipComes_37 : decode cX6_shipComes 37 = .ok (.iastore, 1) := dk_79 (dk_at dksX6_shipComes_1 13 rfl rfl)
theorem dX6_shipComes_38 : decode cX6_shipComes 38 = .ok (.aload_n 0, 1) := dk_42 (dk_at dksX6_shipComes_1 14 rfl rfl)
theorem dX6_shipComes_39 : decode cX6_shipComes 39 = .ok (.getfield 9, 3) := dk_180 0 9 (dk_at dksX6_shipComes_1 15 rfl rfl)
theorem dX6_shipComes_42 : decode cX6_shipComes 42 = .ok (.iload 4, 2) := dk_21 4 (dk_at dksX6_shipComes_1 18 rfl rfl)
theorem dX6_shipComes_44 : decode cX6_shipComes 44 = .ok (.iconst 2, 1) := dk_5 (dk_at dksX6_shipComes_1 20 rfl rfl)
theorem dX6_shipComes_45 : decode cX6_shipComes 45 = .ok (.invokestatic 168, 3) := dk_184 0 168 (dk_at dksX6_shipComes_1 21 rfl rfl)
theorem dX6_shipComes_48 : decode cX6_shipComes 48 = .ok (.iload_n 2, 1) := dk_28 (dk_at dksX6_shipComes_2 0 rfl rfl)
theorem dX6_shipComes_49 : decode cX6_shipComes 49 = .ok (.iastore, 1) := dk_79 (dk_at dksX6_shipComes_2 1 rfl rfl)
theorem dX6_shipComes_50 : decode cX6_shipComes 50 = .ok (.aload_n 0, 1) := dk_42 (dk_at dksX6_shipComes_2 2 rfl rfl)
theorem dX6_shipComes_51 : decode cX6_shipComes 51 = .ok (.getfield 9, 3) := dk_180 0 9 (dk_at dksX6_shipComes_2 3 rfl rfl)
theorem dX6_shipComes_54 : decode cX6_shipComes 54 = .ok (.iload 4, 2) := dk_21 4 (dk_at dksX6_shipComes_2 6 rfl rfl)
theorem dX6_shipComes_56 : decode cX6_shipComes 56 = .ok (.iconst 3, 1) := dk_6 (dk_at dksX6_shipComes_2 8 rfl rfl)
theorem dX6_shipComes_57 : decode cX6_shipComes 57 = .ok (.invokestatic 168, 3) := dk_184 0 168 (dk_at dksX6_shipComes_2 9 rfl rfl)
theorem dX6_shipComes_60 : decode cX6_shipComes 60 = .ok (.iload_n 3, 1) := dk_29 (dk_at dksX6_shipComes_2 12 rfl rfl)
theorem dX6_shipComes_61 : decode cX6_shipComes 61 = .ok (.iastore, 1) := dk_79 (dk_at dksX6_shipComes_2 13 rfl rfl)
theorem dX6_shipComes_62 : decode cX6_shipComes 62 = .ok (.aload_n 0, 1) := dk_42 (dk_at dksX6_shipComes_2 14 rfl rfl)
theorem dX6_shipComes_63 : decode cX6_shipComes 63 = .ok (.getfield 9, 3) := dk_180 0 9 (dk_at dksX6_shipComes_2 15 rfl rfl)
theorem dX6_shipComes_66 : decode cX6_shipComes 66 = .ok (.iload 4, 2) := dk_21 4 (dk_at dksX6_shipComes_2 18 rfl rfl)
theorem dX6_shipComes_68 : decode cX6_shipComes 68 = .ok (.iconst 4, 1) := dk_7 (dk_at dksX6_shipComes_2 20 rfl rfl)
theorem dX6_shipComes_69 : decode cX6_shipComes 69 = .ok (.invokestatic 168, 3) := dk_184 0 168 (dk_at dksX6_shipComes_2 21 rfl rfl)
theorem dX6_shipComes_72 : decode cX6_shipComes 72 = .ok (.iconst 0, 1) := dk_3 (dk_at dksX6_shipComes_3 0 rfl rfl)
theorem dX6_shipComes_73 : decode cX6_shipComes 73 = .ok (.iastore, 1) := dk_79 (dk_at dksX6_shipComes_3 1 rfl rfl)
theorem dX6_shipComes_74 : decode cX6_shipComes 74 = .ok (.aload_n 0, 1) := dk_42 (dk_at dksX6_shipComes_3 2 rfl rfl)
theorem dX6_shipComes_75 : decode cX6_shipComes 75 = .ok (.getfield 9, 3) := dk_180 0 9 (dk_at dksX6_shipComes_3 3 rfl rfl)
theorem dX6_shipComes_78 : decode cX6_shipComes 78 = .ok (.iconst 2, 1) := dk_5 (dk_at dksX6_shipComes_3 6 rfl rfl)
theorem dX6_shipComes_79 : decode cX6_shipComes 79 = .ok (.dup2, 1) := dk_92 (dk_at dksX6_shipComes_3 7 rfl rfl)
theorem dX6_shipComes_80 : decode cX6_shipComes 80 = .ok (.iaload, 1) := dk_46 (dk_at dksX6_shipComes_3 8 rfl rfl)
theorem dX6_shipComes_81 : decode cX6_shipComes 81 = .ok (.iconst 1, 1) := dk_4 (dk_at dksX6_shipComes_3 9 rfl rfl)
theorem dX6_shipComes_82 : decode cX6_shipComes 82 = .ok (.iadd, 1) := dk_96 (dk_at dksX6_shipComes_3 10 rfl rfl)
theorem dX6_shipComes_83 : decode cX6_shipComes 83 = .ok (.iastore, 1) := dk_79 (dk_at dksX6_shipComes_3 11 rfl rfl)
theorem dX6_shipComes_84 : decode cX6_shipComes 84 = .ok (.iload 4, 2) := dk_21 4 (dk_at dksX6_shipComes_3 12 rfl rfl)
theorem dX6_shipComes_86 : decode cX6_shipComes 86 = .ok (.ireturn, 1) := dk_172 (dk_at dksX6_shipComes_3 14 rfl rfl)
abbrev cX6_ofShip : ByteArray := prog_30_method_53_code
def yX6_ofShip : MethodName := ⟨RX6, "ofShip", "(II)I"⟩
def dkwX6_ofShip_2 : List UInt8 := [154, 0, 7, 2, 167, 0, 11, 42, 27, 29, 4, 100, 182, 0, 221, 172]
abbrev dktX6_ofShip_2 : List UInt8 := dkwX6_ofShip_2 ++ []
def dkwX6_ofShip_1 : List UInt8 := [42, 27, 6, 182, 0, 191, 62, 28, 8, 162, 0, 12, 42, 27, 28, 182, 0, 191, 167, 0, 19, 29]
abbrev dktX6_ofShip_1 : List UInt8 := dkwX6_ofShip_1 ++ dktX6_ofShip_2
def dkwX6_ofShip_0 : List UInt8 := [42, 27, 182, 0, 218, 153, 0, 12, 28, 3, 8, 184, 0, 77, 154, 0, 10, 42, 18, 81, 182, 0, 82, 172]
abbrev dktX6_ofShip_0 : List UInt8 := dkwX6_ofShip_0 ++ dktX6_ofShip_1
theorem dksX6_ofShip_0 : cX6_ofShip.data.toList.drop 0 = dktX6_ofShip_0 := by decide +kernel
theorem dksX6_ofShip_1 : cX6_ofShip.data.toList.drop 24 = dktX6_ofShip_1 := dk_seg dksX6_ofShip_0 24 rfl rfl
theorem dksX6_ofShip_2 : cX6_ofShip.data.toList.drop 46 = dktX6_ofShip_2 := dk_seg dksX6_ofShip_1 22 rfl rfl
theorem dX6_ofShip_0 : decode cX6_ofShip 0 = .ok (.aload_n 0, 1) := dk_42 (dk_at dksX6_ofShip_0 0 rfl rfl)
theorem dX6_ofShip_1 : decode cX6_ofShip 1 = .ok (.iload_n 1, 1) := dk_27 (dk_at dksX6_ofShip_0 1 rfl rfl)
theorem dX6_ofShip_2 : decode cX6_ofShip 2 = .ok (.invokevirtual 218, 3) := dk_182 0 218 (dk_at dksX6_ofShip_0 2 rfl rfl)
theorem dX6_ofShip_5 : decode cX6_ofShip 5 = .ok (.ifCond .eq 12, 3) := dk_153 0 12 (dk_at dksX6_ofShip_0 5 rfl rfl)
theorem dX6_ofShip_8 : decode cX6_ofShip 8 = .ok (.iload_n 2, 1) := dk_28 (dk_at dksX6_ofShip_0 8 rfl rfl)
theorem dX6_ofShip_9 : decode cX6_ofShip 9 = .ok (.iconst 0, 1) := dk_3 (dk_at dksX6_ofShip_0 9 rfl rfl)
theorem dX6_ofShip_10 : decode cX6_ofShip 10 = .ok (.iconst 5, 1) := dk_8 (dk_at dksX6_ofShip_0 10 rfl rfl)
theorem dX6_ofShip_11 : decode cX6_ofShip 11 = .ok (.invokestatic 77, 3) := dk_184 0 77 (dk_at dksX6_ofShip_0 11 rfl rfl)
theorem dX6_ofShip_14 : decode cX6_ofShip 14 = .ok (.ifCond .ne 10, 3) := dk_154 0 10 (dk_at dksX6_ofShip_0 14 rfl rfl)
theorem dX6_ofShip_17 : decode cX6_ofShip 17 = .ok (.aload_n 0, 1) := dk_42 (dk_at dksX6_ofShip_0 17 rfl rfl)
theorem dX6_ofShip_18 : decode cX6_ofShip 18 = .ok (.ldc 81, 2) := dk_18 81 (dk_at dksX6_ofShip_0 18 rfl rfl)
theorem dX6_ofShip_20 : decode cX6_ofShip 20 = .ok (.invokevirtual 82, 3) := dk_182 0 82 (dk_at dksX6_ofShip_0 20 rfl rfl)
theorem dX6_ofShip_23 : decode cX6_ofShip 23 = .ok (.ireturn, 1) := dk_172 (dk_at dksX6_ofShip_0 23 rfl rfl)
theorem dX6_ofShip_24 : decode cX6_ofShip 24 = .ok (.aload_n 0, 1) := dk_42 (dk_at dksX6_ofShip_1 0 rfl rfl)
theorem dX6_ofShip_25 : decode cX6_ofShip 25 = .ok (.iload_n 1, 1) := dk_27 (dk_at dksX6_ofShip_1 1 rfl rfl)
theorem dX6_ofShip_26 : decode cX6_ofShip 26 = .ok (.iconst 3, 1) := dk_6 (dk_at dksX6_ofShip_1 2 rfl rfl)
theorem dX6_ofShip_27 : decode cX6_ofShip 27 = .ok (.invokevirtual 191, 3) := dk_182 0 191 (dk_at dksX6_ofShip_1 3 rfl rfl)
theorem dX6_ofShip_30 : decode cX6_ofShip 30 = .ok (.istore_n 3, 1) := dk_62 (dk_at dksX6_ofShip_1 6 rfl rfl)
theorem dX6_ofShip_31 : decode cX6_ofShip 31 = .ok (.iload_n 2, 1) := dk_28 (dk_at dksX6_ofShip_1 7 rfl rfl)
theorem dX6_ofShip_32 : decode cX6_ofShip 32 = .ok (.iconst 5, 1) := dk_8 (dk_at dksX6_ofShip_1 8 rfl rfl)
theorem dX6_ofShip_33 : decode cX6_ofShip 33 = .ok (.if_icmp .ge 12, 3) := dk_162 0 12 (dk_at dksX6_ofShip_1 9 rfl rfl)
theorem dX6_ofShip_36 : decode cX6_ofShip 36 = .ok (.aload_n 0, 1) := dk_42 (dk_at dksX6_ofShip_1 12 rfl rfl)
theorem dX6_ofShip_37 : decode cX6_ofShip 37 = .ok (.iload_n 1, 1) := dk_27 (dk_at dksX6_ofShip_1 13 rfl rfl)
theorem dX6_ofShip_38 : decode cX6_ofShip 38 = .ok (.iload_n 2, 1) := dk_28 (dk_at dksX6_ofShip_1 14 rfl rfl)
theorem dX6_ofShip_39 : decode cX6_ofShip 39 = .ok (.invokevirtual 191, 3) := dk_182 0 191 (dk_at dksX6_ofShip_1 15 rfl rfl)
theorem dX6_ofShip_42 : decode cX6_ofShip 42 = .ok (.goto 19, 3) := dk_167 0 19 (dk_at dksX6_ofShip_1 18 rfl rfl)
theorem dX6_ofShip_45 : decode cX6_ofShip 45 = .ok (.iload_n 3, 1) := dk_29 (dk_at dksX6_ofShip_1 21 rfl rfl)
theorem dX6_ofShip_46 : decode cX6_ofShip 46 = .ok (.ifCond .ne 7, 3) := dk_154 0 7 (dk_at dksX6_ofShip_2 0 rfl rfl)
theorem dX6_ofShip_49 : decode cX6_ofShip 49 = .ok (.iconst (-1), 1) := dk_2 (dk_at dksX6_ofShip_2 3 rfl rfl)
theorem dX6_ofShip_50 : decode cX6_ofShip 50 = .ok (.goto 11, 3) := dk_167 0 11 (dk_at dksX6_ofShip_2 4 rfl rfl)
theorem dX6_ofShip_53 : decode cX6_ofShip 53 = .ok (.aload_n 0, 1) := dk_42 (dk_at dksX6_ofShip_2 7 rfl rfl)
theorem dX6_ofShip_54 : decode cX6_ofShip 54 = .ok (.iload_n 1, 1) := dk_27 (dk_at dksX6_ofShip_2 8 rfl rfl)
theorem dX6_ofShip_55 : decode cX6_ofShip 55 = .ok (.iload_n 3, 1) := dk_29 (dk_at dksX6_ofShip_2 9 rfl rfl)
theorem dX6_ofShip_56 : decode cX6_ofShip 56 = .ok (.iconst 1, 1) := dk_4 (dk_at dksX6_ofShip_2 10 rfl rfl)
theorem dX6_ofShip_57 : decode cX6_ofShip 57 = .ok (.isub, 1) := dk_100 (dk_at dksX6_ofShip_2 11 rfl rfl)
theorem dX6_ofShip_58 : decode cX6_ofShip 58 = .ok (.invokevirtual 221, 3) := dk_182 0 221 (dk_at dksX6_ofShip_2 12 rfl rfl)
theorem dX6_ofShip_61 : decode cX6_ofShip 61 = .ok (.ireturn, 1) := dk_172 (dk_at dksX6_ofShip_2 15 rfl rfl)
abbrev cX6_isShip : ByteArray := prog_30_method_29_code
def yX6_isShip : MethodName := ⟨RX6, "isShip", "(I)Z"⟩
def dkwX6_isShip_0 : List UInt8 := [27, 3, 42, 180, 0, 9, 5, 46, 4, 100, 184, 0, 77, 172]
abbrev dktX6_isShip_0 : List UInt8 := dkwX6_isShip_0 ++ []
theorem dksX6_isShip_0 : cX6_isShip.data.toList.drop 0 = dktX6_isShip_0 := by decide +kernel
theorem dX6_isShip_0 : decode cX6_isShip 0 = .ok (.iload_n 1, 1) := dk_27 (dk_at dksX6_isShip_0 0 rfl rfl)
theorem dX6_isShip_1 : decode cX6_isShip 1 = .ok (.iconst 0, 1) := dk_3 (dk_at dksX6_isShip_0 1 rfl rfl)
theorem dX6_isShip_2 : decode cX6_isShip 2 = .ok (.aload_n 0, 1) := dk_42 (dk_at dksX6_isShip_0 2 rfl rfl)
theorem dX6_isShip_3 : decode cX6_isShip 3 = .ok (.getfield 9, 3) := dk_180 0 9 (dk_at dksX6_isShip_0 3 rfl rfl)
theorem dX6_isShip_6 : decode cX6_isShip 6 = .ok (.iconst 2, 1) := dk_5 (dk_at dksX6_isShip_0 6 rfl rfl)
theorem dX6_isShip_7 : decode cX6_isShip 7 = .ok (.iaload, 1) := dk_46 (dk_at dksX6_isShip_0 7 rfl rfl)
theorem dX6_isShip_8 : decode cX6_isShip 8 = .ok (.iconst 1, 1) := dk_4 (dk_at dksX6_isShip_0 8 rfl rfl)
theorem dX6_isShip_9 : decode cX6_isShip 9 = .ok (.isub, 1) := dk_100 (dk_at dksX6_isShip_0 9 rfl rfl)
theorem dX6_isShip_10 : decode cX6_isShip 10 = .ok (.invokestatic 77, 3) := dk_184 0 77 (dk_at dksX6_isShip_0 10 rfl rfl)
theorem dX6_isShip_13 : decode cX6_isShip 13 = .ok (.ireturn, 1) := dk_172 (dk_at dksX6_isShip_0 13 rfl rfl)
abbrev cX6_believes : ByteArray := prog_30_method_52_code
def yX6_believes : MethodName := ⟨RX6, "believes", "(II)I"⟩
def dkwX6_believes_5 : List UInt8 := [180, 0, 9, 7, 46, 104, 182, 0, 197, 42, 28, 182, 0, 194, 184, 0, 64, 172, 29, 172]
abbrev dktX6_believes_5 : List UInt8 := dkwX6_believes_5 ++ []
def dkwX6_believes_4 : List UInt8 := [182, 0, 194, 29, 184, 0, 70, 172, 29, 42, 28, 182, 0, 194, 184, 0, 64, 172, 42, 28, 5, 42]
abbrev dktX6_believes_4 : List UInt8 := dkwX6_believes_4 ++ dktX6_believes_5
def dkwX6_believes_3 : List UInt8 := [29, 21, 4, 6, 112, 96, 172, 29, 21, 4, 6, 112, 96, 4, 100, 172, 42, 28, 182, 0, 194, 172, 42, 28]
abbrev dktX6_believes_3 : List UInt8 := dkwX6_believes_3 ++ dktX6_believes_4
def dkwX6_believes_2 : List UInt8 := [170, 0, 0, 0, 0, 102, 0, 0, 0, 1, 0, 0, 0, 6, 0, 0, 0, 38, 0, 0, 0, 54, 0, 0, 0, 70, 0, 0, 0, 45, 0, 0, 0, 60, 0, 0, 0, 80]
abbrev dktX6_believes_2 : List UInt8 := dkwX6_believes_2 ++ dktX6_believes_3
def dkwX6_believes_1 : List UInt8 := [182, 0, 191]
abbrev dktX6_believes_1 : List UInt8 := dkwX6_believes_1 ++ dktX6_believes_2
def dkwX6_believes_0 : List UInt8 := [42, 28, 42, 180, 0, 9, 7, 46, 182, 0, 197, 62, 42, 27, 4, 182, 0, 191, 54, 4, 42, 27, 3]
abbrev dktX6_believes_0 : List UInt8 := dkwX6_believes_0 ++ dktX6_believes_1
theorem dksX6_believes_0 : cX6_believes.data.toList.drop 0 = dktX6_believes_0 := by decide +kernel
theorem dksX6_believes_1 : cX6_believes.data.toList.drop 23 = dktX6_believes_1 := dk_seg dksX6_believes_0 23 rfl rfl
theorem dksX6_believes_2 : cX6_believes.data.toList.drop 26 = dktX6_believes_2 := dk_seg dksX6_believes_1 3 rfl rfl
theorem dksX6_believes_3 : cX6_believes.data.toList.drop 64 = dktX6_believes_3 := dk_seg dksX6_believes_2 38 rfl rfl
theorem dksX6_believes_4 : cX6_believes.data.toList.drop 88 = dktX6_believes_4 := dk_seg dksX6_believes_3 24 rfl rfl
theorem dksX6_believes_5 : cX6_believes.data.toList.drop 110 = dktX6_believes_5 := dk_seg dksX6_believes_4 22 rfl rfl
theorem dX6_believes_0 : decode cX6_believes 0 = .ok (.aload_n 0, 1) := dk_42 (dk_at dksX6_believes_0 0 rfl rfl)
theorem dX6_believes_1 : decode cX6_believes 1 = .ok (.iload_n 2, 1) := dk_28 (dk_at dksX6_believes_0 1 rfl rfl)
theorem dX6_believes_2 : decode cX6_believes 2 = .ok (.aload_n 0, 1) := dk_42 (dk_at dksX6_believes_0 2 rfl rfl)
theorem dX6_believes_3 : decode cX6_believes 3 = .ok (.getfield 9, 3) := dk_180 0 9 (dk_at dksX6_believes_0 3 rfl rfl)
theorem dX6_believes_6 : decode cX6_believes 6 = .ok (.iconst 4, 1) := dk_7 (dk_at dksX6_believes_0 6 rfl rfl)
theorem dX6_believes_7 : decode cX6_believes 7 = .ok (.iaload, 1) := dk_46 (dk_at dksX6_believes_0 7 rfl rfl)
theorem dX6_believes_8 : decode cX6_believes 8 = .ok (.invokevirtual 197, 3) := dk_182 0 197 (dk_at dksX6_believes_0 8 rfl rfl)
theorem dX6_believes_11 : decode cX6_believes 11 = .ok (.istore_n 3, 1) := dk_62 (dk_at dksX6_believes_0 11 rfl rfl)
theorem dX6_believes_12 : decode cX6_believes 12 = .ok (.aload_n 0, 1) := dk_42 (dk_at dksX6_believes_0 12 rfl rfl)
theorem dX6_believes_13 : decode cX6_believes 13 = .ok (.iload_n 1, 1) := dk_27 (dk_at dksX6_believes_0 13 rfl rfl)
theorem dX6_believes_14 : decode cX6_believes 14 = .ok (.iconst 1, 1) := dk_4 (dk_at dksX6_believes_0 14 rfl rfl)
theorem dX6_believes_15 : decode cX6_believes 15 = .ok (.invokevirtual 191, 3) := dk_182 0 191 (dk_at dksX6_believes_0 15 rfl rfl)
theorem dX6_believes_18 : decode cX6_believes 18 = .ok (.istore 4, 2) := dk_54 4 (dk_at dksX6_believes_0 18 rfl rfl)
theorem dX6_believes_20 : decode cX6_believes 20 = .ok (.aload_n 0, 1) := dk_42 (dk_at dksX6_believes_0 20 rfl rfl)
theorem dX6_believes_21 : decode cX6_believes 21 = .ok (.iload_n 1, 1) := dk_27 (dk_at dksX6_believes_0 21 rfl rfl)
theorem dX6_believes_22 : decode cX6_believes 22 = .ok (.iconst 0, 1) := dk_3 (dk_at dksX6_believes_0 22 rfl rfl)
theorem dX6_believes_23 : decode cX6_believes 23 = .ok (.invokevirtual 191, 3) := dk_182 0 191 (dk_at dksX6_believes_1 0 rfl rfl)
theorem dX6_believes_26 : decode cX6_believes 26 = .ok (.tableswitch 102 1 6 #[38, 54, 70, 45, 60, 80], 38) := by decide +kernel
theorem dX6_believes_64 : decode cX6_believes 64 = .ok (.iload_n 3, 1) := dk_29 (dk_at dksX6_believes_3 0 rfl rfl)
theorem dX6_believes_65 : decode cX6_believes 65 = .ok (.iload 4, 2) := dk_21 4 (dk_at dksX6_believes_3 1 rfl rfl)
theorem dX6_believes_67 : decode cX6_believes 67 = .ok (.iconst 3, 1) := dk_6 (dk_at dksX6_believes_3 3 rfl rfl)
theorem dX6_believes_68 : decode cX6_believes 68 = .ok (.irem, 1) := dk_112 (dk_at dksX6_believes_3 4 rfl rfl)
theorem dX6_believes_69 : decode cX6_believes 69 = .ok (.iadd, 1) := dk_96 (dk_at dksX6_believes_3 5 rfl rfl)
theorem dX6_believes_70 : decode cX6_believes 70 = .ok (.ireturn, 1) := dk_172 (dk_at dksX6_believes_3 6 rfl rfl)
theorem dX6_believes_71 : decode cX6_believes 71 = .ok (.iload_n 3, 1) := dk_29 (dk_at dksX6_believes_3 7 rfl rfl)
theorem dX6_believes_72 : decode cX6_believes 72 = .ok (.iload 4, 2) := dk_21 4 (dk_at dksX6_believes_3 8 rfl rfl)
theorem dX6_believes_74 : decode cX6_believes 74 = .ok (.iconst 3, 1) := dk_6 (dk_at dksX6_believes_3 10 rfl rfl)
theorem dX6_believes_75 : decode cX6_believes 75 = .ok (.irem, 1) := dk_112 (dk_at dksX6_believes_3 11 rfl rfl)
theorem dX6_believes_76 : decode cX6_believes 76 = .ok (.iadd, 1) := dk_96 (dk_at dksX6_believes_3 12 rfl rfl)
theorem dX6_believes_77 : decode cX6_believes 77 = .ok (.iconst 1, 1) := dk_4 (dk_at dksX6_believes_3 13 rfl rfl)
theorem dX6_believes_78 : decode cX6_believes 78 = .ok (.isub, 1) := dk_100 (dk_at dksX6_believes_3 14 rfl rfl)
theorem dX6_believes_79 : decode cX6_believes 79 = .ok (.ireturn, 1) := dk_172 (dk_at dksX6_believes_3 15 rfl rfl)
theorem dX6_believes_80 : decode cX6_believes 80 = .ok (.aload_n 0, 1) := dk_42 (dk_at dksX6_believes_3 16 rfl rfl)
theorem dX6_believes_81 : decode cX6_believes 81 = .ok (.iload_n 2, 1) := dk_28 (dk_at dksX6_believes_3 17 rfl rfl)
theorem dX6_believes_82 : decode cX6_believes 82 = .ok (.invokevirtual 194, 3) := dk_182 0 194 (dk_at dksX6_believes_3 18 rfl rfl)
theorem dX6_believes_85 : decode cX6_believes 85 = .ok (.ireturn, 1) := dk_172 (dk_at dksX6_believes_3 21 rfl rfl)
theorem dX6_believes_86 : decode cX6_believes 86 = .ok (.aload_n 0, 1) := dk_42 (dk_at dksX6_believes_3 22 rfl rfl)
theorem dX6_believes_87 : decode cX6_believes 87 = .ok (.iload_n 2, 1) := dk_28 (dk_at dksX6_believes_3 23 rfl rfl)
theorem dX6_believes_88 : decode cX6_believes 88 = .ok (.invokevirtual 194, 3) := dk_182 0 194 (dk_at dksX6_believes_4 0 rfl rfl)
theorem dX6_believes_91 : decode cX6_believes 91 = .ok (.iload_n 3, 1) := dk_29 (dk_at dksX6_believes_4 3 rfl rfl)
theorem dX6_believes_92 : decode cX6_believes 92 = .ok (.invokestatic 70, 3) := dk_184 0 70 (dk_at dksX6_believes_4 4 rfl rfl)
theorem dX6_believes_95 : decode cX6_believes 95 = .ok (.ireturn, 1) := dk_172 (dk_at dksX6_believes_4 7 rfl rfl)
theorem dX6_believes_96 : decode cX6_believes 96 = .ok (.iload_n 3, 1) := dk_29 (dk_at dksX6_believes_4 8 rfl rfl)
theorem dX6_believes_97 : decode cX6_believes 97 = .ok (.aload_n 0, 1) := dk_42 (dk_at dksX6_believes_4 9 rfl rfl)
theorem dX6_believes_98 : decode cX6_believes 98 = .ok (.iload_n 2, 1) := dk_28 (dk_at dksX6_believes_4 10 rfl rfl)
theorem dX6_believes_99 : decode cX6_believes 99 = .ok (.invokevirtual 194, 3) := dk_182 0 194 (dk_at dksX6_believes_4 11 rfl rfl)
theorem dX6_believes_102 : decode cX6_believes 102 = .ok (.invokestatic 64, 3) := dk_184 0 64 (dk_at dksX6_believes_4 14 rfl rfl)
theorem dX6_believes_105 : decode cX6_believes 105 = .ok (.ireturn, 1) := dk_172 (dk_at dksX6_believes_4 17 rfl rfl)
theorem dX6_believes_106 : decode cX6_believes 106 = .ok (.aload_n 0, 1) := dk_42 (dk_at dksX6_believes_4 18 rfl rfl)
theorem dX6_believes_107 : decode cX6_believes 107 = .ok (.iload_n 2, 1) := dk_28 (dk_at dksX6_believes_4 19 rfl rfl)
theorem dX6_believes_108 : decode cX6_believes 108 = .ok (.iconst 2, 1) := dk_5 (dk_at dksX6_believes_4 20 rfl rfl)
theorem dX6_believes_109 : decode cX6_believes 109 = .ok (.aload_n 0, 1) := dk_42 (dk_at dksX6_believes_4 21 rfl rfl)
theorem dX6_believes_110 : decode cX6_believes 110 = .ok (.getfield 9, 3) := dk_180 0 9 (dk_at dksX6_believes_5 0 rfl rfl)
theorem dX6_believes_113 : decode cX6_believes 113 = .ok (.iconst 4, 1) := dk_7 (dk_at dksX6_believes_5 3 rfl rfl)
theorem dX6_believes_114 : decode cX6_believes 114 = .ok (.iaload, 1) := dk_46 (dk_at dksX6_believes_5 4 rfl rfl)
theorem dX6_believes_115 : decode cX6_believes 115 = .ok (.imul, 1) := dk_104 (dk_at dksX6_believes_5 5 rfl rfl)
theorem dX6_believes_116 : decode cX6_believes 116 = .ok (.invokevirtual 197, 3) := dk_182 0 197 (dk_at dksX6_believes_5 6 rfl rfl)
theorem dX6_believes_119 : decode cX6_believes 119 = .ok (.aload_n 0, 1) := dk_42 (dk_at dksX6_believes_5 9 rfl rfl)
theorem dX6_believes_120 : decode cX6_believes 120 = .ok (.iload_n 2, 1) := dk_28 (dk_at dksX6_believes_5 10 rfl rfl)
theorem dX6_believes_121 : decode cX6_believes 121 = .ok (.invokevirtual 194, 3) := dk_182 0 194 (dk_at dksX6_believes_5 11 rfl rfl)
theorem dX6_believes_124 : decode cX6_believes 124 = .ok (.invokestatic 64, 3) := dk_184 0 64 (dk_at dksX6_believes_5 14 rfl rfl)
theorem dX6_believes_127 : decode cX6_believes 127 = .ok (.ireturn, 1) := dk_172 (dk_at dksX6_believes_5 17 rfl rfl)
theorem dX6_believes_128 : decode cX6_believes 128 = .ok (.iload_n 3, 1) := dk_29 (dk_at dksX6_believes_5 18 rfl rfl)
theorem dX6_believes_129 : decode cX6_believes 129 = .ok (.ireturn, 1) := dk_172 (dk_at dksX6_believes_5 19 rfl rfl)
abbrev cX6_change : ByteArray := prog_30_method_54_code
def yX6_change : MethodName := ⟨RX6, "change", "(III)I"⟩
def dkwX6_change_3 : List UInt8 := [167, 0, 9, 42, 18, 81, 182, 0, 82, 172]
abbrev dktX6_change_3 : List UInt8 := dkwX6_change_3 ++ []
def dkwX6_change_2 : List UInt8 := [182, 0, 218, 153, 0, 23, 21, 4, 153, 0, 18, 42, 27, 5, 28, 96, 184, 0, 168, 29, 182, 0, 171]
abbrev dktX6_change_2 : List UInt8 := dkwX6_change_2 ++ dktX6_change_3
def dkwX6_change_1 : List UInt8 := [28, 5, 160, 0, 16, 29, 3, 4, 184, 0, 77, 153, 0, 7, 4, 167, 0, 4, 3, 54, 4, 42, 27]
abbrev dktX6_change_1 : List UInt8 := dkwX6_change_1 ++ dktX6_change_2
def dkwX6_change_0 : List UInt8 := [28, 154, 0, 10, 29, 184, 0, 209, 167, 0, 35, 28, 4, 160, 0, 11, 42, 29, 182, 0, 175, 167, 0, 22]
abbrev dktX6_change_0 : List UInt8 := dkwX6_change_0 ++ dktX6_change_1
theorem dksX6_change_0 : cX6_change.data.toList.drop 0 = dktX6_change_0 := by decide +kernel
theorem dksX6_change_1 : cX6_change.data.toList.drop 24 = dktX6_change_1 := dk_seg dksX6_change_0 24 rfl rfl
theorem dksX6_change_2 : cX6_change.data.toList.drop 47 = dktX6_change_2 := dk_seg dksX6_change_1 23 rfl rfl
theorem dksX6_change_3 : cX6_change.data.toList.drop 70 = dktX6_change_3 := dk_seg dksX6_change_2 23 rfl rfl
theorem dX6_change_0 : decode cX6_change 0 = .ok (.iload_n 2, 1) := dk_28 (dk_at dksX6_change_0 0 rfl rfl)
theorem dX6_change_1 : decode cX6_change 1 = .ok (.ifCond .ne 10, 3) := dk_154 0 10 (dk_at dksX6_change_0 1 rfl rfl)
theorem dX6_change_4 : decode cX6_change 4 = .ok (.iload_n 3, 1) := dk_29 (dk_at dksX6_change_0 4 rfl rfl)
theorem dX6_change_5 : decode cX6_change 5 = .ok (.invokestatic 209, 3) := dk_184 0 209 (dk_at dksX6_change_0 5 rfl rfl)
theorem dX6_change_8 : decode cX6_change 8 = .ok (.goto 35, 3) := dk_167 0 35 (dk_at dksX6_change_0 8 rfl rfl)
theorem dX6_change_11 : decode cX6_change 11 = .ok (.iload_n 2, 1) := dk_28 (dk_at dksX6_change_0 11 rfl rfl)
theorem dX6_change_12 : decode cX6_change 12 = .ok (.iconst 1, 1) := dk_4 (dk_at dksX6_change_0 12 rfl rfl)
theorem dX6_change_13 : decode cX6_change 13 = .ok (.if_icmp .ne 11, 3) := dk_160 0 11 (dk_at dksX6_change_0 13 rfl rfl)
theorem dX6_change_16 : decode cX6_change 16 = .ok (.aload_n 0, 1) := dk_42 (dk_at dksX6_change_0 16 rfl rfl)
theorem dX6_change_17 : decode cX6_change 17 = .ok (.iload_n 3, 1) := dk_29 (dk_at dksX6_change_0 17 rfl rfl)
theorem dX6_change_18 : decode cX6_change 18 = .ok (.invokevirtual 175, 3) := dk_182 0 175 (dk_at dksX6_change_0 18 rfl rfl)
theorem dX6_change_21 : decode cX6_change 21 = .ok (.goto 22, 3) := dk_167 0 22 (dk_at dksX6_change_0 21 rfl rfl)
theorem dX6_change_24 : decode cX6_change 24 = .ok (.iload_n 2, 1) := dk_28 (dk_at dksX6_change_1 0 rfl rfl)
theorem dX6_change_25 : decode cX6_change 25 = .ok (.iconst 2, 1) := dk_5 (dk_at dksX6_change_1 1 rfl rfl)
theorem dX6_change_26 : decode cX6_change 26 = .ok (.if_icmp .ne 16, 3) := dk_160 0 16 (dk_at dksX6_change_1 2 rfl rfl)
theorem dX6_change_29 : decode cX6_change 29 = .ok (.iload_n 3, 1) := dk_29 (dk_at dksX6_change_1 5 rfl rfl)
theorem dX6_change_30 : decode cX6_change 30 = .ok (.iconst 0, 1) := dk_3 (dk_at dksX6_change_1 6 rfl rfl)
theorem dX6_change_31 : decode cX6_change 31 = .ok (.iconst 1, 1) := dk_4 (dk_at dksX6_change_1 7 rfl rfl)
theorem dX6_change_32 : decode cX6_change 32 = .ok (.invokestatic 77, 3) := dk_184 0 77 (dk_at dksX6_change_1 8 rfl rfl)
theorem dX6_change_35 : decode cX6_change 35 = .ok (.ifCond .eq 7, 3) := dk_153 0 7 (dk_at dksX6_change_1 11 rfl rfl)
theorem dX6_change_38 : decode cX6_change 38 = .ok (.iconst 1, 1) := dk_4 (dk_at dksX6_change_1 14 rfl rfl)
theorem dX6_change_39 : decode cX6_change 39 = .ok (.goto 4, 3) := dk_167 0 4 (dk_at dksX6_change_1 15 rfl rfl)
theorem dX6_change_42 : decode cX6_change 42 = .ok (.iconst 0, 1) := dk_3 (dk_at dksX6_change_1 18 rfl rfl)
theorem dX6_change_43 : decode cX6_change 43 = .ok (.istore 4, 2) := dk_54 4 (dk_at dksX6_change_1 19 rfl rfl)
theorem dX6_change_45 : decode cX6_change 45 = .ok (.aload_n 0, 1) := dk_42 (dk_at dksX6_change_1 21 rfl rfl)
theorem dX6_change_46 : decode cX6_change 46 = .ok (.iload_n 1, 1) := dk_27 (dk_at dksX6_change_1 22 rfl rfl)
theorem dX6_change_47 : decode cX6_change 47 = .ok (.invokevirtual 218, 3) := dk_182 0 218 (dk_at dksX6_change_2 0 rfl rfl)
theorem dX6_change_50 : decode cX6_change 50 = .ok (.ifCond .eq 23, 3) := dk_153 0 23 (dk_at dksX6_change_2 3 rfl rfl)
theorem dX6_change_53 : decode cX6_change 53 = .ok (.iload 4, 2) := dk_21 4 (dk_at dksX6_change_2 6 rfl rfl)
theorem dX6_change_55 : decode cX6_change 55 = .ok (.ifCond .eq 18, 3) := dk_153 0 18 (dk_at dksX6_change_2 8 rfl rfl)
theorem dX6_change_58 : decode cX6_change 58 = .ok (.aload_n 0, 1) := dk_42 (dk_at dksX6_change_2 11 rfl rfl)
theorem dX6_change_59 : decode cX6_change 59 = .ok (.iload_n 1, 1) := dk_27 (dk_at dksX6_change_2 12 rfl rfl)
theorem dX6_change_60 : decode cX6_change 60 = .ok (.iconst 2, 1) := dk_5 (dk_at dksX6_change_2 13 rfl rfl)
theorem dX6_change_61 : decode cX6_change 61 = .ok (.iload_n 2, 1) := dk_28 (dk_at dksX6_change_2 14 rfl rfl)
theorem dX6_change_62 : decode cX6_change 62 = .ok (.iadd, 1) := dk_96 (dk_at dksX6_change_2 15 rfl rfl)
theorem dX6_change_63 : decode cX6_change 63 = .ok (.invokestatic 168, 3) := dk_184 0 168 (dk_at dksX6_change_2 16 rfl rfl)
theorem dX6_change_66 : decode cX6_change 66 = .ok (.iload_n 3, 1) := dk_29 (dk_at dksX6_change_2 19 rfl rfl)
theorem dX6_change_67 : decode cX6_change 67 = .ok (.invokevirtual 171, 3) := dk_182 0 171 (dk_at dksX6_change_2 20 rfl rfl)
theorem dX6_change_70 : decode cX6_change 70 = .ok (.goto 9, 3) := dk_167 0 9 (dk_at dksX6_change_3 0 rfl rfl)
theorem dX6_change_73 : decode cX6_change 73 = .ok (.aload_n 0, 1) := dk_42 (dk_at dksX6_change_3 3 rfl rfl)
theorem dX6_change_74 : decode cX6_change 74 = .ok (.ldc 81, 2) := dk_18 81 (dk_at dksX6_change_3 4 rfl rfl)
theorem dX6_change_76 : decode cX6_change 76 = .ok (.invokevirtual 82, 3) := dk_182 0 82 (dk_at dksX6_change_3 6 rfl rfl)
theorem dX6_change_79 : decode cX6_change 79 = .ok (.ireturn, 1) := dk_172 (dk_at dksX6_change_3 9 rfl rfl)
abbrev cX6_become : ByteArray := prog_30_method_55_code
def yX6_become : MethodName := ⟨RX6, "become", "(II)I"⟩
def dkwX6_become_2 : List UInt8 := [182, 0, 171, 172]
abbrev dktX6_become_2 : List UInt8 := dkwX6_become_2 ++ []
def dkwX6_become_1 : List UInt8 := [180, 0, 9, 27, 4, 184, 0, 168, 28, 16, 10, 112, 79, 42, 27, 3, 184, 0, 168, 28, 16, 10, 108]
abbrev dktX6_become_1 : List UInt8 := dkwX6_become_1 ++ dktX6_become_2
def dkwX6_become_0 : List UInt8 := [42, 27, 182, 0, 218, 153, 0, 10, 28, 184, 0, 206, 154, 0, 10, 42, 18, 81, 182, 0, 82, 172, 42]
abbrev dktX6_become_0 : List UInt8 := dkwX6_become_0 ++ dktX6_become_1
theorem dksX6_become_0 : cX6_become.data.toList.drop 0 = dktX6_become_0 := by decide +kernel
theorem dksX6_become_1 : cX6_become.data.toList.drop 23 = dktX6_become_1 := dk_seg dksX6_become_0 23 rfl rfl
theorem dksX6_become_2 : cX6_become.data.toList.drop 46 = dktX6_become_2 := dk_seg dksX6_become_1 23 rfl rfl
theorem dX6_become_0 : decode cX6_become 0 = .ok (.aload_n 0, 1) := dk_42 (dk_at dksX6_become_0 0 rfl rfl)
theorem dX6_become_1 : decode cX6_become 1 = .ok (.iload_n 1, 1) := dk_27 (dk_at dksX6_become_0 1 rfl rfl)
theorem dX6_become_2 : decode cX6_become 2 = .ok (.invokevirtual 218, 3) := dk_182 0 218 (dk_at dksX6_become_0 2 rfl rfl)
theorem dX6_become_5 : decode cX6_become 5 = .ok (.ifCond .eq 10, 3) := dk_153 0 10 (dk_at dksX6_become_0 5 rfl rfl)
theorem dX6_become_8 : decode cX6_become 8 = .ok (.iload_n 2, 1) := dk_28 (dk_at dksX6_become_0 8 rfl rfl)
theorem dX6_become_9 : decode cX6_become 9 = .ok (.invokestatic 206, 3) := dk_184 0 206 (dk_at dksX6_become_0 9 rfl rfl)
theorem dX6_become_12 : decode cX6_become 12 = .ok (.ifCond .ne 10, 3) := dk_154 0 10 (dk_at dksX6_become_0 12 rfl rfl)
theorem dX6_become_15 : decode cX6_become 15 = .ok (.aload_n 0, 1) := dk_42 (dk_at dksX6_become_0 15 rfl rfl)
theorem dX6_become_16 : decode cX6_become 16 = .ok (.ldc 81, 2) := dk_18 81 (dk_at dksX6_become_0 16 rfl rfl)
theorem dX6_become_18 : decode cX6_become 18 = .ok (.invokevirtual 82, 3) := dk_182 0 82 (dk_at dksX6_become_0 18 rfl rfl)
theorem dX6_become_21 : decode cX6_become 21 = .ok (.ireturn, 1) := dk_172 (dk_at dksX6_become_0 21 rfl rfl)
theorem dX6_become_22 : decode cX6_become 22 = .ok (.aload_n 0, 1) := dk_42 (dk_at dksX6_become_0 22 rfl rfl)
theorem dX6_become_23 : decode cX6_become 23 = .ok (.getfield 9, 3) := dk_180 0 9 (dk_at dksX6_become_1 0 rfl rfl)
theorem dX6_become_26 : decode cX6_become 26 = .ok (.iload_n 1, 1) := dk_27 (dk_at dksX6_become_1 3 rfl rfl)
theorem dX6_become_27 : decode cX6_become 27 = .ok (.iconst 1, 1) := dk_4 (dk_at dksX6_become_1 4 rfl rfl)
theorem dX6_become_28 : decode cX6_become 28 = .ok (.invokestatic 168, 3) := dk_184 0 168 (dk_at dksX6_become_1 5 rfl rfl)
theorem dX6_become_31 : decode cX6_become 31 = .ok (.iload_n 2, 1) := dk_28 (dk_at dksX6_become_1 8 rfl rfl)
theorem dX6_become_32 : decode cX6_become 32 = .ok (.bipush 10, 2) := dk_16 10 (dk_at dksX6_become_1 9 rfl rfl)
theorem dX6_become_34 : decode cX6_become 34 = .ok (.irem, 1) := dk_112 (dk_at dksX6_become_1 11 rfl rfl)
theorem dX6_become_35 : decode cX6_become 35 = .ok (.iastore, 1) := dk_79 (dk_at dksX6_become_1 12 rfl rfl)
theorem dX6_become_36 : decode cX6_become 36 = .ok (.aload_n 0, 1) := dk_42 (dk_at dksX6_become_1 13 rfl rfl)
theorem dX6_become_37 : decode cX6_become 37 = .ok (.iload_n 1, 1) := dk_27 (dk_at dksX6_become_1 14 rfl rfl)
theorem dX6_become_38 : decode cX6_become 38 = .ok (.iconst 0, 1) := dk_3 (dk_at dksX6_become_1 15 rfl rfl)
theorem dX6_become_39 : decode cX6_become 39 = .ok (.invokestatic 168, 3) := dk_184 0 168 (dk_at dksX6_become_1 16 rfl rfl)
theorem dX6_become_42 : decode cX6_become 42 = .ok (.iload_n 2, 1) := dk_28 (dk_at dksX6_become_1 19 rfl rfl)
theorem dX6_become_43 : decode cX6_become 43 = .ok (.bipush 10, 2) := dk_16 10 (dk_at dksX6_become_1 20 rfl rfl)
theorem dX6_become_45 : decode cX6_become 45 = .ok (.idiv, 1) := dk_108 (dk_at dksX6_become_1 22 rfl rfl)
theorem dX6_become_46 : decode cX6_become 46 = .ok (.invokevirtual 171, 3) := dk_182 0 171 (dk_at dksX6_become_2 0 rfl rfl)
theorem dX6_become_49 : decode cX6_become 49 = .ok (.ireturn, 1) := dk_172 (dk_at dksX6_become_2 3 rfl rfl)
abbrev cX6_as : ByteArray := prog_30_method_56_code
def yX6_as : MethodName := ⟨RX6, "as", "(II)I"⟩
def dkwX6_as_2 : List UInt8 := [18, 227, 182, 0, 82, 172]
abbrev dktX6_as_2 : List UInt8 := dkwX6_as_2 ++ []
def dkwX6_as_1 : List UInt8 := [172, 42, 27, 3, 182, 0, 191, 28, 184, 0, 224, 153, 0, 12, 42, 27, 4, 182, 0, 191, 167, 0, 9, 42]
abbrev dktX6_as_1 : List UInt8 := dkwX6_as_1 ++ dktX6_as_2
def dkwX6_as_0 : List UInt8 := [42, 27, 182, 0, 218, 153, 0, 13, 28, 3, 16, 6, 184, 0, 77, 154, 0, 10, 42, 18, 81, 182, 0, 82]
abbrev dktX6_as_0 : List UInt8 := dkwX6_as_0 ++ dktX6_as_1
theorem dksX6_as_0 : cX6_as.data.toList.drop 0 = dktX6_as_0 := by decide +kernel
theorem dksX6_as_1 : cX6_as.data.toList.drop 24 = dktX6_as_1 := dk_seg dksX6_as_0 24 rfl rfl
theorem dksX6_as_2 : cX6_as.data.toList.drop 48 = dktX6_as_2 := dk_seg dksX6_as_1 24 rfl rfl
theorem dX6_as_0 : decode cX6_as 0 = .ok (.aload_n 0, 1) := dk_42 (dk_at dksX6_as_0 0 rfl rfl)
theorem dX6_as_1 : decode cX6_as 1 = .ok (.iload_n 1, 1) := dk_27 (dk_at dksX6_as_0 1 rfl rfl)
theorem dX6_as_2 : decode cX6_as 2 = .ok (.invokevirtual 218, 3) := dk_182 0 218 (dk_at dksX6_as_0 2 rfl rfl)
theorem dX6_as_5 : decode cX6_as 5 = .ok (.ifCond .eq 13, 3) := dk_153 0 13 (dk_at dksX6_as_0 5 rfl rfl)
theorem dX6_as_8 : decode cX6_as 8 = .ok (.iload_n 2, 1) := dk_28 (dk_at dksX6_as_0 8 rfl rfl)
theorem dX6_as_9 : decode cX6_as 9 = .ok (.iconst 0, 1) := dk_3 (dk_at dksX6_as_0 9 rfl rfl)
theorem dX6_as_10 : decode cX6_as 10 = .ok (.bipush 6, 2) := dk_16 6 (dk_at dksX6_as_0 10 rfl rfl)
theorem dX6_as_12 : decode cX6_as 12 = .ok (.invokestatic 77, 3) := dk_184 0 77 (dk_at dksX6_as_0 12 rfl rfl)
theorem dX6_as_15 : decode cX6_as 15 = .ok (.ifCond .ne 10, 3) := dk_154 0 10 (dk_at dksX6_as_0 15 rfl rfl)
theorem dX6_as_18 : decode cX6_as 18 = .ok (.aload_n 0, 1) := dk_42 (dk_at dksX6_as_0 18 rfl rfl)
theorem dX6_as_19 : decode cX6_as 19 = .ok (.ldc 81, 2) := dk_18 81 (dk_at dksX6_as_0 19 rfl rfl)
theorem dX6_as_21 : decode cX6_as 21 = .ok (.invokevirtual 82, 3) := dk_182 0 82 (dk_at dksX6_as_0 21 rfl rfl)
theorem dX6_as_24 : decode cX6_as 24 = .ok (.ireturn, 1) := dk_172 (dk_at dksX6_as_1 0 rfl rfl)
theorem dX6_as_25 : decode cX6_as 25 = .ok (.aload_n 0, 1) := dk_42 (dk_at dksX6_as_1 1 rfl rfl)
theorem dX6_as_26 : decode cX6_as 26 = .ok (.iload_n 1, 1) := dk_27 (dk_at dksX6_as_1 2 rfl rfl)
theorem dX6_as_27 : decode cX6_as 27 = .ok (.iconst 0, 1) := dk_3 (dk_at dksX6_as_1 3 rfl rfl)
theorem dX6_as_28 : decode cX6_as 28 = .ok (.invokevirtual 191, 3) := dk_182 0 191 (dk_at dksX6_as_1 4 rfl rfl)
theorem dX6_as_31 : decode cX6_as 31 = .ok (.iload_n 2, 1) := dk_28 (dk_at dksX6_as_1 7 rfl rfl)
theorem dX6_as_32 : decode cX6_as 32 = .ok (.invokestatic 224, 3) := dk_184 0 224 (dk_at dksX6_as_1 8 rfl rfl)
theorem dX6_as_35 : decode cX6_as 35 = .ok (.ifCond .eq 12, 3) := dk_153 0 12 (dk_at dksX6_as_1 11 rfl rfl)
theorem dX6_as_38 : decode cX6_as 38 = .ok (.aload_n 0, 1) := dk_42 (dk_at dksX6_as_1 14 rfl rfl)
theorem dX6_as_39 : decode cX6_as 39 = .ok (.iload_n 1, 1) := dk_27 (dk_at dksX6_as_1 15 rfl rfl)
theorem dX6_as_40 : decode cX6_as 40 = .ok (.iconst 1, 1) := dk_4 (dk_at dksX6_as_1 16 rfl rfl)
theorem dX6_as_41 : decode cX6_as 41 = .ok (.invokevirtual 191, 3) := dk_182 0 191 (dk_at dksX6_as_1 17 rfl rfl)
theorem dX6_as_44 : decode cX6_as 44 = .ok (.goto 9, 3) := dk_167 0 9 (dk_at dksX6_as_1 20 rfl rfl)
theorem dX6_as_47 : decode cX6_as 47 = .ok (.aload_n 0, 1) := dk_42 (dk_at dksX6_as_1 23 rfl rfl)
theorem dX6_as_48 : decode cX6_as 48 = .ok (.ldc 227, 2) := dk_18 227 (dk_at dksX6_as_2 0 rfl rfl)
theorem dX6_as_50 : decode cX6_as 50 = .ok (.invokevirtual 82, 3) := dk_182 0 82 (dk_at dksX6_as_2 2 rfl rfl)
theorem dX6_as_53 : decode cX6_as 53 = .ok (.ireturn, 1) := dk_172 (dk_at dksX6_as_2 5 rfl rfl)
abbrev cX6_isUnder : ByteArray := prog_30_method_51_code
def yX6_isUnder : MethodName := ⟨RX6, "isUnder", "(II)Z"⟩
def dkwX6_isUnder_1 : List UInt8 := [167, 0, 4, 3, 172]
abbrev dktX6_isUnder_1 : List UInt8 := dkwX6_isUnder_1 ++ []
def dkwX6_isUnder_0 : List UInt8 := [26, 61, 28, 155, 0, 16, 28, 27, 159, 0, 11, 28, 184, 0, 215, 61, 167, 255, 242, 28, 155, 0, 7, 4]
abbrev dktX6_isUnder_0 : List UInt8 := dkwX6_isUnder_0 ++ dktX6_isUnder_1
theorem dksX6_isUnder_0 : cX6_isUnder.data.toList.drop 0 = dktX6_isUnder_0 := by decide +kernel
theorem dksX6_isUnder_1 : cX6_isUnder.data.toList.drop 24 = dktX6_isUnder_1 := dk_seg dksX6_isUnder_0 24 rfl rfl
theorem dX6_isUnder_0 : decode cX6_isUnder 0 = .ok (.iload_n 0, 1) := dk_26 (dk_at dksX6_isUnder_0 0 rfl rfl)
theorem dX6_isUnder_1 : decode cX6_isUnder 1 = .ok (.istore_n 2, 1) := dk_61 (dk_at dksX6_isUnder_0 1 rfl rfl)
theorem dX6_isUnder_2 : decode cX6_isUnder 2 = .ok (.iload_n 2, 1) := dk_28 (dk_at dksX6_isUnder_0 2 rfl rfl)
theorem dX6_isUnder_3 : decode cX6_isUnder 3 = .ok (.ifCond .lt 16, 3) := dk_155 0 16 (dk_at dksX6_isUnder_0 3 rfl rfl)
theorem dX6_isUnder_6 : decode cX6_isUnder 6 = .ok (.iload_n 2, 1) := dk_28 (dk_at dksX6_isUnder_0 6 rfl rfl)
theorem dX6_isUnder_7 : decode cX6_isUnder 7 = .ok (.iload_n 1, 1) := dk_27 (dk_at dksX6_isUnder_0 7 rfl rfl)
theorem dX6_isUnder_8 : decode cX6_isUnder 8 = .ok (.if_icmp .eq 11, 3) := dk_159 0 11 (dk_at dksX6_isUnder_0 8 rfl rfl)
theorem dX6_isUnder_11 : decode cX6_isUnder 11 = .ok (.iload_n 2, 1) := dk_28 (dk_at dksX6_isUnder_0 11 rfl rfl)
theorem dX6_isUnder_12 : decode cX6_isUnder 12 = .ok (.invokestatic 215, 3) := dk_184 0 215 (dk_at dksX6_isUnder_0 12 rfl rfl)
theorem dX6_isUnder_15 : decode cX6_isUnder 15 = .ok (.istore_n 2, 1) := dk_61 (dk_at dksX6_isUnder_0 15 rfl rfl)
theorem dX6_isUnder_16 : decode cX6_isUnder 16 = .ok (.goto (-14), 3) := dk_167 255 242 (dk_at dksX6_isUnder_0 16 rfl rfl)
theorem dX6_isUnder_19 : decode cX6_isUnder 19 = .ok (.iload_n 2, 1) := dk_28 (dk_at dksX6_isUnder_0 19 rfl rfl)
theorem dX6_isUnder_20 : decode cX6_isUnder 20 = .ok (.ifCond .lt 7, 3) := dk_155 0 7 (dk_at dksX6_isUnder_0 20 rfl rfl)
theorem dX6_isUnder_23 : decode cX6_isUnder 23 = .ok (.iconst 1, 1) := dk_4 (dk_at dksX6_isUnder_0 23 rfl rfl)
theorem dX6_isUnder_24 : decode cX6_isUnder 24 = .ok (.goto 4, 3) := dk_167 0 4 (dk_at dksX6_isUnder_1 0 rfl rfl)
theorem dX6_isUnder_27 : decode cX6_isUnder 27 = .ok (.iconst 0, 1) := dk_3 (dk_at dksX6_isUnder_1 3 rfl rfl)
theorem dX6_isUnder_28 : decode cX6_isUnder 28 = .ok (.ireturn, 1) := dk_172 (dk_at dksX6_isUnder_1 4 rfl rfl)
abbrev cX6_above : ByteArray := prog_30_method_50_code
def yX6_above : MethodName := ⟨RX6, "above", "(I)I"⟩
def dkwX6_above_1 : List UInt8 := [167, 0, 14, 26, 16, 6, 160, 0, 7, 6, 167, 0, 4, 3, 172]
abbrev dktX6_above_1 : List UInt8 := dkwX6_above_1 ++ []
def dkwX6_above_0 : List UInt8 := [26, 154, 0, 7, 2, 167, 0, 32, 26, 7, 160, 0, 7, 4, 167, 0, 23, 26, 8, 160, 0, 7, 5]
abbrev dktX6_above_0 : List UInt8 := dkwX6_above_0 ++ dktX6_above_1
theorem dksX6_above_0 : cX6_above.data.toList.drop 0 = dktX6_above_0 := by decide +kernel
theorem dksX6_above_1 : cX6_above.data.toList.drop 23 = dktX6_above_1 := dk_seg dksX6_above_0 23 rfl rfl
theorem dX6_above_0 : decode cX6_above 0 = .ok (.iload_n 0, 1) := dk_26 (dk_at dksX6_above_0 0 rfl rfl)
theorem dX6_above_1 : decode cX6_above 1 = .ok (.ifCond .ne 7, 3) := dk_154 0 7 (dk_at dksX6_above_0 1 rfl rfl)
theorem dX6_above_4 : decode cX6_above 4 = .ok (.iconst (-1), 1) := dk_2 (dk_at dksX6_above_0 4 rfl rfl)
theorem dX6_above_5 : decode cX6_above 5 = .ok (.goto 32, 3) := dk_167 0 32 (dk_at dksX6_above_0 5 rfl rfl)
theorem dX6_above_8 : decode cX6_above 8 = .ok (.iload_n 0, 1) := dk_26 (dk_at dksX6_above_0 8 rfl rfl)
theorem dX6_above_9 : decode cX6_above 9 = .ok (.iconst 4, 1) := dk_7 (dk_at dksX6_above_0 9 rfl rfl)
theorem dX6_above_10 : decode cX6_above 10 = .ok (.if_icmp .ne 7, 3) := dk_160 0 7 (dk_at dksX6_above_0 10 rfl rfl)
theorem dX6_above_13 : decode cX6_above 13 = .ok (.iconst 1, 1) := dk_4 (dk_at dksX6_above_0 13 rfl rfl)
theorem dX6_above_14 : decode cX6_above 14 = .ok (.goto 23, 3) := dk_167 0 23 (dk_at dksX6_above_0 14 rfl rfl)
theorem dX6_above_17 : decode cX6_above 17 = .ok (.iload_n 0, 1) := dk_26 (dk_at dksX6_above_0 17 rfl rfl)
theorem dX6_above_18 : decode cX6_above 18 = .ok (.iconst 5, 1) := dk_8 (dk_at dksX6_above_0 18 rfl rfl)
theorem dX6_above_19 : decode cX6_above 19 = .ok (.if_icmp .ne 7, 3) := dk_160 0 7 (dk_at dksX6_above_0 19 rfl rfl)
theorem dX6_above_22 : decode cX6_above 22 = .ok (.iconst 2, 1) := dk_5 (dk_at dksX6_above_0 22 rfl rfl)
theorem dX6_above_23 : decode cX6_above 23 = .ok (.goto 14, 3) := dk_167 0 14 (dk_at dksX6_above_1 0 rfl rfl)
theorem dX6_above_26 : decode cX6_above 26 = .ok (.iload_n 0, 1) := dk_26 (dk_at dksX6_above_1 3 rfl rfl)
theorem dX6_above_27 : decode cX6_above 27 = .ok (.bipush 6, 2) := dk_16 6 (dk_at dksX6_above_1 4 rfl rfl)
theorem dX6_above_29 : decode cX6_above 29 = .ok (.if_icmp .ne 7, 3) := dk_160 0 7 (dk_at dksX6_above_1 6 rfl rfl)
theorem dX6_above_32 : decode cX6_above 32 = .ok (.iconst 3, 1) := dk_6 (dk_at dksX6_above_1 9 rfl rfl)
theorem dX6_above_33 : decode cX6_above 33 = .ok (.goto 4, 3) := dk_167 0 4 (dk_at dksX6_above_1 10 rfl rfl)
theorem dX6_above_36 : decode cX6_above 36 = .ok (.iconst 0, 1) := dk_3 (dk_at dksX6_above_1 13 rfl rfl)
theorem dX6_above_37 : decode cX6_above 37 = .ok (.ireturn, 1) := dk_172 (dk_at dksX6_above_1 14 rfl rfl)
abbrev cX6_hours : ByteArray := prog_30_method_61_code
def yX6_hours : MethodName := ⟨RX6, "hours", "(I)I"⟩
def dkwX6_hours_1 : List UInt8 := [96, 17, 39, 15, 164, 0, 10, 42, 18, 174, 182, 0, 82, 172, 42, 27, 182, 0, 237, 42, 182, 0, 240, 172]
abbrev dktX6_hours_1 : List UInt8 := dkwX6_hours_1 ++ []
def dkwX6_hours_0 : List UInt8 := [27, 4, 16, 60, 184, 0, 77, 154, 0, 10, 42, 18, 81, 182, 0, 82, 172, 42, 180, 0, 9, 3, 46, 27]
abbrev dktX6_hours_0 : List UInt8 := dkwX6_hours_0 ++ dktX6_hours_1
theorem dksX6_hours_0 : cX6_hours.data.toList.drop 0 = dktX6_hours_0 := by decide +kernel
theorem dksX6_hours_1 : cX6_hours.data.toList.drop 24 = dktX6_hours_1 := dk_seg dksX6_hours_0 24 rfl rfl
theorem dX6_hours_0 : decode cX6_hours 0 = .ok (.iload_n 1, 1) := dk_27 (dk_at dksX6_hours_0 0 rfl rfl)
theorem dX6_hours_1 : decode cX6_hours 1 = .ok (.iconst 1, 1) := dk_4 (dk_at dksX6_hours_0 1 rfl rfl)
theorem dX6_hours_2 : decode cX6_hours 2 = .ok (.bipush 60, 2) := dk_16 60 (dk_at dksX6_hours_0 2 rfl rfl)
theorem dX6_hours_4 : decode cX6_hours 4 = .ok (.invokestatic 77, 3) := dk_184 0 77 (dk_at dksX6_hours_0 4 rfl rfl)
theorem dX6_hours_7 : decode cX6_hours 7 = .ok (.ifCond .ne 10, 3) := dk_154 0 10 (dk_at dksX6_hours_0 7 rfl rfl)
theorem dX6_hours_10 : decode cX6_hours 10 = .ok (.aload_n 0, 1) := dk_42 (dk_at dksX6_hours_0 10 rfl rfl)
theorem dX6_hours_11 : decode cX6_hours 11 = .ok (.ldc 81, 2) := dk_18 81 (dk_at dksX6_hours_0 11 rfl rfl)
theorem dX6_hours_13 : decode cX6_hours 13 = .ok (.invokevirtual 82, 3) := dk_182 0 82 (dk_at dksX6_hours_0 13 rfl rfl)
theorem dX6_hours_16 : decode cX6_hours 16 = .ok (.ireturn, 1) := dk_172 (dk_at dksX6_hours_0 16 rfl rfl)
theorem dX6_hours_17 : decode cX6_hours 17 = .ok (.aload_n 0, 1) := dk_42 (dk_at dksX6_hours_0 17 rfl rfl)
theorem dX6_hours_18 : decode cX6_hours 18 = .ok (.getfield 9, 3) := dk_180 0 9 (dk_at dksX6_hours_0 18 rfl rfl)
theorem dX6_hours_21 : decode cX6_hours 21 = .ok (.iconst 0, 1) := dk_3 (dk_at dksX6_hours_0 21 rfl rfl)
theorem dX6_hours_22 : decode cX6_hours 22 = .ok (.iaload, 1) := dk_46 (dk_at dksX6_hours_0 22 rfl rfl)
theorem dX6_hours_23 : decode cX6_hours 23 = .ok (.iload_n 1, 1) := dk_27 (dk_at dksX6_hours_0 23 rfl rfl)
theorem dX6_hours_24 : decode cX6_hours 24 = .ok (.iadd, 1) := dk_96 (dk_at dksX6_hours_1 0 rfl rfl)
theorem dX6_hours_25 : decode cX6_hours 25 = .ok (.sipush 9999, 3) := dk_17 39 15 (dk_at dksX6_hours_1 1 rfl rfl)
theorem dX6_hours_28 : decode cX6_hours 28 = .ok (.if_icmp .le 10, 3) := dk_164 0 10 (dk_at dksX6_hours_1 4 rfl rfl)
theorem dX6_hours_31 : decode cX6_hours 31 = .ok (.aload_n 0, 1) := dk_42 (dk_at dksX6_hours_1 7 rfl rfl)
theorem dX6_hours_32 : decode cX6_hours 32 = .ok (.ldc 174, 2) := dk_18 174 (dk_at dksX6_hours_1 8 rfl rfl)
theorem dX6_hours_34 : decode cX6_hours 34 = .ok (.invokevirtual 82, 3) := dk_182 0 82 (dk_at dksX6_hours_1 10 rfl rfl)
theorem dX6_hours_37 : decode cX6_hours 37 = .ok (.ireturn, 1) := dk_172 (dk_at dksX6_hours_1 13 rfl rfl)
theorem dX6_hours_38 : decode cX6_hours 38 = .ok (.aload_n 0, 1) := dk_42 (dk_at dksX6_hours_1 14 rfl rfl)
theorem dX6_hours_39 : decode cX6_hours 39 = .ok (.iload_n 1, 1) := dk_27 (dk_at dksX6_hours_1 15 rfl rfl)
theorem dX6_hours_40 : decode cX6_hours 40 = .ok (.invokevirtual 237, 3) := dk_182 0 237 (dk_at dksX6_hours_1 16 rfl rfl)
theorem dX6_hours_43 : decode cX6_hours 43 = .ok (.aload_n 0, 1) := dk_42 (dk_at dksX6_hours_1 19 rfl rfl)
theorem dX6_hours_44 : decode cX6_hours 44 = .ok (.invokevirtual 240, 3) := dk_182 0 240 (dk_at dksX6_hours_1 20 rfl rfl)
theorem dX6_hours_47 : decode cX6_hours 47 = .ok (.ireturn, 1) := dk_172 (dk_at dksX6_hours_1 23 rfl rfl)
abbrev cX6_hoursGo : ByteArray := prog_30_method_59_code
def yX6_hoursGo : MethodName := ⟨RX6, "hoursGo", "(I)V"⟩
def dkwX6_hoursGo_0 : List UInt8 := [3, 61, 28, 27, 162, 0, 13, 42, 182, 0, 231, 132, 2, 1, 167, 255, 244, 177]
abbrev dktX6_hoursGo_0 : List UInt8 := dkwX6_hoursGo_0 ++ []
theorem dksX6_hoursGo_0 : cX6_hoursGo.data.toList.drop 0 = dktX6_hoursGo_0 := by decide +kernel
theorem dX6_hoursGo_0 : decode cX6_hoursGo 0 = .ok (.iconst 0, 1) := dk_3 (dk_at dksX6_hoursGo_0 0 rfl rfl)
theorem dX6_hoursGo_1 : decode cX6_hoursGo 1 = .ok (.istore_n 2, 1) := dk_61 (dk_at dksX6_hoursGo_0 1 rfl rfl)
theorem dX6_hoursGo_2 : decode cX6_hoursGo 2 = .ok (.iload_n 2, 1) := dk_28 (dk_at dksX6_hoursGo_0 2 rfl rfl)
theorem dX6_hoursGo_3 : decode cX6_hoursGo 3 = .ok (.iload_n 1, 1) := dk_27 (dk_at dksX6_hoursGo_0 3 rfl rfl)
theorem dX6_hoursGo_4 : decode cX6_hoursGo 4 = .ok (.if_icmp .ge 13, 3) := dk_162 0 13 (dk_at dksX6_hoursGo_0 4 rfl rfl)
theorem dX6_hoursGo_7 : decode cX6_hoursGo 7 = .ok (.aload_n 0, 1) := dk_42 (dk_at dksX6_hoursGo_0 7 rfl rfl)
theorem dX6_hoursGo_8 : decode cX6_hoursGo 8 = .ok (.invokevirtual 231, 3) := dk_182 0 231 (dk_at dksX6_hoursGo_0 8 rfl rfl)
theorem dX6_hoursGo_11 : decode cX6_hoursGo 11 = .ok (.iinc 2 1, 3) := dk_132 2 1 (dk_at dksX6_hoursGo_0 11 rfl rfl)
theorem dX6_hoursGo_14 : decode cX6_hoursGo 14 = .ok (.goto (-12), 3) := dk_167 255 244 (dk_at dksX6_hoursGo_0 14 rfl rfl)
theorem dX6_hoursGo_17 : decode cX6_hoursGo 17 = .ok (.return_, 1) := dk_177 (dk_at dksX6_hoursGo_0 17 rfl rfl)
abbrev cX6_hour : ByteArray := prog_30_method_58_code
def yX6_hour : MethodName := ⟨RX6, "hour", "()V"⟩
def dkwX6_hour_2 : List UInt8 := [4, 96, 79, 177]
abbrev dktX6_hour_2 : List UInt8 := dkwX6_hour_2 ++ []
def dkwX6_hour_1 : List UInt8 := [182, 0, 191, 158, 0, 8, 42, 27, 182, 0, 228, 132, 1, 1, 167, 255, 220, 42, 180, 0, 9, 3, 92, 46]
abbrev dktX6_hour_1 : List UInt8 := dkwX6_hour_1 ++ dktX6_hour_2
def dkwX6_hour_0 : List UInt8 := [3, 60, 27, 42, 180, 0, 9, 5, 46, 162, 0, 32, 42, 27, 7, 182, 0, 191, 154, 0, 17, 42, 27, 6]
abbrev dktX6_hour_0 : List UInt8 := dkwX6_hour_0 ++ dktX6_hour_1
theorem dksX6_hour_0 : cX6_hour.data.toList.drop 0 = dktX6_hour_0 := by decide +kernel
theorem dksX6_hour_1 : cX6_hour.data.toList.drop 24 = dktX6_hour_1 := dk_seg dksX6_hour_0 24 rfl rfl
theorem dksX6_hour_2 : cX6_hour.data.toList.drop 48 = dktX6_hour_2 := dk_seg dksX6_hour_1 24 rfl rfl
theorem dX6_hour_0 : decode cX6_hour 0 = .ok (.iconst 0, 1) := dk_3 (dk_at dksX6_hour_0 0 rfl rfl)
theorem dX6_hour_1 : decode cX6_hour 1 = .ok (.istore_n 1, 1) := dk_60 (dk_at dksX6_hour_0 1 rfl rfl)
theorem dX6_hour_2 : decode cX6_hour 2 = .ok (.iload_n 1, 1) := dk_27 (dk_at dksX6_hour_0 2 rfl rfl)
theorem dX6_hour_3 : decode cX6_hour 3 = .ok (.aload_n 0, 1) := dk_42 (dk_at dksX6_hour_0 3 rfl rfl)
theorem dX6_hour_4 : decode cX6_hour 4 = .ok (.getfield 9, 3) := dk_180 0 9 (dk_at dksX6_hour_0 4 rfl rfl)
theorem dX6_hour_7 : decode cX6_hour 7 = .ok (.iconst 2, 1) := dk_5 (dk_at dksX6_hour_0 7 rfl rfl)
theorem dX6_hour_8 : decode cX6_hour 8 = .ok (.iaload, 1) := dk_46 (dk_at dksX6_hour_0 8 rfl rfl)
theorem dX6_hour_9 : decode cX6_hour 9 = .ok (.if_icmp .ge 32, 3) := dk_162 0 32 (dk_at dksX6_hour_0 9 rfl rfl)
theorem dX6_hour_12 : decode cX6_hour 12 = .ok (.aload_n 0, 1) := dk_42 (dk_at dksX6_hour_0 12 rfl rfl)
theorem dX6_hour_13 : decode cX6_hour 13 = .ok (.iload_n 1, 1) := dk_27 (dk_at dksX6_hour_0 13 rfl rfl)
theorem dX6_hour_14 : decode cX6_hour 14 = .ok (.iconst 4, 1) := dk_7 (dk_at dksX6_hour_0 14 rfl rfl)
theorem dX6_hour_15 : decode cX6_hour 15 = .ok (.invokevirtual 191, 3) := dk_182 0 191 (dk_at dksX6_hour_0 15 rfl rfl)
theorem dX6_hour_18 : decode cX6_hour 18 = .ok (.ifCond .ne 17, 3) := dk_154 0 17 (dk_at dksX6_hour_0 18 rfl rfl)
theorem dX6_hour_21 : decode cX6_hour 21 = .ok (.aload_n 0, 1) := dk_42 (dk_at dksX6_hour_0 21 rfl rfl)
theorem dX6_hour_22 : decode cX6_hour 22 = .ok (.iload_n 1, 1) := dk_27 (dk_at dksX6_hour_0 22 rfl rfl)
theorem dX6_hour_23 : decode cX6_hour 23 = .ok (.iconst 3, 1) := dk_6 (dk_at dksX6_hour_0 23 rfl rfl)
theorem dX6_hour_24 : decode cX6_hour 24 = .ok (.invokevirtual 191, 3) := dk_182 0 191 (dk_at dksX6_hour_1 0 rfl rfl)
theorem dX6_hour_27 : decode cX6_hour 27 = .ok (.ifCond .le 8, 3) := dk_158 0 8 (dk_at dksX6_hour_1 3 rfl rfl)
theorem dX6_hour_30 : decode cX6_hour 30 = .ok (.aload_n 0, 1) := dk_42 (dk_at dksX6_hour_1 6 rfl rfl)
theorem dX6_hour_31 : decode cX6_hour 31 = .ok (.iload_n 1, 1) := dk_27 (dk_at dksX6_hour_1 7 rfl rfl)
theorem dX6_hour_32 : decode cX6_hour 32 = .ok (.invokevirtual 228, 3) := dk_182 0 228 (dk_at dksX6_hour_1 8 rfl rfl)
theorem dX6_hour_35 : decode cX6_hour 35 = .ok (.iinc 1 1, 3) := dk_132 1 1 (dk_at dksX6_hour_1 11 rfl rfl)
theorem dX6_hour_38 : decode cX6_hour 38 = .ok (.goto (-36), 3) := dk_167 255 220 (dk_at dksX6_hour_1 14 rfl rfl)
theorem dX6_hour_41 : decode cX6_hour 41 = .ok (.aload_n 0, 1) := dk_42 (dk_at dksX6_hour_1 17 rfl rfl)
theorem dX6_hour_42 : decode cX6_hour 42 = .ok (.getfield 9, 3) := dk_180 0 9 (dk_at dksX6_hour_1 18 rfl rfl)
theorem dX6_hour_45 : decode cX6_hour 45 = .ok (.iconst 0, 1) := dk_3 (dk_at dksX6_hour_1 21 rfl rfl)
theorem dX6_hour_46 : decode cX6_hour 46 = .ok (.dup2, 1) := dk_92 (dk_at dksX6_hour_1 22 rfl rfl)
theorem dX6_hour_47 : decode cX6_hour 47 = .ok (.iaload, 1) := dk_46 (dk_at dksX6_hour_1 23 rfl rfl)
theorem dX6_hour_48 : decode cX6_hour 48 = .ok (.iconst 1, 1) := dk_4 (dk_at dksX6_hour_2 0 rfl rfl)
theorem dX6_hour_49 : decode cX6_hour 49 = .ok (.iadd, 1) := dk_96 (dk_at dksX6_hour_2 1 rfl rfl)
theorem dX6_hour_50 : decode cX6_hour 50 = .ok (.iastore, 1) := dk_79 (dk_at dksX6_hour_2 2 rfl rfl)
theorem dX6_hour_51 : decode cX6_hour 51 = .ok (.return_, 1) := dk_177 (dk_at dksX6_hour_2 3 rfl rfl)
abbrev cX6_sails : ByteArray := prog_30_method_57_code
def yX6_sails : MethodName := ⟨RX6, "sails", "(I)V"⟩
def dkwX6_sails_5 : List UInt8 := [96, 79, 177]
abbrev dktX6_sails_5 : List UInt8 := dkwX6_sails_5 ++ []
def dkwX6_sails_4 : List UInt8 := [160, 0, 26, 42, 28, 4, 96, 182, 0, 175, 153, 0, 16, 42, 180, 0, 9, 27, 6, 184, 0, 168, 28, 4]
abbrev dktX6_sails_4 : List UInt8 := dkwX6_sails_4 ++ dktX6_sails_5
def dkwX6_sails_3 : List UInt8 := [4, 42, 27, 5, 182, 0, 191, 42, 27, 4, 182, 0, 191, 42, 180, 0, 9, 3, 46, 182, 0, 161, 4]
abbrev dktX6_sails_3 : List UInt8 := dkwX6_sails_3 ++ dktX6_sails_4
def dkwX6_sails_2 : List UInt8 := [4, 100, 182, 0, 194, 42, 27, 5, 182, 0, 191, 162, 0, 7, 4, 167, 0, 4, 3, 79, 167, 0, 53, 42]
abbrev dktX6_sails_2 : List UInt8 := dkwX6_sails_2 ++ dktX6_sails_3
def dkwX6_sails_1 : List UInt8 := [42, 180, 0, 9, 27, 6, 184, 0, 168, 28, 4, 100, 79, 42, 180, 0, 9, 27, 7, 184, 0, 168, 42, 28]
abbrev dktX6_sails_1 : List UInt8 := dkwX6_sails_1 ++ dktX6_sails_2
def dkwX6_sails_0 : List UInt8 := [42, 27, 6, 182, 0, 191, 61, 42, 27, 28, 4, 100, 182, 0, 221, 42, 27, 5, 182, 0, 191, 161, 0, 50]
abbrev dktX6_sails_0 : List UInt8 := dkwX6_sails_0 ++ dktX6_sails_1
theorem dksX6_sails_0 : cX6_sails.data.toList.drop 0 = dktX6_sails_0 := by decide +kernel
theorem dksX6_sails_1 : cX6_sails.data.toList.drop 24 = dktX6_sails_1 := dk_seg dksX6_sails_0 24 rfl rfl
theorem dksX6_sails_2 : cX6_sails.data.toList.drop 48 = dktX6_sails_2 := dk_seg dksX6_sails_1 24 rfl rfl
theorem dksX6_sails_3 : cX6_sails.data.toList.drop 72 = dktX6_sails_3 := dk_seg dksX6_sails_2 24 rfl rfl
theorem dksX6_sails_4 : cX6_sails.data.toList.drop 95 = dktX6_sails_4 := dk_seg dksX6_sails_3 23 rfl rfl
theorem dksX6_sails_5 : cX6_sails.data.toList.drop 119 = dktX6_sails_5 := dk_seg dksX6_sails_4 24 rfl rfl
theorem dX6_sails_0 : decode cX6_sails 0 = .ok (.aload_n 0, 1) := dk_42 (dk_at dksX6_sails_0 0 rfl rfl)
theorem dX6_sails_1 : decode cX6_sails 1 = .ok (.iload_n 1, 1) := dk_27 (dk_at dksX6_sails_0 1 rfl rfl)
theorem dX6_sails_2 : decode cX6_sails 2 = .ok (.iconst 3, 1) := dk_6 (dk_at dksX6_sails_0 2 rfl rfl)
theorem dX6_sails_3 : decode cX6_sails 3 = .ok (.invokevirtual 191, 3) := dk_182 0 191 (dk_at dksX6_sails_0 3 rfl rfl)
theorem dX6_sails_6 : decode cX6_sails 6 = .ok (.istore_n 2, 1) := dk_61 (dk_at dksX6_sails_0 6 rfl rfl)
theorem dX6_sails_7 : decode cX6_sails 7 = .ok (.aload_n 0, 1) := dk_42 (dk_at dksX6_sails_0 7 rfl rfl)
theorem dX6_sails_8 : decode cX6_sails 8 = .ok (.iload_n 1, 1) := dk_27 (dk_at dksX6_sails_0 8 rfl rfl)
theorem dX6_sails_9 : decode cX6_sails 9 = .ok (.iload_n 2, 1) := dk_28 (dk_at dksX6_sails_0 9 rfl rfl)
theorem dX6_sails_10 : decode cX6_sails 10 = .ok (.iconst 1, 1) := dk_4 (dk_at dksX6_sails_0 10 rfl rfl)
theorem dX6_sails_11 : decode cX6_sails 11 = .ok (.isub, 1) := dk_100 (dk_at dksX6_sails_0 11 rfl rfl)
theorem dX6_sails_12 : decode cX6_sails 12 = .ok (.invokevirtual 221, 3) := dk_182 0 221 (dk_at dksX6_sails_0 12 rfl rfl)
theorem dX6_sails_15 : decode cX6_sails 15 = .ok (.aload_n 0, 1) := dk_42 (dk_at dksX6_sails_0 15 rfl rfl)
theorem dX6_sails_16 : decode cX6_sails 16 = .ok (.iload_n 1, 1) := dk_27 (dk_at dksX6_sails_0 16 rfl rfl)
theorem dX6_sails_17 : decode cX6_sails 17 = .ok (.iconst 2, 1) := dk_5 (dk_at dksX6_sails_0 17 rfl rfl)
theorem dX6_sails_18 : decode cX6_sails 18 = .ok (.invokevirtual 191, 3) := dk_182 0 191 (dk_at dksX6_sails_0 18 rfl rfl)
theorem dX6_sails_21 : decode cX6_sails 21 = .ok (.if_icmp .lt 50, 3) := dk_161 0 50 (dk_at dksX6_sails_0 21 rfl rfl)
theorem dX6_sails_24 : decode cX6_sails 24 = .ok (.aload_n 0, 1) := dk_42 (dk_at dksX6_sails_1 0 rfl rfl)
theorem dX6_sails_25 : decode cX6_sails 25 = .ok (.getfield 9, 3) := dk_180 0 9 (dk_at dksX6_sails_1 1 rfl rfl)
theorem dX6_sails_28 : decode cX6_sails 28 = .ok (.iload_n 1, 1) := dk_27 (dk_at dksX6_sails_1 4 rfl rfl)
theorem dX6_sails_29 : decode cX6_sails 29 = .ok (.iconst 3, 1) := dk_6 (dk_at dksX6_sails_1 5 rfl rfl)
theorem dX6_sails_30 : decode cX6_sails 30 = .ok (.invokestatic 168, 3) := dk_184 0 168 (dk_at dksX6_sails_1 6 rfl rfl)
theorem dX6_sails_33 : decode cX6_sails 33 = .ok (.iload_n 2, 1) := dk_28 (dk_at dksX6_sails_1 9 rfl rfl)
theorem dX6_sails_34 : decode cX6_sails 34 = .ok (.iconst 1, 1) := dk_4 (dk_at dksX6_sails_1 10 rfl rfl)
theorem dX6_sails_35 : decode cX6_sails 35 = .ok (.isub, 1) := dk_100 (dk_at dksX6_sails_1 11 rfl rfl)
theorem dX6_sails_36 : decode cX6_sails 36 = .ok (.iastore, 1) := dk_79 (dk_at dksX6_sails_1 12 rfl rfl)
theorem dX6_sails_37 : decode cX6_sails 37 = .ok (.aload_n 0, 1) := dk_42 (dk_at dksX6_sails_1 13 rfl rfl)
theorem dX6_sails_38 : decode cX6_sails 38 = .ok (.getfield 9, 3) := dk_180 0 9 (dk_at dksX6_sails_1 14 rfl rfl)
theorem dX6_sails_41 : decode cX6_sails 41 = .ok (.iload_n 1, 1) := dk_27 (dk_at dksX6_sails_1 17 rfl rfl)
theorem dX6_sails_42 : decode cX6_sails 42 = .ok (.iconst 4, 1) := dk_7 (dk_at dksX6_sails_1 18 rfl rfl)
theorem dX6_sails_43 : decode cX6_sails 43 = .ok (.invokestatic 168, 3) := dk_184 0 168 (dk_at dksX6_sails_1 19 rfl rfl)
theorem dX6_sails_46 : decode cX6_sails 46 = .ok (.aload_n 0, 1) := dk_42 (dk_at dksX6_sails_1 22 rfl rfl)
theorem dX6_sails_47 : decode cX6_sails 47 = .ok (.iload_n 2, 1) := dk_28 (dk_at dksX6_sails_1 23 rfl rfl)
theorem dX6_sails_48 : decode cX6_sails 48 = .ok (.iconst 1, 1) := dk_4 (dk_at dksX6_sails_2 0 rfl rfl)
theorem dX6_sails_49 : decode cX6_sails 49 = .ok (.isub, 1) := dk_100 (dk_at dksX6_sails_2 1 rfl rfl)
theorem dX6_sails_50 : decode cX6_sails 50 = .ok (.invokevirtual 194, 3) := dk_182 0 194 (dk_at dksX6_sails_2 2 rfl rfl)
theorem dX6_sails_53 : decode cX6_sails 53 = .ok (.aload_n 0, 1) := dk_42 (dk_at dksX6_sails_2 5 rfl rfl)
theorem dX6_sails_54 : decode cX6_sails 54 = .ok (.iload_n 1, 1) := dk_27 (dk_at dksX6_sails_2 6 rfl rfl)
theorem dX6_sails_55 : decode cX6_sails 55 = .ok (.iconst 2, 1) := dk_5 (dk_at dksX6_sails_2 7 rfl rfl)
theorem dX6_sails_56 : decode cX6_sails 56 = .ok (.invokevirtual 191, 3) := dk_182 0 191 (dk_at dksX6_sails_2 8 rfl rfl)
theorem dX6_sails_59 : decode cX6_sails 59 = .ok (.if_icmp .ge 7, 3) := dk_162 0 7 (dk_at dksX6_sails_2 11 rfl rfl)
theorem dX6_sails_62 : decode cX6_sails 62 = .ok (.iconst 1, 1) := dk_4 (dk_at dksX6_sails_2 14 rfl rfl)
theorem dX6_sails_63 : decode cX6_sails 63 = .ok (.goto 4, 3) := dk_167 0 4 (dk_at dksX6_sails_2 15 rfl rfl)
theorem dX6_sails_66 : decode cX6_sails 66 = .ok (.iconst 0, 1) := dk_3 (dk_at dksX6_sails_2 18 rfl rfl)
theorem dX6_sails_67 : decode cX6_sails 67 = .ok (.iastore, 1) := dk_79 (dk_at dksX6_sails_2 19 rfl rfl)
theorem dX6_sails_68 : decode cX6_sails 68 = .ok (.goto 53, 3) := dk_167 0 53 (dk_at dksX6_sails_2 20 rfl rfl)
theorem dX6_sails_71 : decode cX6_sails 71 = .ok (.aload_n 0, 1) := dk_42 (dk_at dksX6_sails_2 23 rfl rfl)
theorem dX6_sails_72 : decode cX6_sails 72 = .ok (.iconst 1, 1) := dk_4 (dk_at dksX6_sails_3 0 rfl rfl)
theorem dX6_sails_73 : decode cX6_sails 73 = .ok (.aload_n 0, 1) := dk_42 (dk_at dksX6_sails_3 1 rfl rfl)
theorem dX6_sails_74 : decode cX6_sails 74 = .ok (.iload_n 1, 1) := dk_27 (dk_at dksX6_sails_3 2 rfl rfl)
theorem dX6_sails_75 : decode cX6_sails 75 = .ok (.iconst 2, 1) := dk_5 (dk_at dksX6_sails_3 3 rfl rfl)
theorem dX6_sails_76 : decode cX6_sails 76 = .ok (.invokevirtual 191, 3) := dk_182 0 191 (dk_at dksX6_sails_3 4 rfl rfl)
theorem dX6_sails_79 : decode cX6_sails 79 = .ok (.aload_n 0, 1) := dk_42 (dk_at dksX6_sails_3 7 rfl rfl)
theorem dX6_sails_80 : decode cX6_sails 80 = .ok (.iload_n 1, 1) := dk_27 (dk_at dksX6_sails_3 8 rfl rfl)
theorem dX6_sails_81 : decode cX6_sails 81 = .ok (.iconst 1, 1) := dk_4 (dk_at dksX6_sails_3 9 rfl rfl)
theorem dX6_sails_82 : decode cX6_sails 82 = .ok (.invokevirtual 191, 3) := dk_182 0 191 (dk_at dksX6_sails_3 10 rfl rfl)
theorem dX6_sails_85 : decode cX6_sails 85 = .ok (.aload_n 0, 1) := dk_42 (dk_at dksX6_sails_3 13 rfl rfl)
theorem dX6_sails_86 : decode cX6_sails 86 = .ok (.getfield 9, 3) := dk_180 0 9 (dk_at dksX6_sails_3 14 rfl rfl)
theorem dX6_sails_89 : decode cX6_sails 89 = .ok (.iconst 0, 1) := dk_3 (dk_at dksX6_sails_3 17 rfl rfl)
theorem dX6_sails_90 : decode cX6_sails 90 = .ok (.iaload, 1) := dk_46 (dk_at dksX6_sails_3 18 rfl rfl)
theorem dX6_sails_91 : decode cX6_sails 91 = .ok (.invokevirtual 161, 3) := dk_182 0 161 (dk_at dksX6_sails_3 19 rfl rfl)
theorem dX6_sails_94 : decode cX6_sails 94 = .ok (.iconst 1, 1) := dk_4 (dk_at dksX6_sails_3 22 rfl rfl)
theorem dX6_sails_95 : decode cX6_sails 95 = .ok (.if_icmp .ne 26, 3) := dk_160 0 26 (dk_at dksX6_sails_4 0 rfl rfl)
theorem dX6_sails_98 : decode cX6_sails 98 = .ok (.aload_n 0, 1) := dk_42 (dk_at dksX6_sails_4 3 rfl rfl)
theorem dX6_sails_99 : decode cX6_sails 99 = .ok (.iload_n 2, 1) := dk_28 (dk_at dksX6_sails_4 4 rfl rfl)
theorem dX6_sails_100 : decode cX6_sails 100 = .ok (.iconst 1, 1) := dk_4 (dk_at dksX6_sails_4 5 rfl rfl)
theorem dX6_sails_101 : decode cX6_sails 101 = .ok (.iadd, 1) := dk_96 (dk_at dksX6_sails_4 6 rfl rfl)
theorem dX6_sails_102 : decode cX6_sails 102 = .ok (.invokevirtual 175, 3) := dk_182 0 175 (dk_at dksX6_sails_4 7 rfl rfl)
theorem dX6_sails_105 : decode cX6_sails 105 = .ok (.ifCond .eq 16, 3) := dk_153 0 16 (dk_at dksX6_sails_4 10 rfl rfl)
theorem dX6_sails_108 : decode cX6_sails 108 = .ok (.aload_n 0, 1) := dk_42 (dk_at dksX6_sails_4 13 rfl rfl)
theorem dX6_sails_109 : decode cX6_sails 109 = .ok (.getfield 9, 3) := dk_180 0 9 (dk_at dksX6_sails_4 14 rfl rfl)
theorem dX6_sails_112 : decode cX6_sails 112 = .ok (.iload_n 1, 1) := dk_27 (dk_at dksX6_sails_4 17 rfl rfl)
theorem dX6_sails_113 : decode cX6_sails 113 = .ok (.iconst 3, 1) := dk_6 (dk_at dksX6_sails_4 18 rfl rfl)
theorem dX6_sails_114 : decode cX6_sails 114 = .ok (.invokestatic 168, 3) := dk_184 0 168 (dk_at dksX6_sails_4 19 rfl rfl)
theorem dX6_sails_117 : decode cX6_sails 117 = .ok (.iload_n 2, 1) := dk_28 (dk_at dksX6_sails_4 22 rfl rfl)
theorem dX6_sails_118 : decode cX6_sails 118 = .ok (.iconst 1, 1) := dk_4 (dk_at dksX6_sails_4 23 rfl rfl)
theorem dX6_sails_119 : decode cX6_sails 119 = .ok (.iadd, 1) := dk_96 (dk_at dksX6_sails_5 0 rfl rfl)
theorem dX6_sails_120 : decode cX6_sails 120 = .ok (.iastore, 1) := dk_79 (dk_at dksX6_sails_5 1 rfl rfl)
theorem dX6_sails_121 : decode cX6_sails 121 = .ok (.return_, 1) := dk_177 (dk_at dksX6_sails_5 2 rfl rfl)
abbrev cX6_manyIn : ByteArray := prog_30_method_60_code
def yX6_manyIn : MethodName := ⟨RX6, "manyIn", "()I"⟩
def dkwX6_manyIn_0 : List UInt8 := [42, 3, 182, 0, 200, 184, 0, 234, 172]
abbrev dktX6_manyIn_0 : List UInt8 := dkwX6_manyIn_0 ++ []
theorem dksX6_manyIn_0 : cX6_manyIn.data.toList.drop 0 = dktX6_manyIn_0 := by decide +kernel
theorem dX6_manyIn_0 : decode cX6_manyIn 0 = .ok (.aload_n 0, 1) := dk_42 (dk_at dksX6_manyIn_0 0 rfl rfl)
theorem dX6_manyIn_1 : decode cX6_manyIn 1 = .ok (.iconst 0, 1) := dk_3 (dk_at dksX6_manyIn_0 1 rfl rfl)
theorem dX6_manyIn_2 : decode cX6_manyIn 2 = .ok (.invokevirtual 200, 3) := dk_182 0 200 (dk_at dksX6_manyIn_0 2 rfl rfl)
theorem dX6_manyIn_5 : decode cX6_manyIn 5 = .ok (.invokestatic 234, 3) := dk_184 0 234 (dk_at dksX6_manyIn_0 5 rfl rfl)
theorem dX6_manyIn_8 : decode cX6_manyIn 8 = .ok (.ireturn, 1) := dk_172 (dk_at dksX6_manyIn_0 8 rfl rfl)
abbrev cX6_bits : ByteArray := prog_30_method_26_code
def yX6_bits : MethodName := ⟨RX6, "bits", "(I)I"⟩
def dkwX6_bits_0 : List UInt8 := [3, 60, 26, 61, 28, 153, 0, 15, 132, 1, 1, 28, 28, 4, 100, 126, 61, 167, 255, 243, 27, 172]
abbrev dktX6_bits_0 : List UInt8 := dkwX6_bits_0 ++ []
theorem dksX6_bits_0 : cX6_bits.data.toList.drop 0 = dktX6_bits_0 := by decide +kernel
theorem dX6_bits_0 : decode cX6_bits 0 = .ok (.iconst 0, 1) := dk_3 (dk_at dksX6_bits_0 0 rfl rfl)
theorem dX6_bits_1 : decode cX6_bits 1 = .ok (.istore_n 1, 1) := dk_60 (dk_at dksX6_bits_0 1 rfl rfl)
theorem dX6_bits_2 : decode cX6_bits 2 = .ok (.iload_n 0, 1) := dk_26 (dk_at dksX6_bits_0 2 rfl rfl)
theorem dX6_bits_3 : decode cX6_bits 3 = .ok (.istore_n 2, 1) := dk_61 (dk_at dksX6_bits_0 3 rfl rfl)
theorem dX6_bits_4 : decode cX6_bits 4 = .ok (.iload_n 2, 1) := dk_28 (dk_at dksX6_bits_0 4 rfl rfl)
theorem dX6_bits_5 : decode cX6_bits 5 = .ok (.ifCond .eq 15, 3) := dk_153 0 15 (dk_at dksX6_bits_0 5 rfl rfl)
theorem dX6_bits_8 : decode cX6_bits 8 = .ok (.iinc 1 1, 3) := dk_132 1 1 (dk_at dksX6_bits_0 8 rfl rfl)
theorem dX6_bits_11 : decode cX6_bits 11 = .ok (.iload_n 2, 1) := dk_28 (dk_at dksX6_bits_0 11 rfl rfl)
theorem dX6_bits_12 : decode cX6_bits 12 = .ok (.iload_n 2, 1) := dk_28 (dk_at dksX6_bits_0 12 rfl rfl)
theorem dX6_bits_13 : decode cX6_bits 13 = .ok (.iconst 1, 1) := dk_4 (dk_at dksX6_bits_0 13 rfl rfl)
theorem dX6_bits_14 : decode cX6_bits 14 = .ok (.isub, 1) := dk_100 (dk_at dksX6_bits_0 14 rfl rfl)
theorem dX6_bits_15 : decode cX6_bits 15 = .ok (.iand, 1) := dk_126 (dk_at dksX6_bits_0 15 rfl rfl)
theorem dX6_bits_16 : decode cX6_bits 16 = .ok (.istore_n 2, 1) := dk_61 (dk_at dksX6_bits_0 16 rfl rfl)
theorem dX6_bits_17 : decode cX6_bits 17 = .ok (.goto (-13), 3) := dk_167 255 243 (dk_at dksX6_bits_0 17 rfl rfl)
theorem dX6_bits_20 : decode cX6_bits 20 = .ok (.iload_n 1, 1) := dk_27 (dk_at dksX6_bits_0 20 rfl rfl)
theorem dX6_bits_21 : decode cX6_bits 21 = .ok (.ireturn, 1) := dk_172 (dk_at dksX6_bits_0 21 rfl rfl)
abbrev cX6_loose : ByteArray := prog_30_method_63_code
def yX6_loose : MethodName := ⟨RX6, "loose", "(I)I"⟩
def dkwX6_loose_3 : List UInt8 := [182, 0, 240, 172]
abbrev dktX6_loose_3 : List UInt8 := dkwX6_loose_3 ++ []
def dkwX6_loose_2 : List UInt8 := [180, 0, 9, 7, 42, 182, 0, 244, 16, 100, 112, 79, 42, 182, 0, 231, 132, 2, 1, 167, 255, 231, 42]
abbrev dktX6_loose_2 : List UInt8 := dkwX6_loose_2 ++ dktX6_loose_3
def dkwX6_loose_1 : List UInt8 := [96, 17, 39, 15, 164, 0, 10, 42, 18, 174, 182, 0, 82, 172, 3, 61, 28, 27, 162, 0, 26, 42]
abbrev dktX6_loose_1 : List UInt8 := dkwX6_loose_1 ++ dktX6_loose_2
def dkwX6_loose_0 : List UInt8 := [27, 4, 16, 40, 184, 0, 77, 154, 0, 10, 42, 18, 81, 182, 0, 82, 172, 42, 180, 0, 9, 3, 46, 27]
abbrev dktX6_loose_0 : List UInt8 := dkwX6_loose_0 ++ dktX6_loose_1
theorem dksX6_loose_0 : cX6_loose.data.toList.drop 0 = dktX6_loose_0 := by decide +kernel
theorem dksX6_loose_1 : cX6_loose.data.toList.drop 24 = dktX6_loose_1 := dk_seg dksX6_loose_0 24 rfl rfl
theorem dksX6_loose_2 : cX6_loose.data.toList.drop 46 = dktX6_loose_2 := dk_seg dksX6_loose_1 22 rfl rfl
theorem dksX6_loose_3 : cX6_loose.data.toList.drop 69 = dktX6_loose_3 := dk_seg dksX6_loose_2 23 rfl rfl
theorem dX6_loose_0 : decode cX6_loose 0 = .ok (.iload_n 1, 1) := dk_27 (dk_at dksX6_loose_0 0 rfl rfl)
theorem dX6_loose_1 : decode cX6_loose 1 = .ok (.iconst 1, 1) := dk_4 (dk_at dksX6_loose_0 1 rfl rfl)
theorem dX6_loose_2 : decode cX6_loose 2 = .ok (.bipush 40, 2) := dk_16 40 (dk_at dksX6_loose_0 2 rfl rfl)
theorem dX6_loose_4 : decode cX6_loose 4 = .ok (.invokestatic 77, 3) := dk_184 0 77 (dk_at dksX6_loose_0 4 rfl rfl)
theorem dX6_loose_7 : decode cX6_loose 7 = .ok (.ifCond .ne 10, 3) := dk_154 0 10 (dk_at dksX6_loose_0 7 rfl rfl)
theorem dX6_loose_10 : decode cX6_loose 10 = .ok (.aload_n 0, 1) := dk_42 (dk_at dksX6_loose_0 10 rfl rfl)
theorem dX6_loose_11 : decode cX6_loose 11 = .ok (.ldc 81, 2) := dk_18 81 (dk_at dksX6_loose_0 11 rfl rfl)
theorem dX6_loose_13 : decode cX6_loose 13 = .ok (.invokevirtual 82, 3) := dk_182 0 82 (dk_at dksX6_loose_0 13 rfl rfl)
theorem dX6_loose_16 : decode cX6_loose 16 = .ok (.ireturn, 1) := dk_172 (dk_at dksX6_loose_0 16 rfl rfl)
theorem dX6_loose_17 : decode cX6_loose 17 = .ok (.aload_n 0, 1) := dk_42 (dk_at dksX6_loose_0 17 rfl rfl)
theorem dX6_loose_18 : decode cX6_loose 18 = .ok (.getfield 9, 3) := dk_180 0 9 (dk_at dksX6_loose_0 18 rfl rfl)
theorem dX6_loose_21 : decode cX6_loose 21 = .ok (.iconst 0, 1) := dk_3 (dk_at dksX6_loose_0 21 rfl rfl)
theorem dX6_loose_22 : decode cX6_loose 22 = .ok (.iaload, 1) := dk_46 (dk_at dksX6_loose_0 22 rfl rfl)
theorem dX6_loose_23 : decode cX6_loose 23 = .ok (.iload_n 1, 1) := dk_27 (dk_at dksX6_loose_0 23 rfl rfl)
theorem dX6_loose_24 : decode cX6_loose 24 = .ok (.iadd, 1) := dk_96 (dk_at dksX6_loose_1 0 rfl rfl)
theorem dX6_loose_25 : decode cX6_loose 25 = .ok (.sipush 9999, 3) := dk_17 39 15 (dk_at dksX6_loose_1 1 rfl rfl)
theorem dX6_loose_28 : decode cX6_loose 28 = .ok (.if_icmp .le 10, 3) := dk_164 0 10 (dk_at dksX6_loose_1 4 rfl rfl)
theorem dX6_loose_31 : decode cX6_loose 31 = .ok (.aload_n 0, 1) := dk_42 (dk_at dksX6_loose_1 7 rfl rfl)
theorem dX6_loose_32 : decode cX6_loose 32 = .ok (.ldc 174, 2) := dk_18 174 (dk_at dksX6_loose_1 8 rfl rfl)
theorem dX6_loose_34 : decode cX6_loose 34 = .ok (.invokevirtual 82, 3) := dk_182 0 82 (dk_at dksX6_loose_1 10 rfl rfl)
theorem dX6_loose_37 : decode cX6_loose 37 = .ok (.ireturn, 1) := dk_172 (dk_at dksX6_loose_1 13 rfl rfl)
theorem dX6_loose_38 : decode cX6_loose 38 = .ok (.iconst 0, 1) := dk_3 (dk_at dksX6_loose_1 14 rfl rfl)
theorem dX6_loose_39 : decode cX6_loose 39 = .ok (.istore_n 2, 1) := dk_61 (dk_at dksX6_loose_1 15 rfl rfl)
theorem dX6_loose_40 : decode cX6_loose 40 = .ok (.iload_n 2, 1) := dk_28 (dk_at dksX6_loose_1 16 rfl rfl)
theorem dX6_loose_41 : decode cX6_loose 41 = .ok (.iload_n 1, 1) := dk_27 (dk_at dksX6_loose_1 17 rfl rfl)
theorem dX6_loose_42 : decode cX6_loose 42 = .ok (.if_icmp .ge 26, 3) := dk_162 0 26 (dk_at dksX6_loose_1 18 rfl rfl)
theorem dX6_loose_45 : decode cX6_loose 45 = .ok (.aload_n 0, 1) := dk_42 (dk_at dksX6_loose_1 21 rfl rfl)
theorem dX6_loose_46 : decode cX6_loose 46 = .ok (.getfield 9, 3) := dk_180 0 9 (dk_at dksX6_loose_2 0 rfl rfl)
theorem dX6_loose_49 : decode cX6_loose 49 = .ok (.iconst 4, 1) := dk_7 (dk_at dksX6_loose_2 3 rfl rfl)
theorem dX6_loose_50 : decode cX6_loose 50 = .ok (.aload_n 0, 1) := dk_42 (dk_at dksX6_loose_2 4 rfl rfl)
theorem dX6_loose_51 : decode cX6_loose 51 = .ok (.invokevirtual 244, 3) := dk_182 0 244 (dk_at dksX6_loose_2 5 rfl rfl)
theorem dX6_loose_54 : decode cX6_loose 54 = .ok (.bipush 100, 2) := dk_16 100 (dk_at dksX6_loose_2 8 rfl rfl)
theorem dX6_loose_56 : decode cX6_loose 56 = .ok (.irem, 1) := dk_112 (dk_at dksX6_loose_2 10 rfl rfl)
theorem dX6_loose_57 : decode cX6_loose 57 = .ok (.iastore, 1) := dk_79 (dk_at dksX6_loose_2 11 rfl rfl)
theorem dX6_loose_58 : decode cX6_loose 58 = .ok (.aload_n 0, 1) := dk_42 (dk_at dksX6_loose_2 12 rfl rfl)
theorem dX6_loose_59 : decode cX6_loose 59 = .ok (.invokevirtual 231, 3) := dk_182 0 231 (dk_at dksX6_loose_2 13 rfl rfl)
theorem dX6_loose_62 : decode cX6_loose 62 = .ok (.iinc 2 1, 3) := dk_132 2 1 (dk_at dksX6_loose_2 16 rfl rfl)
theorem dX6_loose_65 : decode cX6_loose 65 = .ok (.goto (-25), 3) := dk_167 255 231 (dk_at dksX6_loose_2 19 rfl rfl)
theorem dX6_loose_68 : decode cX6_loose 68 = .ok (.aload_n 0, 1) := dk_42 (dk_at dksX6_loose_2 22 rfl rfl)
theorem dX6_loose_69 : decode cX6_loose 69 = .ok (.invokevirtual 240, 3) := dk_182 0 240 (dk_at dksX6_loose_3 0 rfl rfl)
theorem dX6_loose_72 : decode cX6_loose 72 = .ok (.ireturn, 1) := dk_172 (dk_at dksX6_loose_3 3 rfl rfl)
abbrev cX6_drawn : ByteArray := prog_30_method_62_code
def yX6_drawn : MethodName := ⟨RX6, "drawn", "()I"⟩
def dkwX6_drawn_1 : List UInt8 := [180, 0, 9, 16, 6, 46, 16, 8, 124, 172]
abbrev dktX6_drawn_1 : List UInt8 := dkwX6_drawn_1 ++ []
def dkwX6_drawn_0 : List UInt8 := [42, 180, 0, 9, 16, 6, 42, 180, 0, 9, 16, 6, 46, 18, 243, 104, 17, 48, 57, 96, 79, 42]
abbrev dktX6_drawn_0 : List UInt8 := dkwX6_drawn_0 ++ dktX6_drawn_1
theorem dksX6_drawn_0 : cX6_drawn.data.toList.drop 0 = dktX6_drawn_0 := by decide +kernel
theorem dksX6_drawn_1 : cX6_drawn.data.toList.drop 22 = dktX6_drawn_1 := dk_seg dksX6_drawn_0 22 rfl rfl
theorem dX6_drawn_0 : decode cX6_drawn 0 = .ok (.aload_n 0, 1) := dk_42 (dk_at dksX6_drawn_0 0 rfl rfl)
theorem dX6_drawn_1 : decode cX6_drawn 1 = .ok (.getfield 9, 3) := dk_180 0 9 (dk_at dksX6_drawn_0 1 rfl rfl)
theorem dX6_drawn_4 : decode cX6_drawn 4 = .ok (.bipush 6, 2) := dk_16 6 (dk_at dksX6_drawn_0 4 rfl rfl)
theorem dX6_drawn_6 : decode cX6_drawn 6 = .ok (.aload_n 0, 1) := dk_42 (dk_at dksX6_drawn_0 6 rfl rfl)
theorem dX6_drawn_7 : decode cX6_drawn 7 = .ok (.getfield 9, 3) := dk_180 0 9 (dk_at dksX6_drawn_0 7 rfl rfl)
theorem dX6_drawn_10 : decode cX6_drawn 10 = .ok (.bipush 6, 2) := dk_16 6 (dk_at dksX6_drawn_0 10 rfl rfl)
theorem dX6_drawn_12 : decode cX6_drawn 12 = .ok (.iaload, 1) := dk_46 (dk_at dksX6_drawn_0 12 rfl rfl)
theorem dX6_drawn_13 : decode cX6_drawn 13 = .ok (.ldc 243, 2) := dk_18 243 (dk_at dksX6_drawn_0 13 rfl rfl)
theorem dX6_drawn_15 : decode cX6_drawn 15 = .ok (.imul, 1) := dk_104 (dk_at dksX6_drawn_0 15 rfl rfl)
theorem dX6_drawn_16 : decode cX6_drawn 16 = .ok (.sipush 12345, 3) := dk_17 48 57 (dk_at dksX6_drawn_0 16 rfl rfl)
theorem dX6_drawn_19 : decode cX6_drawn 19 = .ok (.iadd, 1) := dk_96 (dk_at dksX6_drawn_0 19 rfl rfl)
theorem dX6_drawn_20 : decode cX6_drawn 20 = .ok (.iastore, 1) := dk_79 (dk_at dksX6_drawn_0 20 rfl rfl)
theorem dX6_drawn_21 : decode cX6_drawn 21 = .ok (.aload_n 0, 1) := dk_42 (dk_at dksX6_drawn_0 21 rfl rfl)
theorem dX6_drawn_22 : decode cX6_drawn 22 = .ok (.getfield 9, 3) := dk_180 0 9 (dk_at dksX6_drawn_1 0 rfl rfl)
theorem dX6_drawn_25 : decode cX6_drawn 25 = .ok (.bipush 6, 2) := dk_16 6 (dk_at dksX6_drawn_1 3 rfl rfl)
theorem dX6_drawn_27 : decode cX6_drawn 27 = .ok (.iaload, 1) := dk_46 (dk_at dksX6_drawn_1 5 rfl rfl)
theorem dX6_drawn_28 : decode cX6_drawn 28 = .ok (.bipush 8, 2) := dk_16 8 (dk_at dksX6_drawn_1 6 rfl rfl)
theorem dX6_drawn_30 : decode cX6_drawn 30 = .ok (.iushr, 1) := dk_124 (dk_at dksX6_drawn_1 8 rfl rfl)
theorem dX6_drawn_31 : decode cX6_drawn 31 = .ok (.ireturn, 1) := dk_172 (dk_at dksX6_drawn_1 9 rfl rfl)
abbrev cX6_then : ByteArray := prog_30_method_65_code
def yX6_then : MethodName := ⟨RX6, "then", "(III)I"⟩
def dkwX6_then_2 : List UInt8 := [42, 28, 29, 154, 0, 7, 6, 167, 0, 4, 7, 182, 0, 191, 182, 0, 250, 172]
abbrev dktX6_then_2 : List UInt8 := dkwX6_then_2 ++ []
def dkwX6_then_1 : List UInt8 := [42, 18, 81, 182, 0, 82, 172, 42, 180, 0, 9, 42, 180, 0, 16, 184, 0, 73, 42, 27, 182, 0, 237, 42]
abbrev dktX6_then_1 : List UInt8 := dkwX6_then_1 ++ dktX6_then_2
def dkwX6_then_0 : List UInt8 := [27, 184, 0, 247, 153, 0, 20, 42, 28, 182, 0, 218, 153, 0, 12, 29, 3, 4, 184, 0, 77, 154, 0, 10]
abbrev dktX6_then_0 : List UInt8 := dkwX6_then_0 ++ dktX6_then_1
theorem dksX6_then_0 : cX6_then.data.toList.drop 0 = dktX6_then_0 := by decide +kernel
theorem dksX6_then_1 : cX6_then.data.toList.drop 24 = dktX6_then_1 := dk_seg dksX6_then_0 24 rfl rfl
theorem dksX6_then_2 : cX6_then.data.toList.drop 48 = dktX6_then_2 := dk_seg dksX6_then_1 24 rfl rfl
theorem dX6_then_0 : decode cX6_then 0 = .ok (.iload_n 1, 1) := dk_27 (dk_at dksX6_then_0 0 rfl rfl)
theorem dX6_then_1 : decode cX6_then 1 = .ok (.invokestatic 247, 3) := dk_184 0 247 (dk_at dksX6_then_0 1 rfl rfl)
theorem dX6_then_4 : decode cX6_then 4 = .ok (.ifCond .eq 20, 3) := dk_153 0 20 (dk_at dksX6_then_0 4 rfl rfl)
theorem dX6_then_7 : decode cX6_then 7 = .ok (.aload_n 0, 1) := dk_42 (dk_at dksX6_then_0 7 rfl rfl)
theorem dX6_then_8 : decode cX6_then 8 = .ok (.iload_n 2, 1) := dk_28 (dk_at dksX6_then_0 8 rfl rfl)
theorem dX6_then_9 : decode cX6_then 9 = .ok (.invokevirtual 218, 3) := dk_182 0 218 (dk_at dksX6_then_0 9 rfl rfl)
theorem dX6_then_12 : decode cX6_then 12 = .ok (.ifCond .eq 12, 3) := dk_153 0 12 (dk_at dksX6_then_0 12 rfl rfl)
theorem dX6_then_15 : decode cX6_then 15 = .ok (.iload_n 3, 1) := dk_29 (dk_at dksX6_then_0 15 rfl rfl)
theorem dX6_then_16 : decode cX6_then 16 = .ok (.iconst 0, 1) := dk_3 (dk_at dksX6_then_0 16 rfl rfl)
theorem dX6_then_17 : decode cX6_then 17 = .ok (.iconst 1, 1) := dk_4 (dk_at dksX6_then_0 17 rfl rfl)
theorem dX6_then_18 : decode cX6_then 18 = .ok (.invokestatic 77, 3) := dk_184 0 77 (dk_at dksX6_then_0 18 rfl rfl)
theorem dX6_then_21 : decode cX6_then 21 = .ok (.ifCond .ne 10, 3) := dk_154 0 10 (dk_at dksX6_then_0 21 rfl rfl)
theorem dX6_then_24 : decode cX6_then 24 = .ok (.aload_n 0, 1) := dk_42 (dk_at dksX6_then_1 0 rfl rfl)
theorem dX6_then_25 : decode cX6_then 25 = .ok (.ldc 81, 2) := dk_18 81 (dk_at dksX6_then_1 1 rfl rfl)
theorem dX6_then_27 : decode cX6_then 27 = .ok (.invokevirtual 82, 3) := dk_182 0 82 (dk_at dksX6_then_1 3 rfl rfl)
theorem dX6_then_30 : decode cX6_then 30 = .ok (.ireturn, 1) := dk_172 (dk_at dksX6_then_1 6 rfl rfl)
theorem dX6_then_31 : decode cX6_then 31 = .ok (.aload_n 0, 1) := dk_42 (dk_at dksX6_then_1 7 rfl rfl)
theorem dX6_then_32 : decode cX6_then 32 = .ok (.getfield 9, 3) := dk_180 0 9 (dk_at dksX6_then_1 8 rfl rfl)
theorem dX6_then_35 : decode cX6_then 35 = .ok (.aload_n 0, 1) := dk_42 (dk_at dksX6_then_1 11 rfl rfl)
theorem dX6_then_36 : decode cX6_then 36 = .ok (.getfield 16, 3) := dk_180 0 16 (dk_at dksX6_then_1 12 rfl rfl)
theorem dX6_then_39 : decode cX6_then 39 = .ok (.invokestatic 73, 3) := dk_184 0 73 (dk_at dksX6_then_1 15 rfl rfl)
theorem dX6_then_42 : decode cX6_then 42 = .ok (.aload_n 0, 1) := dk_42 (dk_at dksX6_then_1 18 rfl rfl)
theorem dX6_then_43 : decode cX6_then 43 = .ok (.iload_n 1, 1) := dk_27 (dk_at dksX6_then_1 19 rfl rfl)
theorem dX6_then_44 : decode cX6_then 44 = .ok (.invokevirtual 237, 3) := dk_182 0 237 (dk_at dksX6_then_1 20 rfl rfl)
theorem dX6_then_47 : decode cX6_then 47 = .ok (.aload_n 0, 1) := dk_42 (dk_at dksX6_then_1 23 rfl rfl)
theorem dX6_then_48 : decode cX6_then 48 = .ok (.aload_n 0, 1) := dk_42 (dk_at dksX6_then_2 0 rfl rfl)
theorem dX6_then_49 : decode cX6_then 49 = .ok (.iload_n 2, 1) := dk_28 (dk_at dksX6_then_2 1 rfl rfl)
theorem dX6_then_50 : decode cX6_then 50 = .ok (.iload_n 3, 1) := dk_29 (dk_at dksX6_then_2 2 rfl rfl)
theorem dX6_then_51 : decode cX6_then 51 = .ok (.ifCond .ne 7, 3) := dk_154 0 7 (dk_at dksX6_then_2 3 rfl rfl)
theorem dX6_then_54 : decode cX6_then 54 = .ok (.iconst 3, 1) := dk_6 (dk_at dksX6_then_2 6 rfl rfl)
theorem dX6_then_55 : decode cX6_then 55 = .ok (.goto 4, 3) := dk_167 0 4 (dk_at dksX6_then_2 7 rfl rfl)
theorem dX6_then_58 : decode cX6_then 58 = .ok (.iconst 4, 1) := dk_7 (dk_at dksX6_then_2 10 rfl rfl)
theorem dX6_then_59 : decode cX6_then 59 = .ok (.invokevirtual 191, 3) := dk_182 0 191 (dk_at dksX6_then_2 11 rfl rfl)
theorem dX6_then_62 : decode cX6_then 62 = .ok (.invokevirtual 250, 3) := dk_182 0 250 (dk_at dksX6_then_2 14 rfl rfl)
theorem dX6_then_65 : decode cX6_then 65 = .ok (.ireturn, 1) := dk_172 (dk_at dksX6_then_2 17 rfl rfl)
abbrev cX6_isBehind : ByteArray := prog_30_method_64_code
def yX6_isBehind : MethodName := ⟨RX6, "isBehind", "(I)Z"⟩
def dkwX6_isBehind_0 : List UInt8 := [26, 3, 16, 60, 184, 0, 77, 172]
abbrev dktX6_isBehind_0 : List UInt8 := dkwX6_isBehind_0 ++ []
theorem dksX6_isBehind_0 : cX6_isBehind.data.toList.drop 0 = dktX6_isBehind_0 := by decide +kernel
theorem dX6_isBehind_0 : decode cX6_isBehind 0 = .ok (.iload_n 0, 1) := dk_26 (dk_at dksX6_isBehind_0 0 rfl rfl)
theorem dX6_isBehind_1 : decode cX6_isBehind 1 = .ok (.iconst 0, 1) := dk_3 (dk_at dksX6_isBehind_0 1 rfl rfl)
theorem dX6_isBehind_2 : decode cX6_isBehind 2 = .ok (.bipush 60, 2) := dk_16 60 (dk_at dksX6_isBehind_0 2 rfl rfl)
theorem dX6_isBehind_4 : decode cX6_isBehind 4 = .ok (.invokestatic 77, 3) := dk_184 0 77 (dk_at dksX6_isBehind_0 4 rfl rfl)
theorem dX6_isBehind_7 : decode cX6_isBehind 7 = .ok (.ireturn, 1) := dk_172 (dk_at dksX6_isBehind_0 7 rfl rfl)
abbrev cX6_copy : ByteArray := prog_30_method_5_code
def yX6_copy : MethodName := ⟨RX6, "copy", "([I[I)V"⟩
def dkwX6_copy_0 : List UInt8 := [3, 61, 28, 17, 0, 242, 162, 0, 15, 43, 28, 42, 28, 46, 79, 132, 2, 1, 167, 255, 240, 177]
abbrev dktX6_copy_0 : List UInt8 := dkwX6_copy_0 ++ []
theorem dksX6_copy_0 : cX6_copy.data.toList.drop 0 = dktX6_copy_0 := by decide +kernel
theorem dX6_copy_0 : decode cX6_copy 0 = .ok (.iconst 0, 1) := dk_3 (dk_at dksX6_copy_0 0 rfl rfl)
theorem dX6_copy_1 : decode cX6_copy 1 = .ok (.istore_n 2, 1) := dk_61 (dk_at dksX6_copy_0 1 rfl rfl)
theorem dX6_copy_2 : decode cX6_copy 2 = .ok (.iload_n 2, 1) := dk_28 (dk_at dksX6_copy_0 2 rfl rfl)
theorem dX6_copy_3 : decode cX6_copy 3 = .ok (.sipush 242, 3) := dk_17 0 242 (dk_at dksX6_copy_0 3 rfl rfl)
theorem dX6_copy_6 : decode cX6_copy 6 = .ok (.if_icmp .ge 15, 3) := dk_162 0 15 (dk_at dksX6_copy_0 6 rfl rfl)
theorem dX6_copy_9 : decode cX6_copy 9 = .ok (.aload_n 1, 1) := dk_43 (dk_at dksX6_copy_0 9 rfl rfl)
theorem dX6_copy_10 : decode cX6_copy 10 = .ok (.iload_n 2, 1) := dk_28 (dk_at dksX6_copy_0 10 rfl rfl)
theorem dX6_copy_11 : decode cX6_copy 11 = .ok (.aload_n 0, 1) := dk_42 (dk_at dksX6_copy_0 11 rfl rfl)
theorem dX6_copy_12 : decode cX6_copy 12 = .ok (.iload_n 2, 1) := dk_28 (dk_at dksX6_copy_0 12 rfl rfl)
theorem dX6_copy_13 : decode cX6_copy 13 = .ok (.iaload, 1) := dk_46 (dk_at dksX6_copy_0 13 rfl rfl)
theorem dX6_copy_14 : decode cX6_copy 14 = .ok (.iastore, 1) := dk_79 (dk_at dksX6_copy_0 14 rfl rfl)
theorem dX6_copy_15 : decode cX6_copy 15 = .ok (.iinc 2 1, 3) := dk_132 2 1 (dk_at dksX6_copy_0 15 rfl rfl)
theorem dX6_copy_18 : decode cX6_copy 18 = .ok (.goto (-16), 3) := dk_167 255 240 (dk_at dksX6_copy_0 18 rfl rfl)
theorem dX6_copy_21 : decode cX6_copy 21 = .ok (.return_, 1) := dk_177 (dk_at dksX6_copy_0 21 rfl rfl)
abbrev cX6_putBack : ByteArray := prog_30_method_7_code
def yX6_putBack : MethodName := ⟨RX6, "putBack", "(I)I"⟩
def dkwX6_putBack_0 : List UInt8 := [42, 180, 0, 16, 42, 180, 0, 9, 184, 0, 73, 27, 172]
abbrev dktX6_putBack_0 : List UInt8 := dkwX6_putBack_0 ++ []
theorem dksX6_putBack_0 : cX6_putBack.data.toList.drop 0 = dktX6_putBack_0 := by decide +kernel
theorem dX6_putBack_0 : decode cX6_putBack 0 = .ok (.aload_n 0, 1) := dk_42 (dk_at dksX6_putBack_0 0 rfl rfl)
theorem dX6_putBack_1 : decode cX6_putBack 1 = .ok (.getfield 16, 3) := dk_180 0 16 (dk_at dksX6_putBack_0 1 rfl rfl)
theorem dX6_putBack_4 : decode cX6_putBack 4 = .ok (.aload_n 0, 1) := dk_42 (dk_at dksX6_putBack_0 4 rfl rfl)
theorem dX6_putBack_5 : decode cX6_putBack 5 = .ok (.getfield 9, 3) := dk_180 0 9 (dk_at dksX6_putBack_0 5 rfl rfl)
theorem dX6_putBack_8 : decode cX6_putBack 8 = .ok (.invokestatic 73, 3) := dk_184 0 73 (dk_at dksX6_putBack_0 8 rfl rfl)
theorem dX6_putBack_11 : decode cX6_putBack 11 = .ok (.iload_n 1, 1) := dk_27 (dk_at dksX6_putBack_0 11 rfl rfl)
theorem dX6_putBack_12 : decode cX6_putBack 12 = .ok (.ireturn, 1) := dk_172 (dk_at dksX6_putBack_0 12 rfl rfl)
abbrev cX6_lost : ByteArray := prog_30_method_67_code
def yX6_lost : MethodName := ⟨RX6, "lost", "(I)I"⟩
def dkwX6_lost_4 : List UInt8 := [154, 0, 7, 29, 167, 0, 14, 21, 4, 21, 4, 116, 126, 4, 100, 184, 0, 234, 172]
abbrev dktX6_lost_4 : List UInt8 := dkwX6_lost_4 ++ []
def dkwX6_lost_3 : List UInt8 := [42, 180, 0, 9, 184, 0, 73, 21, 4, 154, 0, 13, 42, 19, 1, 0, 182, 0, 82, 167, 0, 22, 27]
abbrev dktX6_lost_3 : List UInt8 := dkwX6_lost_3 ++ dktX6_lost_4
def dkwX6_lost_2 : List UInt8 := [42, 182, 0, 231, 132, 3, 1, 167, 255, 235, 42, 182, 0, 253, 28, 2, 130, 126, 54, 4, 42, 180, 0, 16]
abbrev dktX6_lost_2 : List UInt8 := dkwX6_lost_2 ++ dktX6_lost_3
def dkwX6_lost_1 : List UInt8 := [184, 0, 73, 42, 182, 0, 253, 61, 3, 62, 29, 16, 60, 162, 0, 21, 42, 182, 0, 253, 28, 160, 0, 13]
abbrev dktX6_lost_1 : List UInt8 := dkwX6_lost_1 ++ dktX6_lost_2
def dkwX6_lost_0 : List UInt8 := [27, 3, 4, 184, 0, 77, 154, 0, 10, 42, 18, 81, 182, 0, 82, 172, 42, 180, 0, 9, 42, 180, 0, 16]
abbrev dktX6_lost_0 : List UInt8 := dkwX6_lost_0 ++ dktX6_lost_1
theorem dksX6_lost_0 : cX6_lost.data.toList.drop 0 = dktX6_lost_0 := by decide +kernel
theorem dksX6_lost_1 : cX6_lost.data.toList.drop 24 = dktX6_lost_1 := dk_seg dksX6_lost_0 24 rfl rfl
theorem dksX6_lost_2 : cX6_lost.data.toList.drop 48 = dktX6_lost_2 := dk_seg dksX6_lost_1 24 rfl rfl
theorem dksX6_lost_3 : cX6_lost.data.toList.drop 72 = dktX6_lost_3 := dk_seg dksX6_lost_2 24 rfl rfl
theorem dksX6_lost_4 : cX6_lost.data.toList.drop 95 = dktX6_lost_4 := dk_seg dksX6_lost_3 23 rfl rfl
theorem dX6_lost_0 : decode cX6_lost 0 = .ok (.iload_n 1, 1) := dk_27 (dk_at dksX6_lost_0 0 rfl rfl)
theorem dX6_lost_1 : decode cX6_lost 1 = .ok (.iconst 0, 1) := dk_3 (dk_at dksX6_lost_0 1 rfl rfl)
theorem dX6_lost_2 : decode cX6_lost 2 = .ok (.iconst 1, 1) := dk_4 (dk_at dksX6_lost_0 2 rfl rfl)
theorem dX6_lost_3 : decode cX6_lost 3 = .ok (.invokestatic 77, 3) := dk_184 0 77 (dk_at dksX6_lost_0 3 rfl rfl)
theorem dX6_lost_6 : decode cX6_lost 6 = .ok (.ifCond .ne 10, 3) := dk_154 0 10 (dk_at dksX6_lost_0 6 rfl rfl)
theorem dX6_lost_9 : decode cX6_lost 9 = .ok (.aload_n 0, 1) := dk_42 (dk_at dksX6_lost_0 9 rfl rfl)
theorem dX6_lost_10 : decode cX6_lost 10 = .ok (.ldc 81, 2) := dk_18 81 (dk_at dksX6_lost_0 10 rfl rfl)
theorem dX6_lost_12 : decode cX6_lost 12 = .ok (.invokevirtual 82, 3) := dk_182 0 82 (dk_at dksX6_lost_0 12 rfl rfl)
theorem dX6_lost_15 : decode cX6_lost 15 = .ok (.ireturn, 1) := dk_172 (dk_at dksX6_lost_0 15 rfl rfl)
theorem dX6_lost_16 : decode cX6_lost 16 = .ok (.aload_n 0, 1) := dk_42 (dk_at dksX6_lost_0 16 rfl rfl)
theorem dX6_lost_17 : decode cX6_lost 17 = .ok (.getfield 9, 3) := dk_180 0 9 (dk_at dksX6_lost_0 17 rfl rfl)
theorem dX6_lost_20 : decode cX6_lost 20 = .ok (.aload_n 0, 1) := dk_42 (dk_at dksX6_lost_0 20 rfl rfl)
theorem dX6_lost_21 : decode cX6_lost 21 = .ok (.getfield 16, 3) := dk_180 0 16 (dk_at dksX6_lost_0 21 rfl rfl)
theorem dX6_lost_24 : decode cX6_lost 24 = .ok (.invokestatic 73, 3) := dk_184 0 73 (dk_at dksX6_lost_1 0 rfl rfl)
theorem dX6_lost_27 : decode cX6_lost 27 = .ok (.aload_n 0, 1) := dk_42 (dk_at dksX6_lost_1 3 rfl rfl)
theorem dX6_lost_28 : decode cX6_lost 28 = .ok (.invokevirtual 253, 3) := dk_182 0 253 (dk_at dksX6_lost_1 4 rfl rfl)
theorem dX6_lost_31 : decode cX6_lost 31 = .ok (.istore_n 2, 1) := dk_61 (dk_at dksX6_lost_1 7 rfl rfl)
theorem dX6_lost_32 : decode cX6_lost 32 = .ok (.iconst 0, 1) := dk_3 (dk_at dksX6_lost_1 8 rfl rfl)
theorem dX6_lost_33 : decode cX6_lost 33 = .ok (.istore_n 3, 1) := dk_62 (dk_at dksX6_lost_1 9 rfl rfl)
theorem dX6_lost_34 : decode cX6_lost 34 = .ok (.iload_n 3, 1) := dk_29 (dk_at dksX6_lost_1 10 rfl rfl)
theorem dX6_lost_35 : decode cX6_lost 35 = .ok (.bipush 60, 2) := dk_16 60 (dk_at dksX6_lost_1 11 rfl rfl)
theorem dX6_lost_37 : decode cX6_lost 37 = .ok (.if_icmp .ge 21, 3) := dk_162 0 21 (dk_at dksX6_lost_1 13 rfl rfl)
theorem dX6_lost_40 : decode cX6_lost 40 = .ok (.aload_n 0, 1) := dk_42 (dk_at dksX6_lost_1 16 rfl rfl)
theorem dX6_lost_41 : decode cX6_lost 41 = .ok (.invokevirtual 253, 3) := dk_182 0 253 (dk_at dksX6_lost_1 17 rfl rfl)
theorem dX6_lost_44 : decode cX6_lost 44 = .ok (.iload_n 2, 1) := dk_28 (dk_at dksX6_lost_1 20 rfl rfl)
theorem dX6_lost_45 : decode cX6_lost 45 = .ok (.if_icmp .ne 13, 3) := dk_160 0 13 (dk_at dksX6_lost_1 21 rfl rfl)
theorem dX6_lost_48 : decode cX6_lost 48 = .ok (.aload_n 0, 1) := dk_42 (dk_at dksX6_lost_2 0 rfl rfl)
theorem dX6_lost_49 : decode cX6_lost 49 = .ok (.invokevirtual 231, 3) := dk_182 0 231 (dk_at dksX6_lost_2 1 rfl rfl)
theorem dX6_lost_52 : decode cX6_lost 52 = .ok (.iinc 3 1, 3) := dk_132 3 1 (dk_at dksX6_lost_2 4 rfl rfl)
theorem dX6_lost_55 : decode cX6_lost 55 = .ok (.goto (-21), 3) := dk_167 255 235 (dk_at dksX6_lost_2 7 rfl rfl)
theorem dX6_lost_58 : decode cX6_lost 58 = .ok (.aload_n 0, 1) := dk_42 (dk_at dksX6_lost_2 10 rfl rfl)
theorem dX6_lost_59 : decode cX6_lost 59 = .ok (.invokevirtual 253, 3) := dk_182 0 253 (dk_at dksX6_lost_2 11 rfl rfl)
theorem dX6_lost_62 : decode cX6_lost 62 = .ok (.iload_n 2, 1) := dk_28 (dk_at dksX6_lost_2 14 rfl rfl)
theorem dX6_lost_63 : decode cX6_lost 63 = .ok (.iconst (-1), 1) := dk_2 (dk_at dksX6_lost_2 15 rfl rfl)
theorem dX6_lost_64 : decode cX6_lost 64 = .ok (.ixor, 1) := dk_130 (dk_at dksX6_lost_2 16 rfl rfl)
theorem dX6_lost_65 : decode cX6_lost 65 = .ok (.iand, 1) := dk_126 (dk_at dksX6_lost_2 17 rfl rfl)
theorem dX6_lost_66 : decode cX6_lost 66 = .ok (.istore 4, 2) := dk_54 4 (dk_at dksX6_lost_2 18 rfl rfl)
theorem dX6_lost_68 : decode cX6_lost 68 = .ok (.aload_n 0, 1) := dk_42 (dk_at dksX6_lost_2 20 rfl rfl)
theorem dX6_lost_69 : decode cX6_lost 69 = .ok (.getfield 16, 3) := dk_180 0 16 (dk_at dksX6_lost_2 21 rfl rfl)
theorem dX6_lost_72 : decode cX6_lost 72 = .ok (.aload_n 0, 1) := dk_42 (dk_at dksX6_lost_3 0 rfl rfl)
theorem dX6_lost_73 : decode cX6_lost 73 = .ok (.getfield 9, 3) := dk_180 0 9 (dk_at dksX6_lost_3 1 rfl rfl)
theorem dX6_lost_76 : decode cX6_lost 76 = .ok (.invokestatic 73, 3) := dk_184 0 73 (dk_at dksX6_lost_3 4 rfl rfl)
theorem dX6_lost_79 : decode cX6_lost 79 = .ok (.iload 4, 2) := dk_21 4 (dk_at dksX6_lost_3 7 rfl rfl)
theorem dX6_lost_81 : decode cX6_lost 81 = .ok (.ifCond .ne 13, 3) := dk_154 0 13 (dk_at dksX6_lost_3 9 rfl rfl)
theorem dX6_lost_84 : decode cX6_lost 84 = .ok (.aload_n 0, 1) := dk_42 (dk_at dksX6_lost_3 12 rfl rfl)
theorem dX6_lost_85 : decode cX6_lost 85 = .ok (.ldc_w 256, 3) := dk_19 1 0 (dk_at dksX6_lost_3 13 rfl rfl)
theorem dX6_lost_88 : decode cX6_lost 88 = .ok (.invokevirtual 82, 3) := dk_182 0 82 (dk_at dksX6_lost_3 16 rfl rfl)
theorem dX6_lost_91 : decode cX6_lost 91 = .ok (.goto 22, 3) := dk_167 0 22 (dk_at dksX6_lost_3 19 rfl rfl)
theorem dX6_lost_94 : decode cX6_lost 94 = .ok (.iload_n 1, 1) := dk_27 (dk_at dksX6_lost_3 22 rfl rfl)
theorem dX6_lost_95 : decode cX6_lost 95 = .ok (.ifCond .ne 7, 3) := dk_154 0 7 (dk_at dksX6_lost_4 0 rfl rfl)
theorem dX6_lost_98 : decode cX6_lost 98 = .ok (.iload_n 3, 1) := dk_29 (dk_at dksX6_lost_4 3 rfl rfl)
theorem dX6_lost_99 : decode cX6_lost 99 = .ok (.goto 14, 3) := dk_167 0 14 (dk_at dksX6_lost_4 4 rfl rfl)
theorem dX6_lost_102 : decode cX6_lost 102 = .ok (.iload 4, 2) := dk_21 4 (dk_at dksX6_lost_4 7 rfl rfl)
theorem dX6_lost_104 : decode cX6_lost 104 = .ok (.iload 4, 2) := dk_21 4 (dk_at dksX6_lost_4 9 rfl rfl)
theorem dX6_lost_106 : decode cX6_lost 106 = .ok (.ineg, 1) := dk_116 (dk_at dksX6_lost_4 11 rfl rfl)
theorem dX6_lost_107 : decode cX6_lost 107 = .ok (.iand, 1) := dk_126 (dk_at dksX6_lost_4 12 rfl rfl)
theorem dX6_lost_108 : decode cX6_lost 108 = .ok (.iconst 1, 1) := dk_4 (dk_at dksX6_lost_4 13 rfl rfl)
theorem dX6_lost_109 : decode cX6_lost 109 = .ok (.isub, 1) := dk_100 (dk_at dksX6_lost_4 14 rfl rfl)
theorem dX6_lost_110 : decode cX6_lost 110 = .ok (.invokestatic 234, 3) := dk_184 0 234 (dk_at dksX6_lost_4 15 rfl rfl)
theorem dX6_lost_113 : decode cX6_lost 113 = .ok (.ireturn, 1) := dk_172 (dk_at dksX6_lost_4 18 rfl rfl)
abbrev cX6_lostNow : ByteArray := prog_30_method_66_code
def yX6_lostNow : MethodName := ⟨RX6, "lostNow", "()I"⟩
def dkwX6_lostNow_1 : List UInt8 := [60, 132, 2, 1, 167, 255, 232, 27, 172]
abbrev dktX6_lostNow_1 : List UInt8 := dkwX6_lostNow_1 ++ []
def dkwX6_lostNow_0 : List UInt8 := [3, 60, 3, 61, 28, 42, 180, 0, 9, 5, 46, 162, 0, 20, 27, 42, 28, 7, 182, 0, 191, 28, 120, 128]
abbrev dktX6_lostNow_0 : List UInt8 := dkwX6_lostNow_0 ++ dktX6_lostNow_1
theorem dksX6_lostNow_0 : cX6_lostNow.data.toList.drop 0 = dktX6_lostNow_0 := by decide +kernel
theorem dksX6_lostNow_1 : cX6_lostNow.data.toList.drop 24 = dktX6_lostNow_1 := dk_seg dksX6_lostNow_0 24 rfl rfl
theorem dX6_lostNow_0 : decode cX6_lostNow 0 = .ok (.iconst 0, 1) := dk_3 (dk_at dksX6_lostNow_0 0 rfl rfl)
theorem dX6_lostNow_1 : decode cX6_lostNow 1 = .ok (.istore_n 1, 1) := dk_60 (dk_at dksX6_lostNow_0 1 rfl rfl)
theorem dX6_lostNow_2 : decode cX6_lostNow 2 = .ok (.iconst 0, 1) := dk_3 (dk_at dksX6_lostNow_0 2 rfl rfl)
theorem dX6_lostNow_3 : decode cX6_lostNow 3 = .ok (.istore_n 2, 1) := dk_61 (dk_at dksX6_lostNow_0 3 rfl rfl)
theorem dX6_lostNow_4 : decode cX6_lostNow 4 = .ok (.iload_n 2, 1) := dk_28 (dk_at dksX6_lostNow_0 4 rfl rfl)
theorem dX6_lostNow_5 : decode cX6_lostNow 5 = .ok (.aload_n 0, 1) := dk_42 (dk_at dksX6_lostNow_0 5 rfl rfl)
theorem dX6_lostNow_6 : decode cX6_lostNow 6 = .ok (.getfield 9, 3) := dk_180 0 9 (dk_at dksX6_lostNow_0 6 rfl rfl)
theorem dX6_lostNow_9 : decode cX6_lostNow 9 = .ok (.iconst 2, 1) := dk_5 (dk_at dksX6_lostNow_0 9 rfl rfl)
theorem dX6_lostNow_10 : decode cX6_lostNow 10 = .ok (.iaload, 1) := dk_46 (dk_at dksX6_lostNow_0 10 rfl rfl)
theorem dX6_lostNow_11 : decode cX6_lostNow 11 = .ok (.if_icmp .ge 20, 3) := dk_162 0 20 (dk_at dksX6_lostNow_0 11 rfl rfl)
theorem dX6_lostNow_14 : decode cX6_lostNow 14 = .ok (.iload_n 1, 1) := dk_27 (dk_at dksX6_lostNow_0 14 rfl rfl)
theorem dX6_lostNow_15 : decode cX6_lostNow 15 = .ok (.aload_n 0, 1) := dk_42 (dk_at dksX6_lostNow_0 15 rfl rfl)
theorem dX6_lostNow_16 : decode cX6_lostNow 16 = .ok (.iload_n 2, 1) := dk_28 (dk_at dksX6_lostNow_0 16 rfl rfl)
theorem dX6_lostNow_17 : decode cX6_lostNow 17 = .ok (.iconst 4, 1) := dk_7 (dk_at dksX6_lostNow_0 17 rfl rfl)
theorem dX6_lostNow_18 : decode cX6_lostNow 18 = .ok (.invokevirtual 191, 3) := dk_182 0 191 (dk_at dksX6_lostNow_0 18 rfl rfl)
theorem dX6_lostNow_21 : decode cX6_lostNow 21 = .ok (.iload_n 2, 1) := dk_28 (dk_at dksX6_lostNow_0 21 rfl rfl)
theorem dX6_lostNow_22 : decode cX6_lostNow 22 = .ok (.ishl, 1) := dk_120 (dk_at dksX6_lostNow_0 22 rfl rfl)
theorem dX6_lostNow_23 : decode cX6_lostNow 23 = .ok (.ior, 1) := dk_128 (dk_at dksX6_lostNow_0 23 rfl rfl)
theorem dX6_lostNow_24 : decode cX6_lostNow 24 = .ok (.istore_n 1, 1) := dk_60 (dk_at dksX6_lostNow_1 0 rfl rfl)
theorem dX6_lostNow_25 : decode cX6_lostNow 25 = .ok (.iinc 2 1, 3) := dk_132 2 1 (dk_at dksX6_lostNow_1 1 rfl rfl)
theorem dX6_lostNow_28 : decode cX6_lostNow 28 = .ok (.goto (-24), 3) := dk_167 255 232 (dk_at dksX6_lostNow_1 4 rfl rfl)
theorem dX6_lostNow_31 : decode cX6_lostNow 31 = .ok (.iload_n 1, 1) := dk_27 (dk_at dksX6_lostNow_1 7 rfl rfl)
theorem dX6_lostNow_32 : decode cX6_lostNow 32 = .ok (.ireturn, 1) := dk_172 (dk_at dksX6_lostNow_1 8 rfl rfl)
abbrev cX6_setting : ByteArray := prog_30_method_69_code
def yX6_setting : MethodName := ⟨RX6, "setting", "(II)I"⟩
def dkwX6_setting_4 : List UInt8 := [167, 255, 215, 29, 156, 0, 13, 42, 19, 1, 0, 182, 0, 82, 167, 0, 4, 29, 172]
abbrev dktX6_setting_4 : List UInt8 := dkwX6_setting_4 ++ []
def dkwX6_setting_3 : List UInt8 := [27, 42, 28, 182, 1, 1, 2, 130, 126, 154, 0, 8, 21, 4, 167, 0, 4, 2, 62, 132, 4, 1]
abbrev dktX6_setting_3 : List UInt8 := dkwX6_setting_3 ++ dktX6_setting_4
def dkwX6_setting_2 : List UInt8 := [2, 62, 3, 54, 4, 21, 4, 16, 99, 163, 0, 40, 29, 156, 0, 36, 42, 180, 0, 9, 7, 21, 4, 79]
abbrev dktX6_setting_2 : List UInt8 := dkwX6_setting_2 ++ dktX6_setting_3
def dkwX6_setting_1 : List UInt8 := [184, 0, 77, 154, 0, 10, 42, 18, 81, 182, 0, 82, 172, 42, 180, 0, 9, 42, 180, 0, 16, 184, 0, 73]
abbrev dktX6_setting_1 : List UInt8 := dkwX6_setting_1 ++ dktX6_setting_2
def dkwX6_setting_0 : List UInt8 := [27, 3, 4, 42, 180, 0, 9, 5, 46, 120, 4, 100, 184, 0, 77, 153, 0, 13, 28, 3, 16, 20]
abbrev dktX6_setting_0 : List UInt8 := dkwX6_setting_0 ++ dktX6_setting_1
theorem dksX6_setting_0 : cX6_setting.data.toList.drop 0 = dktX6_setting_0 := by decide +kernel
theorem dksX6_setting_1 : cX6_setting.data.toList.drop 22 = dktX6_setting_1 := dk_seg dksX6_setting_0 22 rfl rfl
theorem dksX6_setting_2 : cX6_setting.data.toList.drop 46 = dktX6_setting_2 := dk_seg dksX6_setting_1 24 rfl rfl
theorem dksX6_setting_3 : cX6_setting.data.toList.drop 70 = dktX6_setting_3 := dk_seg dksX6_setting_2 24 rfl rfl
theorem dksX6_setting_4 : cX6_setting.data.toList.drop 92 = dktX6_setting_4 := dk_seg dksX6_setting_3 22 rfl rfl
theorem dX6_setting_0 : decode cX6_setting 0 = .ok (.iload_n 1, 1) := dk_27 (dk_at dksX6_setting_0 0 rfl rfl)
theorem dX6_setting_1 : decode cX6_setting 1 = .ok (.iconst 0, 1) := dk_3 (dk_at dksX6_setting_0 1 rfl rfl)
theorem dX6_setting_2 : decode cX6_setting 2 = .ok (.iconst 1, 1) := dk_4 (dk_at dksX6_setting_0 2 rfl rfl)
theorem dX6_setting_3 : decode cX6_setting 3 = .ok (.aload_n 0, 1) := dk_42 (dk_at dksX6_setting_0 3 rfl rfl)
theorem dX6_setting_4 : decode cX6_setting 4 = .ok (.getfield 9, 3) := dk_180 0 9 (dk_at dksX6_setting_0 4 rfl rfl)
theorem dX6_setting_7 : decode cX6_setting 7 = .ok (.iconst 2, 1) := dk_5 (dk_at dksX6_setting_0 7 rfl rfl)
theorem dX6_setting_8 : decode cX6_setting 8 = .ok (.iaload, 1) := dk_46 (dk_at dksX6_setting_0 8 rfl rfl)
theorem dX6_setting_9 : decode cX6_setting 9 = .ok (.ishl, 1) := dk_120 (dk_at dksX6_setting_0 9 rfl rfl)
theorem dX6_setting_10 : decode cX6_setting 10 = .ok (.iconst 1, 1) := dk_4 (dk_at dksX6_setting_0 10 rfl rfl)
theorem dX6_setting_11 : decode cX6_setting 11 = .ok (.isub, 1) := dk_100 (dk_at dksX6_setting_0 11 rfl rfl)
theorem dX6_setting_12 : decode cX6_setting 12 = .ok (.invokestatic 77, 3) := dk_184 0 77 (dk_at dksX6_setting_0 12 rfl rfl)
theorem dX6_setting_15 : decode cX6_setting 15 = .ok (.ifCond .eq 13, 3) := dk_153 0 13 (dk_at dksX6_setting_0 15 rfl rfl)
theorem dX6_setting_18 : decode cX6_setting 18 = .ok (.iload_n 2, 1) := dk_28 (dk_at dksX6_setting_0 18 rfl rfl)
theorem dX6_setting_19 : decode cX6_setting 19 = .ok (.iconst 0, 1) := dk_3 (dk_at dksX6_setting_0 19 rfl rfl)
theorem dX6_setting_20 : decode cX6_setting 20 = .ok (.bipush 20, 2) := dk_16 20 (dk_at dksX6_setting_0 20 rfl rfl)
theorem dX6_setting_22 : decode cX6_setting 22 = .ok (.invokestatic 77, 3) := dk_184 0 77 (dk_at dksX6_setting_1 0 rfl rfl)
theorem dX6_setting_25 : decode cX6_setting 25 = .ok (.ifCond .ne 10, 3) := dk_154 0 10 (dk_at dksX6_setting_1 3 rfl rfl)
theorem dX6_setting_28 : decode cX6_setting 28 = .ok (.aload_n 0, 1) := dk_42 (dk_at dksX6_setting_1 6 rfl rfl)
theorem dX6_setting_29 : decode cX6_setting 29 = .ok (.ldc 81, 2) := dk_18 81 (dk_at dksX6_setting_1 7 rfl rfl)
theorem dX6_setting_31 : decode cX6_setting 31 = .ok (.invokevirtual 82, 3) := dk_182 0 82 (dk_at dksX6_setting_1 9 rfl rfl)
theorem dX6_setting_34 : decode cX6_setting 34 = .ok (.ireturn, 1) := dk_172 (dk_at dksX6_setting_1 12 rfl rfl)
theorem dX6_setting_35 : decode cX6_setting 35 = .ok (.aload_n 0, 1) := dk_42 (dk_at dksX6_setting_1 13 rfl rfl)
theorem dX6_setting_36 : decode cX6_setting 36 = .ok (.getfield 9, 3) := dk_180 0 9 (dk_at dksX6_setting_1 14 rfl rfl)
theorem dX6_setting_39 : decode cX6_setting 39 = .ok (.aload_n 0, 1) := dk_42 (dk_at dksX6_setting_1 17 rfl rfl)
theorem dX6_setting_40 : decode cX6_setting 40 = .ok (.getfield 16, 3) := dk_180 0 16 (dk_at dksX6_setting_1 18 rfl rfl)
theorem dX6_setting_43 : decode cX6_setting 43 = .ok (.invokestatic 73, 3) := dk_184 0 73 (dk_at dksX6_setting_1 21 rfl rfl)
theorem dX6_setting_46 : decode cX6_setting 46 = .ok (.iconst (-1), 1) := dk_2 (dk_at dksX6_setting_2 0 rfl rfl)
theorem dX6_setting_47 : decode cX6_setting 47 = .ok (.istore_n 3, 1) := dk_62 (dk_at dksX6_setting_2 1 rfl rfl)
theorem dX6_setting_48 : decode cX6_setting 48 = .ok (.iconst 0, 1) := dk_3 (dk_at dksX6_setting_2 2 rfl rfl)
theorem dX6_setting_49 : decode cX6_setting 49 = .ok (.istore 4, 2) := dk_54 4 (dk_at dksX6_setting_2 3 rfl rfl)
theorem dX6_setting_51 : decode cX6_setting 51 = .ok (.iload 4, 2) := dk_21 4 (dk_at dksX6_setting_2 5 rfl rfl)
theorem dX6_setting_53 : decode cX6_setting 53 = .ok (.bipush 99, 2) := dk_16 99 (dk_at dksX6_setting_2 7 rfl rfl)
theorem dX6_setting_55 : decode cX6_setting 55 = .ok (.if_icmp .gt 40, 3) := dk_163 0 40 (dk_at dksX6_setting_2 9 rfl rfl)
theorem dX6_setting_58 : decode cX6_setting 58 = .ok (.iload_n 3, 1) := dk_29 (dk_at dksX6_setting_2 12 rfl rfl)
theorem dX6_setting_59 : decode cX6_setting 59 = .ok (.ifCond .ge 36, 3) := dk_156 0 36 (dk_at dksX6_setting_2 13 rfl rfl)
theorem dX6_setting_62 : decode cX6_setting 62 = .ok (.aload_n 0, 1) := dk_42 (dk_at dksX6_setting_2 16 rfl rfl)
theorem dX6_setting_63 : decode cX6_setting 63 = .ok (.getfield 9, 3) := dk_180 0 9 (dk_at dksX6_setting_2 17 rfl rfl)
theorem dX6_setting_66 : decode cX6_setting 66 = .ok (.iconst 4, 1) := dk_7 (dk_at dksX6_setting_2 20 rfl rfl)
theorem dX6_setting_67 : decode cX6_setting 67 = .ok (.iload 4, 2) := dk_21 4 (dk_at dksX6_setting_2 21 rfl rfl)
theorem dX6_setting_69 : decode cX6_setting 69 = .ok (.iastore, 1) := dk_79 (dk_at dksX6_setting_2 23 rfl rfl)
theorem dX6_setting_70 : decode cX6_setting 70 = .ok (.iload_n 1, 1) := dk_27 (dk_at dksX6_setting_3 0 rfl rfl)
theorem dX6_setting_71 : decode cX6_setting 71 = .ok (.aload_n 0, 1) := dk_42 (dk_at dksX6_setting_3 1 rfl rfl)
theorem dX6_setting_72 : decode cX6_setting 72 = .ok (.iload_n 2, 1) := dk_28 (dk_at dksX6_setting_3 2 rfl rfl)
theorem dX6_setting_73 : decode cX6_setting 73 = .ok (.invokevirtual 257, 3) := dk_182 1 1 (dk_at dksX6_setting_3 3 rfl rfl)
theorem dX6_setting_76 : decode cX6_setting 76 = .ok (.iconst (-1), 1) := dk_2 (dk_at dksX6_setting_3 6 rfl rfl)
theorem dX6_setting_77 : decode cX6_setting 77 = .ok (.ixor, 1) := dk_130 (dk_at dksX6_setting_3 7 rfl rfl)
theorem dX6_setting_78 : decode cX6_setting 78 = .ok (.iand, 1) := dk_126 (dk_at dksX6_setting_3 8 rfl rfl)
theorem dX6_setting_79 : decode cX6_setting 79 = .ok (.ifCond .ne 8, 3) := dk_154 0 8 (dk_at dksX6_setting_3 9 rfl rfl)
theorem dX6_setting_82 : decode cX6_setting 82 = .ok (.iload 4, 2) := dk_21 4 (dk_at dksX6_setting_3 12 rfl rfl)
theorem dX6_setting_84 : decode cX6_setting 84 = .ok (.goto 4, 3) := dk_167 0 4 (dk_at dksX6_setting_3 14 rfl rfl)
theorem dX6_setting_87 : decode cX6_setting 87 = .ok (.iconst (-1), 1) := dk_2 (dk_at dksX6_setting_3 17 rfl rfl)
theorem dX6_setting_88 : decode cX6_setting 88 = .ok (.istore_n 3, 1) := dk_62 (dk_at dksX6_setting_3 18 rfl rfl)
theorem dX6_setting_89 : decode cX6_setting 89 = .ok (.iinc 4 1, 3) := dk_132 4 1 (dk_at dksX6_setting_3 19 rfl rfl)
theorem dX6_setting_92 : decode cX6_setting 92 = .ok (.goto (-41), 3) := dk_167 255 215 (dk_at dksX6_setting_4 0 rfl rfl)
theorem dX6_setting_95 : decode cX6_setting 95 = .ok (.iload_n 3, 1) := dk_29 (dk_at dksX6_setting_4 3 rfl rfl)
theorem dX6_setting_96 : decode cX6_setting 96 = .ok (.ifCond .ge 13, 3) := dk_156 0 13 (dk_at dksX6_setting_4 4 rfl rfl)
theorem dX6_setting_99 : decode cX6_setting 99 = .ok (.aload_n 0, 1) := dk_42 (dk_at dksX6_setting_4 7 rfl rfl)
theorem dX6_setting_100 : decode cX6_setting 100 = .ok (.ldc_w 256, 3) := dk_19 1 0 (dk_at dksX6_setting_4 8 rfl rfl)
theorem dX6_setting_103 : decode cX6_setting 103 = .ok (.invokevirtual 82, 3) := dk_182 0 82 (dk_at dksX6_setting_4 11 rfl rfl)
theorem dX6_setting_106 : decode cX6_setting 106 = .ok (.goto 4, 3) := dk_167 0 4 (dk_at dksX6_setting_4 14 rfl rfl)
theorem dX6_setting_109 : decode cX6_setting 109 = .ok (.iload_n 3, 1) := dk_29 (dk_at dksX6_setting_4 17 rfl rfl)
theorem dX6_setting_110 : decode cX6_setting 110 = .ok (.ireturn, 1) := dk_172 (dk_at dksX6_setting_4 18 rfl rfl)
abbrev cX6_inBehind : ByteArray := prog_30_method_68_code
def yX6_inBehind : MethodName := ⟨RX6, "inBehind", "(I)I"⟩
def dkwX6_inBehind_0 : List UInt8 := [42, 27, 182, 0, 237, 42, 42, 3, 182, 0, 200, 182, 0, 250, 172]
abbrev dktX6_inBehind_0 : List UInt8 := dkwX6_inBehind_0 ++ []
theorem dksX6_inBehind_0 : cX6_inBehind.data.toList.drop 0 = dktX6_inBehind_0 := by decide +kernel
theorem dX6_inBehind_0 : decode cX6_inBehind 0 = .ok (.aload_n 0, 1) := dk_42 (dk_at dksX6_inBehind_0 0 rfl rfl)
theorem dX6_inBehind_1 : decode cX6_inBehind 1 = .ok (.iload_n 1, 1) := dk_27 (dk_at dksX6_inBehind_0 1 rfl rfl)
theorem dX6_inBehind_2 : decode cX6_inBehind 2 = .ok (.invokevirtual 237, 3) := dk_182 0 237 (dk_at dksX6_inBehind_0 2 rfl rfl)
theorem dX6_inBehind_5 : decode cX6_inBehind 5 = .ok (.aload_n 0, 1) := dk_42 (dk_at dksX6_inBehind_0 5 rfl rfl)
theorem dX6_inBehind_6 : decode cX6_inBehind 6 = .ok (.aload_n 0, 1) := dk_42 (dk_at dksX6_inBehind_0 6 rfl rfl)
theorem dX6_inBehind_7 : decode cX6_inBehind 7 = .ok (.iconst 0, 1) := dk_3 (dk_at dksX6_inBehind_0 7 rfl rfl)
theorem dX6_inBehind_8 : decode cX6_inBehind 8 = .ok (.invokevirtual 200, 3) := dk_182 0 200 (dk_at dksX6_inBehind_0 8 rfl rfl)
theorem dX6_inBehind_11 : decode cX6_inBehind 11 = .ok (.invokevirtual 250, 3) := dk_182 0 250 (dk_at dksX6_inBehind_0 11 rfl rfl)
theorem dX6_inBehind_14 : decode cX6_inBehind 14 = .ok (.ireturn, 1) := dk_172 (dk_at dksX6_inBehind_0 14 rfl rfl)
abbrev cX6_leastFalse : ByteArray := prog_30_method_71_code
def yX6_leastFalse : MethodName := ⟨RX6, "leastFalse", "(I)I"⟩
def dkwX6_leastFalse_2 : List UInt8 := [132, 3, 1, 167, 255, 228, 27, 154, 0, 7, 28, 167, 0, 8, 42, 28, 182, 1, 4, 172]
abbrev dktX6_leastFalse_2 : List UInt8 := dkwX6_leastFalse_2 ++ []
def dkwX6_leastFalse_1 : List UInt8 := [163, 0, 28, 42, 29, 182, 1, 4, 42, 28, 182, 1, 4, 162, 0, 7, 29, 167, 0, 4, 28, 61]
abbrev dktX6_leastFalse_1 : List UInt8 := dkwX6_leastFalse_1 ++ dktX6_leastFalse_2
def dkwX6_leastFalse_0 : List UInt8 := [27, 3, 4, 184, 0, 77, 154, 0, 10, 42, 18, 81, 182, 0, 82, 172, 4, 61, 5, 62, 29, 16, 99]
abbrev dktX6_leastFalse_0 : List UInt8 := dkwX6_leastFalse_0 ++ dktX6_leastFalse_1
theorem dksX6_leastFalse_0 : cX6_leastFalse.data.toList.drop 0 = dktX6_leastFalse_0 := by decide +kernel
theorem dksX6_leastFalse_1 : cX6_leastFalse.data.toList.drop 23 = dktX6_leastFalse_1 := dk_seg dksX6_leastFalse_0 23 rfl rfl
theorem dksX6_leastFalse_2 : cX6_leastFalse.data.toList.drop 45 = dktX6_leastFalse_2 := dk_seg dksX6_leastFalse_1 22 rfl rfl
theorem dX6_leastFalse_0 : decode cX6_leastFalse 0 = .ok (.iload_n 1, 1) := dk_27 (dk_at dksX6_leastFalse_0 0 rfl rfl)
theorem dX6_leastFalse_1 : decode cX6_leastFalse 1 = .ok (.iconst 0, 1) := dk_3 (dk_at dksX6_leastFalse_0 1 rfl rfl)
theorem dX6_leastFalse_2 : decode cX6_leastFalse 2 = .ok (.iconst 1, 1) := dk_4 (dk_at dksX6_leastFalse_0 2 rfl rfl)
theorem dX6_leastFalse_3 : decode cX6_leastFalse 3 = .ok (.invokestatic 77, 3) := dk_184 0 77 (dk_at dksX6_leastFalse_0 3 rfl rfl)
theorem dX6_leastFalse_6 : decode cX6_leastFalse 6 = .ok (.ifCond .ne 10, 3) := dk_154 0 10 (dk_at dksX6_leastFalse_0 6 rfl rfl)
theorem dX6_leastFalse_9 : decode cX6_leastFalse 9 = .ok (.aload_n 0, 1) := dk_42 (dk_at dksX6_leastFalse_0 9 rfl rfl)
theorem dX6_leastFalse_10 : decode cX6_leastFalse 10 = .ok (.ldc 81, 2) := dk_18 81 (dk_at dksX6_leastFalse_0 10 rfl rfl)
theorem dX6_leastFalse_12 : decode cX6_leastFalse 12 = .ok (.invokevirtual 82, 3) := dk_182 0 82 (dk_at dksX6_leastFalse_0 12 rfl rfl)
theorem dX6_leastFalse_15 : decode cX6_leastFalse 15 = .ok (.ireturn, 1) := dk_172 (dk_at dksX6_leastFalse_0 15 rfl rfl)
theorem dX6_leastFalse_16 : decode cX6_leastFalse 16 = .ok (.iconst 1, 1) := dk_4 (dk_at dksX6_leastFalse_0 16 rfl rfl)
theorem dX6_leastFalse_17 : decode cX6_leastFalse 17 = .ok (.istore_n 2, 1) := dk_61 (dk_at dksX6_leastFalse_0 17 rfl rfl)
theorem dX6_leastFalse_18 : decode cX6_leastFalse 18 = .ok (.iconst 2, 1) := dk_5 (dk_at dksX6_leastFalse_0 18 rfl rfl)
theorem dX6_leastFalse_19 : decode cX6_leastFalse 19 = .ok (.istore_n 3, 1) := dk_62 (dk_at dksX6_leastFalse_0 19 rfl rfl)
theorem dX6_leastFalse_20 : decode cX6_leastFalse 20 = .ok (.iload_n 3, 1) := dk_29 (dk_at dksX6_leastFalse_0 20 rfl rfl)
theorem dX6_leastFalse_21 : decode cX6_leastFalse 21 = .ok (.bipush 99, 2) := dk_16 99 (dk_at dksX6_leastFalse_0 21 rfl rfl)
theorem dX6_leastFalse_23 : decode cX6_leastFalse 23 = .ok (.if_icmp .gt 28, 3) := dk_163 0 28 (dk_at dksX6_leastFalse_1 0 rfl rfl)
theorem dX6_leastFalse_26 : decode cX6_leastFalse 26 = .ok (.aload_n 0, 1) := dk_42 (dk_at dksX6_leastFalse_1 3 rfl rfl)
theorem dX6_leastFalse_27 : decode cX6_leastFalse 27 = .ok (.iload_n 3, 1) := dk_29 (dk_at dksX6_leastFalse_1 4 rfl rfl)
theorem dX6_leastFalse_28 : decode cX6_leastFalse 28 = .ok (.invokevirtual 260, 3) := dk_182 1 4 (dk_at dksX6_leastFalse_1 5 rfl rfl)
theorem dX6_leastFalse_31 : decode cX6_leastFalse 31 = .ok (.aload_n 0, 1) := dk_42 (dk_at dksX6_leastFalse_1 8 rfl rfl)
theorem dX6_leastFalse_32 : decode cX6_leastFalse 32 = .ok (.iload_n 2, 1) := dk_28 (dk_at dksX6_leastFalse_1 9 rfl rfl)
theorem dX6_leastFalse_33 : decode cX6_leastFalse 33 = .ok (.invokevirtual 260, 3) := dk_182 1 4 (dk_at dksX6_leastFalse_1 10 rfl rfl)
theorem dX6_leastFalse_36 : decode cX6_leastFalse 36 = .ok (.if_icmp .ge 7, 3) := dk_162 0 7 (dk_at dksX6_leastFalse_1 13 rfl rfl)
theorem dX6_leastFalse_39 : decode cX6_leastFalse 39 = .ok (.iload_n 3, 1) := dk_29 (dk_at dksX6_leastFalse_1 16 rfl rfl)
theorem dX6_leastFalse_40 : decode cX6_leastFalse 40 = .ok (.goto 4, 3) := dk_167 0 4 (dk_at dksX6_leastFalse_1 17 rfl rfl)
theorem dX6_leastFalse_43 : decode cX6_leastFalse 43 = .ok (.iload_n 2, 1) := dk_28 (dk_at dksX6_leastFalse_1 20 rfl rfl)
theorem dX6_leastFalse_44 : decode cX6_leastFalse 44 = .ok (.istore_n 2, 1) := dk_61 (dk_at dksX6_leastFalse_1 21 rfl rfl)
theorem dX6_leastFalse_45 : decode cX6_leastFalse 45 = .ok (.iinc 3 1, 3) := dk_132 3 1 (dk_at dksX6_leastFalse_2 0 rfl rfl)
theorem dX6_leastFalse_48 : decode cX6_leastFalse 48 = .ok (.goto (-28), 3) := dk_167 255 228 (dk_at dksX6_leastFalse_2 3 rfl rfl)
theorem dX6_leastFalse_51 : decode cX6_leastFalse 51 = .ok (.iload_n 1, 1) := dk_27 (dk_at dksX6_leastFalse_2 6 rfl rfl)
theorem dX6_leastFalse_52 : decode cX6_leastFalse 52 = .ok (.ifCond .ne 7, 3) := dk_154 0 7 (dk_at dksX6_leastFalse_2 7 rfl rfl)
theorem dX6_leastFalse_55 : decode cX6_leastFalse 55 = .ok (.iload_n 2, 1) := dk_28 (dk_at dksX6_leastFalse_2 10 rfl rfl)
theorem dX6_leastFalse_56 : decode cX6_leastFalse 56 = .ok (.goto 8, 3) := dk_167 0 8 (dk_at dksX6_leastFalse_2 11 rfl rfl)
theorem dX6_leastFalse_59 : decode cX6_leastFalse 59 = .ok (.aload_n 0, 1) := dk_42 (dk_at dksX6_leastFalse_2 14 rfl rfl)
theorem dX6_leastFalse_60 : decode cX6_leastFalse 60 = .ok (.iload_n 2, 1) := dk_28 (dk_at dksX6_leastFalse_2 15 rfl rfl)
theorem dX6_leastFalse_61 : decode cX6_leastFalse 61 = .ok (.invokevirtual 260, 3) := dk_182 1 4 (dk_at dksX6_leastFalse_2 16 rfl rfl)
theorem dX6_leastFalse_64 : decode cX6_leastFalse 64 = .ok (.ireturn, 1) := dk_172 (dk_at dksX6_leastFalse_2 19 rfl rfl)
abbrev cX6_falseBy : ByteArray := prog_30_method_70_code
def yX6_falseBy : MethodName := ⟨RX6, "falseBy", "(I)I"⟩
def dkwX6_falseBy_2 : List UInt8 := [167, 255, 214, 28, 172]
abbrev dktX6_falseBy_2 : List UInt8 := dkwX6_falseBy_2 ++ []
def dkwX6_falseBy_1 : List UInt8 := [100, 182, 0, 184, 42, 29, 182, 0, 194, 160, 0, 7, 3, 167, 0, 4, 4, 96, 61, 132, 3, 1]
abbrev dktX6_falseBy_1 : List UInt8 := dkwX6_falseBy_1 ++ dktX6_falseBy_2
def dkwX6_falseBy_0 : List UInt8 := [3, 61, 3, 62, 29, 42, 180, 0, 9, 4, 46, 162, 0, 38, 28, 42, 29, 42, 180, 0, 9, 6, 46, 27]
abbrev dktX6_falseBy_0 : List UInt8 := dkwX6_falseBy_0 ++ dktX6_falseBy_1
theorem dksX6_falseBy_0 : cX6_falseBy.data.toList.drop 0 = dktX6_falseBy_0 := by decide +kernel
theorem dksX6_falseBy_1 : cX6_falseBy.data.toList.drop 24 = dktX6_falseBy_1 := dk_seg dksX6_falseBy_0 24 rfl rfl
theorem dksX6_falseBy_2 : cX6_falseBy.data.toList.drop 46 = dktX6_falseBy_2 := dk_seg dksX6_falseBy_1 22 rfl rfl
theorem dX6_falseBy_0 : decode cX6_falseBy 0 = .ok (.iconst 0, 1) := dk_3 (dk_at dksX6_falseBy_0 0 rfl rfl)
theorem dX6_falseBy_1 : decode cX6_falseBy 1 = .ok (.istore_n 2, 1) := dk_61 (dk_at dksX6_falseBy_0 1 rfl rfl)
theorem dX6_falseBy_2 : decode cX6_falseBy 2 = .ok (.iconst 0, 1) := dk_3 (dk_at dksX6_falseBy_0 2 rfl rfl)
theorem dX6_falseBy_3 : decode cX6_falseBy 3 = .ok (.istore_n 3, 1) := dk_62 (dk_at dksX6_falseBy_0 3 rfl rfl)
theorem dX6_falseBy_4 : decode cX6_falseBy 4 = .ok (.iload_n 3, 1) := dk_29 (dk_at dksX6_falseBy_0 4 rfl rfl)
theorem dX6_falseBy_5 : decode cX6_falseBy 5 = .ok (.aload_n 0, 1) := dk_42 (dk_at dksX6_falseBy_0 5 rfl rfl)
theorem dX6_falseBy_6 : decode cX6_falseBy 6 = .ok (.getfield 9, 3) := dk_180 0 9 (dk_at dksX6_falseBy_0 6 rfl rfl)
theorem dX6_falseBy_9 : decode cX6_falseBy 9 = .ok (.iconst 1, 1) := dk_4 (dk_at dksX6_falseBy_0 9 rfl rfl)
theorem dX6_falseBy_10 : decode cX6_falseBy 10 = .ok (.iaload, 1) := dk_46 (dk_at dksX6_falseBy_0 10 rfl rfl)
theorem dX6_falseBy_11 : decode cX6_falseBy 11 = .ok (.if_icmp .ge 38, 3) := dk_162 0 38 (dk_at dksX6_falseBy_0 11 rfl rfl)
theorem dX6_falseBy_14 : decode cX6_falseBy 14 = .ok (.iload_n 2, 1) := dk_28 (dk_at dksX6_falseBy_0 14 rfl rfl)
theorem dX6_falseBy_15 : decode cX6_falseBy 15 = .ok (.aload_n 0, 1) := dk_42 (dk_at dksX6_falseBy_0 15 rfl rfl)
theorem dX6_falseBy_16 : decode cX6_falseBy 16 = .ok (.iload_n 3, 1) := dk_29 (dk_at dksX6_falseBy_0 16 rfl rfl)
theorem dX6_falseBy_17 : decode cX6_falseBy 17 = .ok (.aload_n 0, 1) := dk_42 (dk_at dksX6_falseBy_0 17 rfl rfl)
theorem dX6_falseBy_18 : decode cX6_falseBy 18 = .ok (.getfield 9, 3) := dk_180 0 9 (dk_at dksX6_falseBy_0 18 rfl rfl)
theorem dX6_falseBy_21 : decode cX6_falseBy 21 = .ok (.iconst 3, 1) := dk_6 (dk_at dksX6_falseBy_0 21 rfl rfl)
theorem dX6_falseBy_22 : decode cX6_falseBy 22 = .ok (.iaload, 1) := dk_46 (dk_at dksX6_falseBy_0 22 rfl rfl)
theorem dX6_falseBy_23 : decode cX6_falseBy 23 = .ok (.iload_n 1, 1) := dk_27 (dk_at dksX6_falseBy_0 23 rfl rfl)
theorem dX6_falseBy_24 : decode cX6_falseBy 24 = .ok (.isub, 1) := dk_100 (dk_at dksX6_falseBy_1 0 rfl rfl)
theorem dX6_falseBy_25 : decode cX6_falseBy 25 = .ok (.invokevirtual 184, 3) := dk_182 0 184 (dk_at dksX6_falseBy_1 1 rfl rfl)
theorem dX6_falseBy_28 : decode cX6_falseBy 28 = .ok (.aload_n 0, 1) := dk_42 (dk_at dksX6_falseBy_1 4 rfl rfl)
theorem dX6_falseBy_29 : decode cX6_falseBy 29 = .ok (.iload_n 3, 1) := dk_29 (dk_at dksX6_falseBy_1 5 rfl rfl)
theorem dX6_falseBy_30 : decode cX6_falseBy 30 = .ok (.invokevirtual 194, 3) := dk_182 0 194 (dk_at dksX6_falseBy_1 6 rfl rfl)
theorem dX6_falseBy_33 : decode cX6_falseBy 33 = .ok (.if_icmp .ne 7, 3) := dk_160 0 7 (dk_at dksX6_falseBy_1 9 rfl rfl)
theorem dX6_falseBy_36 : decode cX6_falseBy 36 = .ok (.iconst 0, 1) := dk_3 (dk_at dksX6_falseBy_1 12 rfl rfl)
theorem dX6_falseBy_37 : decode cX6_falseBy 37 = .ok (.goto 4, 3) := dk_167 0 4 (dk_at dksX6_falseBy_1 13 rfl rfl)
theorem dX6_falseBy_40 : decode cX6_falseBy 40 = .ok (.iconst 1, 1) := dk_4 (dk_at dksX6_falseBy_1 16 rfl rfl)
theorem dX6_falseBy_41 : decode cX6_falseBy 41 = .ok (.iadd, 1) := dk_96 (dk_at dksX6_falseBy_1 17 rfl rfl)
theorem dX6_falseBy_42 : decode cX6_falseBy 42 = .ok (.istore_n 2, 1) := dk_61 (dk_at dksX6_falseBy_1 18 rfl rfl)
theorem dX6_falseBy_43 : decode cX6_falseBy 43 = .ok (.iinc 3 1, 3) := dk_132 3 1 (dk_at dksX6_falseBy_1 19 rfl rfl)
theorem dX6_falseBy_46 : decode cX6_falseBy 46 = .ok (.goto (-42), 3) := dk_167 255 214 (dk_at dksX6_falseBy_2 0 rfl rfl)
theorem dX6_falseBy_49 : decode cX6_falseBy 49 = .ok (.iload_n 2, 1) := dk_28 (dk_at dksX6_falseBy_2 3 rfl rfl)
theorem dX6_falseBy_50 : decode cX6_falseBy 50 = .ok (.ireturn, 1) := dk_172 (dk_at dksX6_falseBy_2 4 rfl rfl)
abbrev cX6_which : ByteArray := prog_30_method_73_code
def yX6_which : MethodName := ⟨RX6, "which", "(II)I"⟩
def dkwX6_which_5 : List UInt8 := [167, 0, 20, 21, 4, 156, 0, 13, 42, 19, 1, 0, 182, 0, 82, 167, 0, 5, 21, 4, 172]
abbrev dktX6_which_5 : List UInt8 := dkwX6_which_5 ++ []
def dkwX6_which_4 : List UInt8 := [153, 0, 8, 21, 5, 167, 0, 5, 21, 4, 54, 4, 132, 5, 255, 167, 255, 212, 28, 154, 0, 7, 29]
abbrev dktX6_which_4 : List UInt8 := dkwX6_which_4 ++ dktX6_which_5
def dkwX6_which_3 : List UInt8 := [21, 5, 182, 1, 10, 54, 6, 29, 21, 6, 153, 0, 7, 4, 167, 0, 4, 3, 96, 62, 21, 6]
abbrev dktX6_which_3 : List UInt8 := dkwX6_which_3 ++ dktX6_which_4
def dkwX6_which_2 : List UInt8 := [19, 1, 0, 182, 0, 82, 172, 3, 62, 2, 54, 4, 16, 99, 54, 5, 21, 5, 155, 0, 45, 42, 27]
abbrev dktX6_which_2 : List UInt8 := dkwX6_which_2 ++ dktX6_which_3
def dkwX6_which_1 : List UInt8 := [180, 0, 47, 27, 46, 153, 0, 18, 42, 180, 0, 50, 27, 46, 42, 180, 0, 9, 4, 46, 159, 0, 11, 42]
abbrev dktX6_which_1 : List UInt8 := dkwX6_which_1 ++ dktX6_which_2
def dkwX6_which_0 : List UInt8 := [27, 184, 1, 7, 153, 0, 12, 28, 3, 4, 184, 0, 77, 154, 0, 10, 42, 18, 81, 182, 0, 82, 172, 42]
abbrev dktX6_which_0 : List UInt8 := dkwX6_which_0 ++ dktX6_which_1
theorem dksX6_which_0 : cX6_which.data.toList.drop 0 = dktX6_which_0 := by decide +kernel
theorem dksX6_which_1 : cX6_which.data.toList.drop 24 = dktX6_which_1 := dk_seg dksX6_which_0 24 rfl rfl
theorem dksX6_which_2 : cX6_which.data.toList.drop 48 = dktX6_which_2 := dk_seg dksX6_which_1 24 rfl rfl
theorem dksX6_which_3 : cX6_which.data.toList.drop 71 = dktX6_which_3 := dk_seg dksX6_which_2 23 rfl rfl
theorem dksX6_which_4 : cX6_which.data.toList.drop 93 = dktX6_which_4 := dk_seg dksX6_which_3 22 rfl rfl
theorem dksX6_which_5 : cX6_which.data.toList.drop 116 = dktX6_which_5 := dk_seg dksX6_which_4 23 rfl rfl
theorem dX6_which_0 : decode cX6_which 0 = .ok (.iload_n 1, 1) := dk_27 (dk_at dksX6_which_0 0 rfl rfl)
theorem dX6_which_1 : decode cX6_which 1 = .ok (.invokestatic 263, 3) := dk_184 1 7 (dk_at dksX6_which_0 1 rfl rfl)
theorem dX6_which_4 : decode cX6_which 4 = .ok (.ifCond .eq 12, 3) := dk_153 0 12 (dk_at dksX6_which_0 4 rfl rfl)
theorem dX6_which_7 : decode cX6_which 7 = .ok (.iload_n 2, 1) := dk_28 (dk_at dksX6_which_0 7 rfl rfl)
theorem dX6_which_8 : decode cX6_which 8 = .ok (.iconst 0, 1) := dk_3 (dk_at dksX6_which_0 8 rfl rfl)
theorem dX6_which_9 : decode cX6_which 9 = .ok (.iconst 1, 1) := dk_4 (dk_at dksX6_which_0 9 rfl rfl)
theorem dX6_which_10 : decode cX6_which 10 = .ok (.invokestatic 77, 3) := dk_184 0 77 (dk_at dksX6_which_0 10 rfl rfl)
theorem dX6_which_13 : decode cX6_which 13 = .ok (.ifCond .ne 10, 3) := dk_154 0 10 (dk_at dksX6_which_0 13 rfl rfl)
theorem dX6_which_16 : decode cX6_which 16 = .ok (.aload_n 0, 1) := dk_42 (dk_at dksX6_which_0 16 rfl rfl)
theorem dX6_which_17 : decode cX6_which 17 = .ok (.ldc 81, 2) := dk_18 81 (dk_at dksX6_which_0 17 rfl rfl)
theorem dX6_which_19 : decode cX6_which 19 = .ok (.invokevirtual 82, 3) := dk_182 0 82 (dk_at dksX6_which_0 19 rfl rfl)
theorem dX6_which_22 : decode cX6_which 22 = .ok (.ireturn, 1) := dk_172 (dk_at dksX6_which_0 22 rfl rfl)
theorem dX6_which_23 : decode cX6_which 23 = .ok (.aload_n 0, 1) := dk_42 (dk_at dksX6_which_0 23 rfl rfl)
theorem dX6_which_24 : decode cX6_which 24 = .ok (.getfield 47, 3) := dk_180 0 47 (dk_at dksX6_which_1 0 rfl rfl)
theorem dX6_which_27 : decode cX6_which 27 = .ok (.iload_n 1, 1) := dk_27 (dk_at dksX6_which_1 3 rfl rfl)
theorem dX6_which_28 : decode cX6_which 28 = .ok (.iaload, 1) := dk_46 (dk_at dksX6_which_1 4 rfl rfl)
theorem dX6_which_29 : decode cX6_which 29 = .ok (.ifCond .eq 18, 3) := dk_153 0 18 (dk_at dksX6_which_1 5 rfl rfl)
theorem dX6_which_32 : decode cX6_which 32 = .ok (.aload_n 0, 1) := dk_42 (dk_at dksX6_which_1 8 rfl rfl)
theorem dX6_which_33 : decode cX6_which 33 = .ok (.getfield 50, 3) := dk_180 0 50 (dk_at dksX6_which_1 9 rfl rfl)
theorem dX6_which_36 : decode cX6_which 36 = .ok (.iload_n 1, 1) := dk_27 (dk_at dksX6_which_1 12 rfl rfl)
theorem dX6_which_37 : decode cX6_which 37 = .ok (.iaload, 1) := dk_46 (dk_at dksX6_which_1 13 rfl rfl)
theorem dX6_which_38 : decode cX6_which 38 = .ok (.aload_n 0, 1) := dk_42 (dk_at dksX6_which_1 14 rfl rfl)
theorem dX6_which_39 : decode cX6_which 39 = .ok (.getfield 9, 3) := dk_180 0 9 (dk_at dksX6_which_1 15 rfl rfl)
theorem dX6_which_42 : decode cX6_which 42 = .ok (.iconst 1, 1) := dk_4 (dk_at dksX6_which_1 18 rfl rfl)
theorem dX6_which_43 : decode cX6_which 43 = .ok (.iaload, 1) := dk_46 (dk_at dksX6_which_1 19 rfl rfl)
theorem dX6_which_44 : decode cX6_which 44 = .ok (.if_icmp .eq 11, 3) := dk_159 0 11 (dk_at dksX6_which_1 20 rfl rfl)
theorem dX6_which_47 : decode cX6_which 47 = .ok (.aload_n 0, 1) := dk_42 (dk_at dksX6_which_1 23 rfl rfl)
theorem dX6_which_48 : decode cX6_which 48 = .ok (.ldc_w 256, 3) := dk_19 1 0 (dk_at dksX6_which_2 0 rfl rfl)
theorem dX6_which_51 : decode cX6_which 51 = .ok (.invokevirtual 82, 3) := dk_182 0 82 (dk_at dksX6_which_2 3 rfl rfl)
theorem dX6_which_54 : decode cX6_which 54 = .ok (.ireturn, 1) := dk_172 (dk_at dksX6_which_2 6 rfl rfl)
theorem dX6_which_55 : decode cX6_which 55 = .ok (.iconst 0, 1) := dk_3 (dk_at dksX6_which_2 7 rfl rfl)
theorem dX6_which_56 : decode cX6_which 56 = .ok (.istore_n 3, 1) := dk_62 (dk_at dksX6_which_2 8 rfl rfl)
theorem dX6_which_57 : decode cX6_which 57 = .ok (.iconst (-1), 1) := dk_2 (dk_at dksX6_which_2 9 rfl rfl)
theorem dX6_which_58 : decode cX6_which 58 = .ok (.istore 4, 2) := dk_54 4 (dk_at dksX6_which_2 10 rfl rfl)
theorem dX6_which_60 : decode cX6_which 60 = .ok (.bipush 99, 2) := dk_16 99 (dk_at dksX6_which_2 12 rfl rfl)
theorem dX6_which_62 : decode cX6_which 62 = .ok (.istore 5, 2) := dk_54 5 (dk_at dksX6_which_2 14 rfl rfl)
theorem dX6_which_64 : decode cX6_which 64 = .ok (.iload 5, 2) := dk_21 5 (dk_at dksX6_which_2 16 rfl rfl)
theorem dX6_which_66 : decode cX6_which 66 = .ok (.ifCond .lt 45, 3) := dk_155 0 45 (dk_at dksX6_which_2 18 rfl rfl)
theorem dX6_which_69 : decode cX6_which 69 = .ok (.aload_n 0, 1) := dk_42 (dk_at dksX6_which_2 21 rfl rfl)
theorem dX6_which_70 : decode cX6_which 70 = .ok (.iload_n 1, 1) := dk_27 (dk_at dksX6_which_2 22 rfl rfl)
theorem dX6_which_71 : decode cX6_which 71 = .ok (.iload 5, 2) := dk_21 5 (dk_at dksX6_which_3 0 rfl rfl)
theorem dX6_which_73 : decode cX6_which 73 = .ok (.invokevirtual 266, 3) := dk_182 1 10 (dk_at dksX6_which_3 2 rfl rfl)
theorem dX6_which_76 : decode cX6_which 76 = .ok (.istore 6, 2) := dk_54 6 (dk_at dksX6_which_3 5 rfl rfl)
theorem dX6_which_78 : decode cX6_which 78 = .ok (.iload_n 3, 1) := dk_29 (dk_at dksX6_which_3 7 rfl rfl)
theorem dX6_which_79 : decode cX6_which 79 = .ok (.iload 6, 2) := dk_21 6 (dk_at dksX6_which_3 8 rfl rfl)
theorem dX6_which_81 : decode cX6_which 81 = .ok (.ifCond .eq 7, 3) := dk_153 0 7 (dk_at dksX6_which_3 10 rfl rfl)
theorem dX6_which_84 : decode cX6_which 84 = .ok (.iconst 1, 1) := dk_4 (dk_at dksX6_which_3 13 rfl rfl)
theorem dX6_which_85 : decode cX6_which 85 = .ok (.goto 4, 3) := dk_167 0 4 (dk_at dksX6_which_3 14 rfl rfl)
theorem dX6_which_88 : decode cX6_which 88 = .ok (.iconst 0, 1) := dk_3 (dk_at dksX6_which_3 17 rfl rfl)
theorem dX6_which_89 : decode cX6_which 89 = .ok (.iadd, 1) := dk_96 (dk_at dksX6_which_3 18 rfl rfl)
theorem dX6_which_90 : decode cX6_which 90 = .ok (.istore_n 3, 1) := dk_62 (dk_at dksX6_which_3 19 rfl rfl)
theorem dX6_which_91 : decode cX6_which 91 = .ok (.iload 6, 2) := dk_21 6 (dk_at dksX6_which_3 20 rfl rfl)
theorem dX6_which_93 : decode cX6_which 93 = .ok (.ifCond .eq 8, 3) := dk_153 0 8 (dk_at dksX6_which_4 0 rfl rfl)
theorem dX6_which_96 : decode cX6_which 96 = .ok (.iload 5, 2) := dk_21 5 (dk_at dksX6_which_4 3 rfl rfl)
theorem dX6_which_98 : decode cX6_which 98 = .ok (.goto 5, 3) := dk_167 0 5 (dk_at dksX6_which_4 5 rfl rfl)
theorem dX6_which_101 : decode cX6_which 101 = .ok (.iload 4, 2) := dk_21 4 (dk_at dksX6_which_4 8 rfl rfl)
theorem dX6_which_103 : decode cX6_which 103 = .ok (.istore 4, 2) := dk_54 4 (dk_at dksX6_which_4 10 rfl rfl)
theorem dX6_which_105 : decode cX6_which 105 = .ok (.iinc 5 (-1), 3) := dk_132 5 255 (dk_at dksX6_which_4 12 rfl rfl)
theorem dX6_which_108 : decode cX6_which 108 = .ok (.goto (-44), 3) := dk_167 255 212 (dk_at dksX6_which_4 15 rfl rfl)
theorem dX6_which_111 : decode cX6_which 111 = .ok (.iload_n 2, 1) := dk_28 (dk_at dksX6_which_4 18 rfl rfl)
theorem dX6_which_112 : decode cX6_which 112 = .ok (.ifCond .ne 7, 3) := dk_154 0 7 (dk_at dksX6_which_4 19 rfl rfl)
theorem dX6_which_115 : decode cX6_which 115 = .ok (.iload_n 3, 1) := dk_29 (dk_at dksX6_which_4 22 rfl rfl)
theorem dX6_which_116 : decode cX6_which 116 = .ok (.goto 20, 3) := dk_167 0 20 (dk_at dksX6_which_5 0 rfl rfl)
theorem dX6_which_119 : decode cX6_which 119 = .ok (.iload 4, 2) := dk_21 4 (dk_at dksX6_which_5 3 rfl rfl)
theorem dX6_which_121 : decode cX6_which 121 = .ok (.ifCond .ge 13, 3) := dk_156 0 13 (dk_at dksX6_which_5 5 rfl rfl)
theorem dX6_which_124 : decode cX6_which 124 = .ok (.aload_n 0, 1) := dk_42 (dk_at dksX6_which_5 8 rfl rfl)
theorem dX6_which_125 : decode cX6_which 125 = .ok (.ldc_w 256, 3) := dk_19 1 0 (dk_at dksX6_which_5 9 rfl rfl)
theorem dX6_which_128 : decode cX6_which 128 = .ok (.invokevirtual 82, 3) := dk_182 0 82 (dk_at dksX6_which_5 12 rfl rfl)
theorem dX6_which_131 : decode cX6_which 131 = .ok (.goto 5, 3) := dk_167 0 5 (dk_at dksX6_which_5 15 rfl rfl)
theorem dX6_which_134 : decode cX6_which 134 = .ok (.iload 4, 2) := dk_21 4 (dk_at dksX6_which_5 18 rfl rfl)
theorem dX6_which_136 : decode cX6_which 136 = .ok (.ireturn, 1) := dk_172 (dk_at dksX6_which_5 20 rfl rfl)
abbrev cX6_isSheet : ByteArray := prog_30_method_89_code
def yX6_isSheet : MethodName := ⟨RX6, "isSheet", "(I)Z"⟩
def dkwX6_isSheet_0 : List UInt8 := [26, 3, 6, 184, 0, 77, 172]
abbrev dktX6_isSheet_0 : List UInt8 := dkwX6_isSheet_0 ++ []
theorem dksX6_isSheet_0 : cX6_isSheet.data.toList.drop 0 = dktX6_isSheet_0 := by decide +kernel
theorem dX6_isSheet_0 : decode cX6_isSheet 0 = .ok (.iload_n 0, 1) := dk_26 (dk_at dksX6_isSheet_0 0 rfl rfl)
theorem dX6_isSheet_1 : decode cX6_isSheet 1 = .ok (.iconst 0, 1) := dk_3 (dk_at dksX6_isSheet_0 1 rfl rfl)
theorem dX6_isSheet_2 : decode cX6_isSheet 2 = .ok (.iconst 3, 1) := dk_6 (dk_at dksX6_isSheet_0 2 rfl rfl)
theorem dX6_isSheet_3 : decode cX6_isSheet 3 = .ok (.invokestatic 77, 3) := dk_184 0 77 (dk_at dksX6_isSheet_0 3 rfl rfl)
theorem dX6_isSheet_6 : decode cX6_isSheet 6 = .ok (.ireturn, 1) := dk_172 (dk_at dksX6_isSheet_0 6 rfl rfl)
abbrev cX6_isShownSo : ByteArray := prog_30_method_72_code
def yX6_isShownSo : MethodName := ⟨RX6, "isShownSo", "(II)Z"⟩
def dkwX6_isShownSo_2 : List UInt8 := [160, 0, 7, 4, 167, 0, 4, 3, 62, 132, 4, 1, 167, 255, 201, 29, 172]
abbrev dktX6_isShownSo_2 : List UInt8 := dkwX6_isShownSo_2 ++ []
def dkwX6_isShownSo_1 : List UInt8 := [21, 4, 96, 46, 54, 5, 29, 153, 0, 24, 21, 5, 155, 0, 15, 21, 5, 42, 21, 4, 28, 182, 0, 197]
abbrev dktX6_isShownSo_1 : List UInt8 := dkwX6_isShownSo_1 ++ dktX6_isShownSo_2
def dkwX6_isShownSo_0 : List UInt8 := [4, 62, 3, 54, 4, 21, 4, 42, 180, 0, 9, 4, 46, 162, 0, 50, 42, 180, 0, 53, 16, 40, 27, 104]
abbrev dktX6_isShownSo_0 : List UInt8 := dkwX6_isShownSo_0 ++ dktX6_isShownSo_1
theorem dksX6_isShownSo_0 : cX6_isShownSo.data.toList.drop 0 = dktX6_isShownSo_0 := by decide +kernel
theorem dksX6_isShownSo_1 : cX6_isShownSo.data.toList.drop 24 = dktX6_isShownSo_1 := dk_seg dksX6_isShownSo_0 24 rfl rfl
theorem dksX6_isShownSo_2 : cX6_isShownSo.data.toList.drop 48 = dktX6_isShownSo_2 := dk_seg dksX6_isShownSo_1 24 rfl rfl
theorem dX6_isShownSo_0 : decode cX6_isShownSo 0 = .ok (.iconst 1, 1) := dk_4 (dk_at dksX6_isShownSo_0 0 rfl rfl)
theorem dX6_isShownSo_1 : decode cX6_isShownSo 1 = .ok (.istore_n 3, 1) := dk_62 (dk_at dksX6_isShownSo_0 1 rfl rfl)
theorem dX6_isShownSo_2 : decode cX6_isShownSo 2 = .ok (.iconst 0, 1) := dk_3 (dk_at dksX6_isShownSo_0 2 rfl rfl)
theorem dX6_isShownSo_3 : decode cX6_isShownSo 3 = .ok (.istore 4, 2) := dk_54 4 (dk_at dksX6_isShownSo_0 3 rfl rfl)
theorem dX6_isShownSo_5 : decode cX6_isShownSo 5 = .ok (.iload 4, 2) := dk_21 4 (dk_at dksX6_isShownSo_0 5 rfl rfl)
theorem dX6_isShownSo_7 : decode cX6_isShownSo 7 = .ok (.aload_n 0, 1) := dk_42 (dk_at dksX6_isShownSo_0 7 rfl rfl)
theorem dX6_isShownSo_8 : decode cX6_isShownSo 8 = .ok (.getfield 9, 3) := dk_180 0 9 (dk_at dksX6_isShownSo_0 8 rfl rfl)
theorem dX6_isShownSo_11 : decode cX6_isShownSo 11 = .ok (.iconst 1, 1) := dk_4 (dk_at dksX6_isShownSo_0 11 rfl rfl)
theorem dX6_isShownSo_12 : decode cX6_isShownSo 12 = .ok (.iaload, 1) := dk_46 (dk_at dksX6_isShownSo_0 12 rfl rfl)
theorem dX6_isShownSo_13 : decode cX6_isShownSo 13 = .ok (.if_icmp .ge 50, 3) := dk_162 0 50 (dk_at dksX6_isShownSo_0 13 rfl rfl)
theorem dX6_isShownSo_16 : decode cX6_isShownSo 16 = .ok (.aload_n 0, 1) := dk_42 (dk_at dksX6_isShownSo_0 16 rfl rfl)
theorem dX6_isShownSo_17 : decode cX6_isShownSo 17 = .ok (.getfield 53, 3) := dk_180 0 53 (dk_at dksX6_isShownSo_0 17 rfl rfl)
theorem dX6_isShownSo_20 : decode cX6_isShownSo 20 = .ok (.bipush 40, 2) := dk_16 40 (dk_at dksX6_isShownSo_0 20 rfl rfl)
theorem dX6_isShownSo_22 : decode cX6_isShownSo 22 = .ok (.iload_n 1, 1) := dk_27 (dk_at dksX6_isShownSo_0 22 rfl rfl)
theorem dX6_isShownSo_23 : decode cX6_isShownSo 23 = .ok (.imul, 1) := dk_104 (dk_at dksX6_isShownSo_0 23 rfl rfl)
theorem dX6_isShownSo_24 : decode cX6_isShownSo 24 = .ok (.iload 4, 2) := dk_21 4 (dk_at dksX6_isShownSo_1 0 rfl rfl)
theorem dX6_isShownSo_26 : decode cX6_isShownSo 26 = .ok (.iadd, 1) := dk_96 (dk_at dksX6_isShownSo_1 2 rfl rfl)
theorem dX6_isShownSo_27 : decode cX6_isShownSo 27 = .ok (.iaload, 1) := dk_46 (dk_at dksX6_isShownSo_1 3 rfl rfl)
theorem dX6_isShownSo_28 : decode cX6_isShownSo 28 = .ok (.istore 5, 2) := dk_54 5 (dk_at dksX6_isShownSo_1 4 rfl rfl)
theorem dX6_isShownSo_30 : decode cX6_isShownSo 30 = .ok (.iload_n 3, 1) := dk_29 (dk_at dksX6_isShownSo_1 6 rfl rfl)
theorem dX6_isShownSo_31 : decode cX6_isShownSo 31 = .ok (.ifCond .eq 24, 3) := dk_153 0 24 (dk_at dksX6_isShownSo_1 7 rfl rfl)
theorem dX6_isShownSo_34 : decode cX6_isShownSo 34 = .ok (.iload 5, 2) := dk_21 5 (dk_at dksX6_isShownSo_1 10 rfl rfl)
theorem dX6_isShownSo_36 : decode cX6_isShownSo 36 = .ok (.ifCond .lt 15, 3) := dk_155 0 15 (dk_at dksX6_isShownSo_1 12 rfl rfl)
theorem dX6_isShownSo_39 : decode cX6_isShownSo 39 = .ok (.iload 5, 2) := dk_21 5 (dk_at dksX6_isShownSo_1 15 rfl rfl)
theorem dX6_isShownSo_41 : decode cX6_isShownSo 41 = .ok (.aload_n 0, 1) := dk_42 (dk_at dksX6_isShownSo_1 17 rfl rfl)
theorem dX6_isShownSo_42 : decode cX6_isShownSo 42 = .ok (.iload 4, 2) := dk_21 4 (dk_at dksX6_isShownSo_1 18 rfl rfl)
theorem dX6_isShownSo_44 : decode cX6_isShownSo 44 = .ok (.iload_n 2, 1) := dk_28 (dk_at dksX6_isShownSo_1 20 rfl rfl)
theorem dX6_isShownSo_45 : decode cX6_isShownSo 45 = .ok (.invokevirtual 197, 3) := dk_182 0 197 (dk_at dksX6_isShownSo_1 21 rfl rfl)
theorem dX6_isShownSo_48 : decode cX6_isShownSo 48 = .ok (.if_icmp .ne 7, 3) := dk_160 0 7 (dk_at dksX6_isShownSo_2 0 rfl rfl)
theorem dX6_isShownSo_51 : decode cX6_isShownSo 51 = .ok (.iconst 1, 1) := dk_4 (dk_at dksX6_isShownSo_2 3 rfl rfl)
theorem dX6_isShownSo_52 : decode cX6_isShownSo 52 = .ok (.goto 4, 3) := dk_167 0 4 (dk_at dksX6_isShownSo_2 4 rfl rfl)
theorem dX6_isShownSo_55 : decode cX6_isShownSo 55 = .ok (.iconst 0, 1) := dk_3 (dk_at dksX6_isShownSo_2 7 rfl rfl)
theorem dX6_isShownSo_56 : decode cX6_isShownSo 56 = .ok (.istore_n 3, 1) := dk_62 (dk_at dksX6_isShownSo_2 8 rfl rfl)
theorem dX6_isShownSo_57 : decode cX6_isShownSo 57 = .ok (.iinc 4 1, 3) := dk_132 4 1 (dk_at dksX6_isShownSo_2 9 rfl rfl)
theorem dX6_isShownSo_60 : decode cX6_isShownSo 60 = .ok (.goto (-55), 3) := dk_167 255 201 (dk_at dksX6_isShownSo_2 12 rfl rfl)
theorem dX6_isShownSo_63 : decode cX6_isShownSo 63 = .ok (.iload_n 3, 1) := dk_29 (dk_at dksX6_isShownSo_2 15 rfl rfl)
theorem dX6_isShownSo_64 : decode cX6_isShownSo 64 = .ok (.ireturn, 1) := dk_172 (dk_at dksX6_isShownSo_2 16 rfl rfl)
abbrev cX6_struck : ByteArray := prog_30_method_74_code
def yX6_struck : MethodName := ⟨RX6, "struck", "(I)I"⟩
def dkwX6_struck_1 : List UInt8 := [184, 0, 73, 42, 16, 60, 182, 0, 237, 42, 42, 182, 0, 253, 42, 27, 182, 0, 200, 126, 182, 0, 250, 172]
abbrev dktX6_struck_1 : List UInt8 := dkwX6_struck_1 ++ []
def dkwX6_struck_0 : List UInt8 := [42, 27, 182, 0, 175, 154, 0, 10, 42, 18, 81, 182, 0, 82, 172, 42, 180, 0, 9, 42, 180, 0, 16]
abbrev dktX6_struck_0 : List UInt8 := dkwX6_struck_0 ++ dktX6_struck_1
theorem dksX6_struck_0 : cX6_struck.data.toList.drop 0 = dktX6_struck_0 := by decide +kernel
theorem dksX6_struck_1 : cX6_struck.data.toList.drop 23 = dktX6_struck_1 := dk_seg dksX6_struck_0 23 rfl rfl
theorem dX6_struck_0 : decode cX6_struck 0 = .ok (.aload_n 0, 1) := dk_42 (dk_at dksX6_struck_0 0 rfl rfl)
theorem dX6_struck_1 : decode cX6_struck 1 = .ok (.iload_n 1, 1) := dk_27 (dk_at dksX6_struck_0 1 rfl rfl)
theorem dX6_struck_2 : decode cX6_struck 2 = .ok (.invokevirtual 175, 3) := dk_182 0 175 (dk_at dksX6_struck_0 2 rfl rfl)
theorem dX6_struck_5 : decode cX6_struck 5 = .ok (.ifCond .ne 10, 3) := dk_154 0 10 (dk_at dksX6_struck_0 5 rfl rfl)
theorem dX6_struck_8 : decode cX6_struck 8 = .ok (.aload_n 0, 1) := dk_42 (dk_at dksX6_struck_0 8 rfl rfl)
theorem dX6_struck_9 : decode cX6_struck 9 = .ok (.ldc 81, 2) := dk_18 81 (dk_at dksX6_struck_0 9 rfl rfl)
theorem dX6_struck_11 : decode cX6_struck 11 = .ok (.invokevirtual 82, 3) := dk_182 0 82 (dk_at dksX6_struck_0 11 rfl rfl)
theorem dX6_struck_14 : decode cX6_struck 14 = .ok (.ireturn, 1) := dk_172 (dk_at dksX6_struck_0 14 rfl rfl)
theorem dX6_struck_15 : decode cX6_struck 15 = .ok (.aload_n 0, 1) := dk_42 (dk_at dksX6_struck_0 15 rfl rfl)
theorem dX6_struck_16 : decode cX6_struck 16 = .ok (.getfield 9, 3) := dk_180 0 9 (dk_at dksX6_struck_0 16 rfl rfl)
theorem dX6_struck_19 : decode cX6_struck 19 = .ok (.aload_n 0, 1) := dk_42 (dk_at dksX6_struck_0 19 rfl rfl)
theorem dX6_struck_20 : decode cX6_struck 20 = .ok (.getfield 16, 3) := dk_180 0 16 (dk_at dksX6_struck_0 20 rfl rfl)
theorem dX6_struck_23 : decode cX6_struck 23 = .ok (.invokestatic 73, 3) := dk_184 0 73 (dk_at dksX6_struck_1 0 rfl rfl)
theorem dX6_struck_26 : decode cX6_struck 26 = .ok (.aload_n 0, 1) := dk_42 (dk_at dksX6_struck_1 3 rfl rfl)
theorem dX6_struck_27 : decode cX6_struck 27 = .ok (.bipush 60, 2) := dk_16 60 (dk_at dksX6_struck_1 4 rfl rfl)
theorem dX6_struck_29 : decode cX6_struck 29 = .ok (.invokevirtual 237, 3) := dk_182 0 237 (dk_at dksX6_struck_1 6 rfl rfl)
theorem dX6_struck_32 : decode cX6_struck 32 = .ok (.aload_n 0, 1) := dk_42 (dk_at dksX6_struck_1 9 rfl rfl)
theorem dX6_struck_33 : decode cX6_struck 33 = .ok (.aload_n 0, 1) := dk_42 (dk_at dksX6_struck_1 10 rfl rfl)
theorem dX6_struck_34 : decode cX6_struck 34 = .ok (.invokevirtual 253, 3) := dk_182 0 253 (dk_at dksX6_struck_1 11 rfl rfl)
theorem dX6_struck_37 : decode cX6_struck 37 = .ok (.aload_n 0, 1) := dk_42 (dk_at dksX6_struck_1 14 rfl rfl)
theorem dX6_struck_38 : decode cX6_struck 38 = .ok (.iload_n 1, 1) := dk_27 (dk_at dksX6_struck_1 15 rfl rfl)
theorem dX6_struck_39 : decode cX6_struck 39 = .ok (.invokevirtual 200, 3) := dk_182 0 200 (dk_at dksX6_struck_1 16 rfl rfl)
theorem dX6_struck_42 : decode cX6_struck 42 = .ok (.iand, 1) := dk_126 (dk_at dksX6_struck_1 19 rfl rfl)
theorem dX6_struck_43 : decode cX6_struck 43 = .ok (.invokevirtual 250, 3) := dk_182 0 250 (dk_at dksX6_struck_1 20 rfl rfl)
theorem dX6_struck_46 : decode cX6_struck 46 = .ok (.ireturn, 1) := dk_172 (dk_at dksX6_struck_1 23 rfl rfl)
abbrev cX6_dark : ByteArray := prog_30_method_75_code
def yX6_dark : MethodName := ⟨RX6, "dark", "(I)I"⟩
def dkwX6_dark_6 : List UInt8 := [167, 0, 4, 29, 172]
abbrev dktX6_dark_6 : List UInt8 := dkwX6_dark_6 ++ []
def dkwX6_dark_5 : List UInt8 := [21, 4, 167, 0, 4, 29, 62, 132, 4, 1, 167, 255, 170, 29, 156, 0, 13, 42, 19, 1, 0, 182, 0, 82]
abbrev dktX6_dark_5 : List UInt8 := dkwX6_dark_5 ++ dktX6_dark_6
def dkwX6_dark_4 : List UInt8 := [2, 130, 126, 79, 42, 27, 182, 0, 237, 42, 42, 182, 0, 253, 184, 0, 234, 182, 0, 250, 28, 163, 0, 8]
abbrev dktX6_dark_4 : List UInt8 := dkwX6_dark_4 ++ dktX6_dark_5
def dkwX6_dark_3 : List UInt8 := [155, 0, 15, 21, 4, 184, 0, 234, 29, 184, 0, 234, 162, 0, 43, 42, 180, 0, 9, 8, 92, 46, 21, 4]
abbrev dktX6_dark_3 : List UInt8 := dkwX6_dark_3 ++ dktX6_dark_4
def dkwX6_dark_2 : List UInt8 := [180, 0, 9, 4, 46, 120, 162, 0, 79, 21, 4, 42, 180, 0, 9, 8, 46, 2, 130, 126, 154, 0, 59, 29]
abbrev dktX6_dark_2 : List UInt8 := dkwX6_dark_2 ++ dktX6_dark_3
def dkwX6_dark_1 : List UInt8 := [180, 0, 16, 184, 0, 73, 42, 182, 0, 253, 184, 0, 234, 61, 2, 62, 3, 54, 4, 21, 4, 4, 42]
abbrev dktX6_dark_1 : List UInt8 := dkwX6_dark_1 ++ dktX6_dark_2
def dkwX6_dark_0 : List UInt8 := [27, 3, 16, 20, 184, 0, 77, 154, 0, 10, 42, 18, 81, 182, 0, 82, 172, 42, 180, 0, 9, 42]
abbrev dktX6_dark_0 : List UInt8 := dkwX6_dark_0 ++ dktX6_dark_1
theorem dksX6_dark_0 : cX6_dark.data.toList.drop 0 = dktX6_dark_0 := by decide +kernel
theorem dksX6_dark_1 : cX6_dark.data.toList.drop 22 = dktX6_dark_1 := dk_seg dksX6_dark_0 22 rfl rfl
theorem dksX6_dark_2 : cX6_dark.data.toList.drop 45 = dktX6_dark_2 := dk_seg dksX6_dark_1 23 rfl rfl
theorem dksX6_dark_3 : cX6_dark.data.toList.drop 69 = dktX6_dark_3 := dk_seg dksX6_dark_2 24 rfl rfl
theorem dksX6_dark_4 : cX6_dark.data.toList.drop 93 = dktX6_dark_4 := dk_seg dksX6_dark_3 24 rfl rfl
theorem dksX6_dark_5 : cX6_dark.data.toList.drop 117 = dktX6_dark_5 := dk_seg dksX6_dark_4 24 rfl rfl
theorem dksX6_dark_6 : cX6_dark.data.toList.drop 141 = dktX6_dark_6 := dk_seg dksX6_dark_5 24 rfl rfl
theorem dX6_dark_0 : decode cX6_dark 0 = .ok (.iload_n 1, 1) := dk_27 (dk_at dksX6_dark_0 0 rfl rfl)
theorem dX6_dark_1 : decode cX6_dark 1 = .ok (.iconst 0, 1) := dk_3 (dk_at dksX6_dark_0 1 rfl rfl)
theorem dX6_dark_2 : decode cX6_dark 2 = .ok (.bipush 20, 2) := dk_16 20 (dk_at dksX6_dark_0 2 rfl rfl)
theorem dX6_dark_4 : decode cX6_dark 4 = .ok (.invokestatic 77, 3) := dk_184 0 77 (dk_at dksX6_dark_0 4 rfl rfl)
theorem dX6_dark_7 : decode cX6_dark 7 = .ok (.ifCond .ne 10, 3) := dk_154 0 10 (dk_at dksX6_dark_0 7 rfl rfl)
theorem dX6_dark_10 : decode cX6_dark 10 = .ok (.aload_n 0, 1) := dk_42 (dk_at dksX6_dark_0 10 rfl rfl)
theorem dX6_dark_11 : decode cX6_dark 11 = .ok (.ldc 81, 2) := dk_18 81 (dk_at dksX6_dark_0 11 rfl rfl)
theorem dX6_dark_13 : decode cX6_dark 13 = .ok (.invokevirtual 82, 3) := dk_182 0 82 (dk_at dksX6_dark_0 13 rfl rfl)
theorem dX6_dark_16 : decode cX6_dark 16 = .ok (.ireturn, 1) := dk_172 (dk_at dksX6_dark_0 16 rfl rfl)
theorem dX6_dark_17 : decode cX6_dark 17 = .ok (.aload_n 0, 1) := dk_42 (dk_at dksX6_dark_0 17 rfl rfl)
theorem dX6_dark_18 : decode cX6_dark 18 = .ok (.getfield 9, 3) := dk_180 0 9 (dk_at dksX6_dark_0 18 rfl rfl)
theorem dX6_dark_21 : decode cX6_dark 21 = .ok (.aload_n 0, 1) := dk_42 (dk_at dksX6_dark_0 21 rfl rfl)
theorem dX6_dark_22 : decode cX6_dark 22 = .ok (.getfield 16, 3) := dk_180 0 16 (dk_at dksX6_dark_1 0 rfl rfl)
theorem dX6_dark_25 : decode cX6_dark 25 = .ok (.invokestatic 73, 3) := dk_184 0 73 (dk_at dksX6_dark_1 3 rfl rfl)
theorem dX6_dark_28 : decode cX6_dark 28 = .ok (.aload_n 0, 1) := dk_42 (dk_at dksX6_dark_1 6 rfl rfl)
theorem dX6_dark_29 : decode cX6_dark 29 = .ok (.invokevirtual 253, 3) := dk_182 0 253 (dk_at dksX6_dark_1 7 rfl rfl)
theorem dX6_dark_32 : decode cX6_dark 32 = .ok (.invokestatic 234, 3) := dk_184 0 234 (dk_at dksX6_dark_1 10 rfl rfl)
theorem dX6_dark_35 : decode cX6_dark 35 = .ok (.istore_n 2, 1) := dk_61 (dk_at dksX6_dark_1 13 rfl rfl)
theorem dX6_dark_36 : decode cX6_dark 36 = .ok (.iconst (-1), 1) := dk_2 (dk_at dksX6_dark_1 14 rfl rfl)
theorem dX6_dark_37 : decode cX6_dark 37 = .ok (.istore_n 3, 1) := dk_62 (dk_at dksX6_dark_1 15 rfl rfl)
theorem dX6_dark_38 : decode cX6_dark 38 = .ok (.iconst 0, 1) := dk_3 (dk_at dksX6_dark_1 16 rfl rfl)
theorem dX6_dark_39 : decode cX6_dark 39 = .ok (.istore 4, 2) := dk_54 4 (dk_at dksX6_dark_1 17 rfl rfl)
theorem dX6_dark_41 : decode cX6_dark 41 = .ok (.iload 4, 2) := dk_21 4 (dk_at dksX6_dark_1 19 rfl rfl)
theorem dX6_dark_43 : decode cX6_dark 43 = .ok (.iconst 1, 1) := dk_4 (dk_at dksX6_dark_1 21 rfl rfl)
theorem dX6_dark_44 : decode cX6_dark 44 = .ok (.aload_n 0, 1) := dk_42 (dk_at dksX6_dark_1 22 rfl rfl)
theorem dX6_dark_45 : decode cX6_dark 45 = .ok (.getfield 9, 3) := dk_180 0 9 (dk_at dksX6_dark_2 0 rfl rfl)
theorem dX6_dark_48 : decode cX6_dark 48 = .ok (.iconst 1, 1) := dk_4 (dk_at dksX6_dark_2 3 rfl rfl)
theorem dX6_dark_49 : decode cX6_dark 49 = .ok (.iaload, 1) := dk_46 (dk_at dksX6_dark_2 4 rfl rfl)
theorem dX6_dark_50 : decode cX6_dark 50 = .ok (.ishl, 1) := dk_120 (dk_at dksX6_dark_2 5 rfl rfl)
theorem dX6_dark_51 : decode cX6_dark 51 = .ok (.if_icmp .ge 79, 3) := dk_162 0 79 (dk_at dksX6_dark_2 6 rfl rfl)
theorem dX6_dark_54 : decode cX6_dark 54 = .ok (.iload 4, 2) := dk_21 4 (dk_at dksX6_dark_2 9 rfl rfl)
theorem dX6_dark_56 : decode cX6_dark 56 = .ok (.aload_n 0, 1) := dk_42 (dk_at dksX6_dark_2 11 rfl rfl)
theorem dX6_dark_57 : decode cX6_dark 57 = .ok (.getfield 9, 3) := dk_180 0 9 (dk_at dksX6_dark_2 12 rfl rfl)
theorem dX6_dark_60 : decode cX6_dark 60 = .ok (.iconst 5, 1) := dk_8 (dk_at dksX6_dark_2 15 rfl rfl)
theorem dX6_dark_61 : decode cX6_dark 61 = .ok (.iaload, 1) := dk_46 (dk_at dksX6_dark_2 16 rfl rfl)
theorem dX6_dark_62 : decode cX6_dark 62 = .ok (.iconst (-1), 1) := dk_2 (dk_at dksX6_dark_2 17 rfl rfl)
theorem dX6_dark_63 : decode cX6_dark 63 = .ok (.ixor, 1) := dk_130 (dk_at dksX6_dark_2 18 rfl rfl)
theorem dX6_dark_64 : decode cX6_dark 64 = .ok (.iand, 1) := dk_126 (dk_at dksX6_dark_2 19 rfl rfl)
theorem dX6_dark_65 : decode cX6_dark 65 = .ok (.ifCond .ne 59, 3) := dk_154 0 59 (dk_at dksX6_dark_2 20 rfl rfl)
theorem dX6_dark_68 : decode cX6_dark 68 = .ok (.iload_n 3, 1) := dk_29 (dk_at dksX6_dark_2 23 rfl rfl)
theorem dX6_dark_69 : decode cX6_dark 69 = .ok (.ifCond .lt 15, 3) := dk_155 0 15 (dk_at dksX6_dark_3 0 rfl rfl)
theorem dX6_dark_72 : decode cX6_dark 72 = .ok (.iload 4, 2) := dk_21 4 (dk_at dksX6_dark_3 3 rfl rfl)
theorem dX6_dark_74 : decode cX6_dark 74 = .ok (.invokestatic 234, 3) := dk_184 0 234 (dk_at dksX6_dark_3 5 rfl rfl)
theorem dX6_dark_77 : decode cX6_dark 77 = .ok (.iload_n 3, 1) := dk_29 (dk_at dksX6_dark_3 8 rfl rfl)
theorem dX6_dark_78 : decode cX6_dark 78 = .ok (.invokestatic 234, 3) := dk_184 0 234 (dk_at dksX6_dark_3 9 rfl rfl)
theorem dX6_dark_81 : decode cX6_dark 81 = .ok (.if_icmp .ge 43, 3) := dk_162 0 43 (dk_at dksX6_dark_3 12 rfl rfl)
theorem dX6_dark_84 : decode cX6_dark 84 = .ok (.aload_n 0, 1) := dk_42 (dk_at dksX6_dark_3 15 rfl rfl)
theorem dX6_dark_85 : decode cX6_dark 85 = .ok (.getfield 9, 3) := dk_180 0 9 (dk_at dksX6_dark_3 16 rfl rfl)
theorem dX6_dark_88 : decode cX6_dark 88 = .ok (.iconst 5, 1) := dk_8 (dk_at dksX6_dark_3 19 rfl rfl)
theorem dX6_dark_89 : decode cX6_dark 89 = .ok (.dup2, 1) := dk_92 (dk_at dksX6_dark_3 20 rfl rfl)
theorem dX6_dark_90 : decode cX6_dark 90 = .ok (.iaload, 1) := dk_46 (dk_at dksX6_dark_3 21 rfl rfl)
theorem dX6_dark_91 : decode cX6_dark 91 = .ok (.iload 4, 2) := dk_21 4 (dk_at dksX6_dark_3 22 rfl rfl)
theorem dX6_dark_93 : decode cX6_dark 93 = .ok (.iconst (-1), 1) := dk_2 (dk_at dksX6_dark_4 0 rfl rfl)
theorem dX6_dark_94 : decode cX6_dark 94 = .ok (.ixor, 1) := dk_130 (dk_at dksX6_dark_4 1 rfl rfl)
theorem dX6_dark_95 : decode cX6_dark 95 = .ok (.iand, 1) := dk_126 (dk_at dksX6_dark_4 2 rfl rfl)
theorem dX6_dark_96 : decode cX6_dark 96 = .ok (.iastore, 1) := dk_79 (dk_at dksX6_dark_4 3 rfl rfl)
theorem dX6_dark_97 : decode cX6_dark 97 = .ok (.aload_n 0, 1) := dk_42 (dk_at dksX6_dark_4 4 rfl rfl)
theorem dX6_dark_98 : decode cX6_dark 98 = .ok (.iload_n 1, 1) := dk_27 (dk_at dksX6_dark_4 5 rfl rfl)
theorem dX6_dark_99 : decode cX6_dark 99 = .ok (.invokevirtual 237, 3) := dk_182 0 237 (dk_at dksX6_dark_4 6 rfl rfl)
theorem dX6_dark_102 : decode cX6_dark 102 = .ok (.aload_n 0, 1) := dk_42 (dk_at dksX6_dark_4 9 rfl rfl)
theorem dX6_dark_103 : decode cX6_dark 103 = .ok (.aload_n 0, 1) := dk_42 (dk_at dksX6_dark_4 10 rfl rfl)
theorem dX6_dark_104 : decode cX6_dark 104 = .ok (.invokevirtual 253, 3) := dk_182 0 253 (dk_at dksX6_dark_4 11 rfl rfl)
theorem dX6_dark_107 : decode cX6_dark 107 = .ok (.invokestatic 234, 3) := dk_184 0 234 (dk_at dksX6_dark_4 14 rfl rfl)
theorem dX6_dark_110 : decode cX6_dark 110 = .ok (.invokevirtual 250, 3) := dk_182 0 250 (dk_at dksX6_dark_4 17 rfl rfl)
theorem dX6_dark_113 : decode cX6_dark 113 = .ok (.iload_n 2, 1) := dk_28 (dk_at dksX6_dark_4 20 rfl rfl)
theorem dX6_dark_114 : decode cX6_dark 114 = .ok (.if_icmp .gt 8, 3) := dk_163 0 8 (dk_at dksX6_dark_4 21 rfl rfl)
theorem dX6_dark_117 : decode cX6_dark 117 = .ok (.iload 4, 2) := dk_21 4 (dk_at dksX6_dark_5 0 rfl rfl)
theorem dX6_dark_119 : decode cX6_dark 119 = .ok (.goto 4, 3) := dk_167 0 4 (dk_at dksX6_dark_5 2 rfl rfl)
theorem dX6_dark_122 : decode cX6_dark 122 = .ok (.iload_n 3, 1) := dk_29 (dk_at dksX6_dark_5 5 rfl rfl)
theorem dX6_dark_123 : decode cX6_dark 123 = .ok (.istore_n 3, 1) := dk_62 (dk_at dksX6_dark_5 6 rfl rfl)
theorem dX6_dark_124 : decode cX6_dark 124 = .ok (.iinc 4 1, 3) := dk_132 4 1 (dk_at dksX6_dark_5 7 rfl rfl)
theorem dX6_dark_127 : decode cX6_dark 127 = .ok (.goto (-86), 3) := dk_167 255 170 (dk_at dksX6_dark_5 10 rfl rfl)
theorem dX6_dark_130 : decode cX6_dark 130 = .ok (.iload_n 3, 1) := dk_29 (dk_at dksX6_dark_5 13 rfl rfl)
theorem dX6_dark_131 : decode cX6_dark 131 = .ok (.ifCond .ge 13, 3) := dk_156 0 13 (dk_at dksX6_dark_5 14 rfl rfl)
theorem dX6_dark_134 : decode cX6_dark 134 = .ok (.aload_n 0, 1) := dk_42 (dk_at dksX6_dark_5 17 rfl rfl)
theorem dX6_dark_135 : decode cX6_dark 135 = .ok (.ldc_w 256, 3) := dk_19 1 0 (dk_at dksX6_dark_5 18 rfl rfl)
theorem dX6_dark_138 : decode cX6_dark 138 = .ok (.invokevirtual 82, 3) := dk_182 0 82 (dk_at dksX6_dark_5 21 rfl rfl)
theorem dX6_dark_141 : decode cX6_dark 141 = .ok (.goto 4, 3) := dk_167 0 4 (dk_at dksX6_dark_6 0 rfl rfl)
theorem dX6_dark_144 : decode cX6_dark 144 = .ok (.iload_n 3, 1) := dk_29 (dk_at dksX6_dark_6 3 rfl rfl)
theorem dX6_dark_145 : decode cX6_dark 145 = .ok (.ireturn, 1) := dk_172 (dk_at dksX6_dark_6 4 rfl rfl)
abbrev cX6_deep : ByteArray := prog_30_method_76_code
def yX6_deep : MethodName := ⟨RX6, "deep", "(II)I"⟩
def dkwX6_deep_3 : List UInt8 := [167, 0, 4, 29, 172]
abbrev dktX6_deep_3 : List UInt8 := dkwX6_deep_3 ++ []
def dkwX6_deep_2 : List UInt8 := [162, 0, 9, 132, 3, 1, 167, 255, 230, 29, 16, 99, 164, 0, 13, 42, 19, 1, 0, 182, 0, 82]
abbrev dktX6_deep_2 : List UInt8 := dkwX6_deep_2 ++ dktX6_deep_3
def dkwX6_deep_1 : List UInt8 := [172, 3, 62, 29, 16, 99, 163, 0, 26, 42, 27, 42, 180, 0, 9, 6, 46, 29, 100, 182, 0, 184, 28]
abbrev dktX6_deep_1 : List UInt8 := dkwX6_deep_1 ++ dktX6_deep_2
def dkwX6_deep_0 : List UInt8 := [42, 27, 182, 0, 175, 153, 0, 13, 28, 3, 16, 19, 184, 0, 77, 154, 0, 10, 42, 18, 81, 182, 0, 82]
abbrev dktX6_deep_0 : List UInt8 := dkwX6_deep_0 ++ dktX6_deep_1
theorem dksX6_deep_0 : cX6_deep.data.toList.drop 0 = dktX6_deep_0 := by decide +kernel
theorem dksX6_deep_1 : cX6_deep.data.toList.drop 24 = dktX6_deep_1 := dk_seg dksX6_deep_0 24 rfl rfl
theorem dksX6_deep_2 : cX6_deep.data.toList.drop 47 = dktX6_deep_2 := dk_seg dksX6_deep_1 23 rfl rfl
theorem dksX6_deep_3 : cX6_deep.data.toList.drop 69 = dktX6_deep_3 := dk_seg dksX6_deep_2 22 rfl rfl
theorem dX6_deep_0 : decode cX6_deep 0 = .ok (.aload_n 0, 1) := dk_42 (dk_at dksX6_deep_0 0 rfl rfl)
theorem dX6_deep_1 : decode cX6_deep 1 = .ok (.iload_n 1, 1) := dk_27 (dk_at dksX6_deep_0 1 rfl rfl)
theorem dX6_deep_2 : decode cX6_deep 2 = .ok (.invokevirtual 175, 3) := dk_182 0 175 (dk_at dksX6_deep_0 2 rfl rfl)
theorem dX6_deep_5 : decode cX6_deep 5 = .ok (.ifCond .eq 13, 3) := dk_153 0 13 (dk_at dksX6_deep_0 5 rfl rfl)
theorem dX6_deep_8 : decode cX6_deep 8 = .ok (.iload_n 2, 1) := dk_28 (dk_at dksX6_deep_0 8 rfl rfl)
theorem dX6_deep_9 : decode cX6_deep 9 = .ok (.iconst 0, 1) := dk_3 (dk_at dksX6_deep_0 9 rfl rfl)
theorem dX6_deep_10 : decode cX6_deep 10 = .ok (.bipush 19, 2) := dk_16 19 (dk_at dksX6_deep_0 10 rfl rfl)
theorem dX6_deep_12 : decode cX6_deep 12 = .ok (.invokestatic 77, 3) := dk_184 0 77 (dk_at dksX6_deep_0 12 rfl rfl)
theorem dX6_deep_15 : decode cX6_deep 15 = .ok (.ifCond .ne 10, 3) := dk_154 0 10 (dk_at dksX6_deep_0 15 rfl rfl)
theorem dX6_deep_18 : decode cX6_deep 18 = .ok (.aload_n 0, 1) := dk_42 (dk_at dksX6_deep_0 18 rfl rfl)
theorem dX6_deep_19 : decode cX6_deep 19 = .ok (.ldc 81, 2) := dk_18 81 (dk_at dksX6_deep_0 19 rfl rfl)
theorem dX6_deep_21 : decode cX6_deep 21 = .ok (.invokevirtual 82, 3) := dk_182 0 82 (dk_at dksX6_deep_0 21 rfl rfl)
theorem dX6_deep_24 : decode cX6_deep 24 = .ok (.ireturn, 1) := dk_172 (dk_at dksX6_deep_1 0 rfl rfl)
theorem dX6_deep_25 : decode cX6_deep 25 = .ok (.iconst 0, 1) := dk_3 (dk_at dksX6_deep_1 1 rfl rfl)
theorem dX6_deep_26 : decode cX6_deep 26 = .ok (.istore_n 3, 1) := dk_62 (dk_at dksX6_deep_1 2 rfl rfl)
theorem dX6_deep_27 : decode cX6_deep 27 = .ok (.iload_n 3, 1) := dk_29 (dk_at dksX6_deep_1 3 rfl rfl)
theorem dX6_deep_28 : decode cX6_deep 28 = .ok (.bipush 99, 2) := dk_16 99 (dk_at dksX6_deep_1 4 rfl rfl)
theorem dX6_deep_30 : decode cX6_deep 30 = .ok (.if_icmp .gt 26, 3) := dk_163 0 26 (dk_at dksX6_deep_1 6 rfl rfl)
theorem dX6_deep_33 : decode cX6_deep 33 = .ok (.aload_n 0, 1) := dk_42 (dk_at dksX6_deep_1 9 rfl rfl)
theorem dX6_deep_34 : decode cX6_deep 34 = .ok (.iload_n 1, 1) := dk_27 (dk_at dksX6_deep_1 10 rfl rfl)
theorem dX6_deep_35 : decode cX6_deep 35 = .ok (.aload_n 0, 1) := dk_42 (dk_at dksX6_deep_1 11 rfl rfl)
theorem dX6_deep_36 : decode cX6_deep 36 = .ok (.getfield 9, 3) := dk_180 0 9 (dk_at dksX6_deep_1 12 rfl rfl)
theorem dX6_deep_39 : decode cX6_deep 39 = .ok (.iconst 3, 1) := dk_6 (dk_at dksX6_deep_1 15 rfl rfl)
theorem dX6_deep_40 : decode cX6_deep 40 = .ok (.iaload, 1) := dk_46 (dk_at dksX6_deep_1 16 rfl rfl)
theorem dX6_deep_41 : decode cX6_deep 41 = .ok (.iload_n 3, 1) := dk_29 (dk_at dksX6_deep_1 17 rfl rfl)
theorem dX6_deep_42 : decode cX6_deep 42 = .ok (.isub, 1) := dk_100 (dk_at dksX6_deep_1 18 rfl rfl)
theorem dX6_deep_43 : decode cX6_deep 43 = .ok (.invokevirtual 184, 3) := dk_182 0 184 (dk_at dksX6_deep_1 19 rfl rfl)
theorem dX6_deep_46 : decode cX6_deep 46 = .ok (.iload_n 2, 1) := dk_28 (dk_at dksX6_deep_1 22 rfl rfl)
theorem dX6_deep_47 : decode cX6_deep 47 = .ok (.if_icmp .ge 9, 3) := dk_162 0 9 (dk_at dksX6_deep_2 0 rfl rfl)
theorem dX6_deep_50 : decode cX6_deep 50 = .ok (.iinc 3 1, 3) := dk_132 3 1 (dk_at dksX6_deep_2 3 rfl rfl)
theorem dX6_deep_53 : decode cX6_deep 53 = .ok (.goto (-26), 3) := dk_167 255 230 (dk_at dksX6_deep_2 6 rfl rfl)
theorem dX6_deep_56 : decode cX6_deep 56 = .ok (.iload_n 3, 1) := dk_29 (dk_at dksX6_deep_2 9 rfl rfl)
theorem dX6_deep_57 : decode cX6_deep 57 = .ok (.bipush 99, 2) := dk_16 99 (dk_at dksX6_deep_2 10 rfl rfl)
theorem dX6_deep_59 : decode cX6_deep 59 = .ok (.if_icmp .le 13, 3) := dk_164 0 13 (dk_at dksX6_deep_2 12 rfl rfl)
theorem dX6_deep_62 : decode cX6_deep 62 = .ok (.aload_n 0, 1) := dk_42 (dk_at dksX6_deep_2 15 rfl rfl)
theorem dX6_deep_63 : decode cX6_deep 63 = .ok (.ldc_w 256, 3) := dk_19 1 0 (dk_at dksX6_deep_2 16 rfl rfl)
theorem dX6_deep_66 : decode cX6_deep 66 = .ok (.invokevirtual 82, 3) := dk_182 0 82 (dk_at dksX6_deep_2 19 rfl rfl)
theorem dX6_deep_69 : decode cX6_deep 69 = .ok (.goto 4, 3) := dk_167 0 4 (dk_at dksX6_deep_3 0 rfl rfl)
theorem dX6_deep_72 : decode cX6_deep 72 = .ok (.iload_n 3, 1) := dk_29 (dk_at dksX6_deep_3 3 rfl rfl)
theorem dX6_deep_73 : decode cX6_deep 73 = .ok (.ireturn, 1) := dk_172 (dk_at dksX6_deep_3 4 rfl rfl)
abbrev cX6_draws : ByteArray := prog_30_method_77_code
def yX6_draws : MethodName := ⟨RX6, "draws", "(I)I"⟩
def dkwX6_draws_4 : List UInt8 := [28, 156, 0, 13, 42, 19, 1, 0, 182, 0, 82, 167, 0, 4, 28, 172]
abbrev dktX6_draws_4 : List UInt8 := dkwX6_draws_4 ++ []
def dkwX6_draws_3 : List UInt8 := [16, 60, 182, 1, 1, 27, 184, 0, 187, 153, 0, 7, 29, 167, 0, 4, 2, 61, 132, 3, 255, 167, 255, 215]
abbrev dktX6_draws_3 : List UInt8 := dkwX6_draws_3 ++ dktX6_draws_4
def dkwX6_draws_2 : List UInt8 := [16, 9, 62, 29, 155, 0, 43, 28, 156, 0, 39, 42, 180, 0, 9, 27, 5, 184, 0, 168, 29, 79, 42]
abbrev dktX6_draws_2 : List UInt8 := dkwX6_draws_2 ++ dktX6_draws_3
def dkwX6_draws_1 : List UInt8 := [160, 0, 10, 42, 18, 174, 182, 0, 82, 172, 42, 180, 0, 9, 42, 180, 0, 16, 184, 0, 73, 2, 61]
abbrev dktX6_draws_1 : List UInt8 := dkwX6_draws_1 ++ dktX6_draws_2
def dkwX6_draws_0 : List UInt8 := [42, 27, 182, 0, 218, 154, 0, 10, 42, 18, 81, 182, 0, 82, 172, 42, 27, 7, 182, 0, 191, 4]
abbrev dktX6_draws_0 : List UInt8 := dkwX6_draws_0 ++ dktX6_draws_1
theorem dksX6_draws_0 : cX6_draws.data.toList.drop 0 = dktX6_draws_0 := by decide +kernel
theorem dksX6_draws_1 : cX6_draws.data.toList.drop 22 = dktX6_draws_1 := dk_seg dksX6_draws_0 22 rfl rfl
theorem dksX6_draws_2 : cX6_draws.data.toList.drop 45 = dktX6_draws_2 := dk_seg dksX6_draws_1 23 rfl rfl
theorem dksX6_draws_3 : cX6_draws.data.toList.drop 68 = dktX6_draws_3 := dk_seg dksX6_draws_2 23 rfl rfl
theorem dksX6_draws_4 : cX6_draws.data.toList.drop 92 = dktX6_draws_4 := dk_seg dksX6_draws_3 24 rfl rfl
theorem dX6_draws_0 : decode cX6_draws 0 = .ok (.aload_n 0, 1) := dk_42 (dk_at dksX6_draws_0 0 rfl rfl)
theorem dX6_draws_1 : decode cX6_draws 1 = .ok (.iload_n 1, 1) := dk_27 (dk_at dksX6_draws_0 1 rfl rfl)
theorem dX6_draws_2 : decode cX6_draws 2 = .ok (.invokevirtual 218, 3) := dk_182 0 218 (dk_at dksX6_draws_0 2 rfl rfl)
theorem dX6_draws_5 : decode cX6_draws 5 = .ok (.ifCond .ne 10, 3) := dk_154 0 10 (dk_at dksX6_draws_0 5 rfl rfl)
theorem dX6_draws_8 : decode cX6_draws 8 = .ok (.aload_n 0, 1) := dk_42 (dk_at dksX6_draws_0 8 rfl rfl)
theorem dX6_draws_9 : decode cX6_draws 9 = .ok (.ldc 81, 2) := dk_18 81 (dk_at dksX6_draws_0 9 rfl rfl)
theorem dX6_draws_11 : decode cX6_draws 11 = .ok (.invokevirtual 82, 3) := dk_182 0 82 (dk_at dksX6_draws_0 11 rfl rfl)
theorem dX6_draws_14 : decode cX6_draws 14 = .ok (.ireturn, 1) := dk_172 (dk_at dksX6_draws_0 14 rfl rfl)
theorem dX6_draws_15 : decode cX6_draws 15 = .ok (.aload_n 0, 1) := dk_42 (dk_at dksX6_draws_0 15 rfl rfl)
theorem dX6_draws_16 : decode cX6_draws 16 = .ok (.iload_n 1, 1) := dk_27 (dk_at dksX6_draws_0 16 rfl rfl)
theorem dX6_draws_17 : decode cX6_draws 17 = .ok (.iconst 4, 1) := dk_7 (dk_at dksX6_draws_0 17 rfl rfl)
theorem dX6_draws_18 : decode cX6_draws 18 = .ok (.invokevirtual 191, 3) := dk_182 0 191 (dk_at dksX6_draws_0 18 rfl rfl)
theorem dX6_draws_21 : decode cX6_draws 21 = .ok (.iconst 1, 1) := dk_4 (dk_at dksX6_draws_0 21 rfl rfl)
theorem dX6_draws_22 : decode cX6_draws 22 = .ok (.if_icmp .ne 10, 3) := dk_160 0 10 (dk_at dksX6_draws_1 0 rfl rfl)
theorem dX6_draws_25 : decode cX6_draws 25 = .ok (.aload_n 0, 1) := dk_42 (dk_at dksX6_draws_1 3 rfl rfl)
theorem dX6_draws_26 : decode cX6_draws 26 = .ok (.ldc 174, 2) := dk_18 174 (dk_at dksX6_draws_1 4 rfl rfl)
theorem dX6_draws_28 : decode cX6_draws 28 = .ok (.invokevirtual 82, 3) := dk_182 0 82 (dk_at dksX6_draws_1 6 rfl rfl)
theorem dX6_draws_31 : decode cX6_draws 31 = .ok (.ireturn, 1) := dk_172 (dk_at dksX6_draws_1 9 rfl rfl)
theorem dX6_draws_32 : decode cX6_draws 32 = .ok (.aload_n 0, 1) := dk_42 (dk_at dksX6_draws_1 10 rfl rfl)
theorem dX6_draws_33 : decode cX6_draws 33 = .ok (.getfield 9, 3) := dk_180 0 9 (dk_at dksX6_draws_1 11 rfl rfl)
theorem dX6_draws_36 : decode cX6_draws 36 = .ok (.aload_n 0, 1) := dk_42 (dk_at dksX6_draws_1 14 rfl rfl)
theorem dX6_draws_37 : decode cX6_draws 37 = .ok (.getfield 16, 3) := dk_180 0 16 (dk_at dksX6_draws_1 15 rfl rfl)
theorem dX6_draws_40 : decode cX6_draws 40 = .ok (.invokestatic 73, 3) := dk_184 0 73 (dk_at dksX6_draws_1 18 rfl rfl)
theorem dX6_draws_43 : decode cX6_draws 43 = .ok (.iconst (-1), 1) := dk_2 (dk_at dksX6_draws_1 21 rfl rfl)
theorem dX6_draws_44 : decode cX6_draws 44 = .ok (.istore_n 2, 1) := dk_61 (dk_at dksX6_draws_1 22 rfl rfl)
theorem dX6_draws_45 : decode cX6_draws 45 = .ok (.bipush 9, 2) := dk_16 9 (dk_at dksX6_draws_2 0 rfl rfl)
theorem dX6_draws_47 : decode cX6_draws 47 = .ok (.istore_n 3, 1) := dk_62 (dk_at dksX6_draws_2 2 rfl rfl)
theorem dX6_draws_48 : decode cX6_draws 48 = .ok (.iload_n 3, 1) := dk_29 (dk_at dksX6_draws_2 3 rfl rfl)
theorem dX6_draws_49 : decode cX6_draws 49 = .ok (.ifCond .lt 43, 3) := dk_155 0 43 (dk_at dksX6_draws_2 4 rfl rfl)
theorem dX6_draws_52 : decode cX6_draws 52 = .ok (.iload_n 2, 1) := dk_28 (dk_at dksX6_draws_2 7 rfl rfl)
theorem dX6_draws_53 : decode cX6_draws 53 = .ok (.ifCond .ge 39, 3) := dk_156 0 39 (dk_at dksX6_draws_2 8 rfl rfl)
theorem dX6_draws_56 : decode cX6_draws 56 = .ok (.aload_n 0, 1) := dk_42 (dk_at dksX6_draws_2 11 rfl rfl)
theorem dX6_draws_57 : decode cX6_draws 57 = .ok (.getfield 9, 3) := dk_180 0 9 (dk_at dksX6_draws_2 12 rfl rfl)
theorem dX6_draws_60 : decode cX6_draws 60 = .ok (.iload_n 1, 1) := dk_27 (dk_at dksX6_draws_2 15 rfl rfl)
theorem dX6_draws_61 : decode cX6_draws 61 = .ok (.iconst 2, 1) := dk_5 (dk_at dksX6_draws_2 16 rfl rfl)
theorem dX6_draws_62 : decode cX6_draws 62 = .ok (.invokestatic 168, 3) := dk_184 0 168 (dk_at dksX6_draws_2 17 rfl rfl)
theorem dX6_draws_65 : decode cX6_draws 65 = .ok (.iload_n 3, 1) := dk_29 (dk_at dksX6_draws_2 20 rfl rfl)
theorem dX6_draws_66 : decode cX6_draws 66 = .ok (.iastore, 1) := dk_79 (dk_at dksX6_draws_2 21 rfl rfl)
theorem dX6_draws_67 : decode cX6_draws 67 = .ok (.aload_n 0, 1) := dk_42 (dk_at dksX6_draws_2 22 rfl rfl)
theorem dX6_draws_68 : decode cX6_draws 68 = .ok (.bipush 60, 2) := dk_16 60 (dk_at dksX6_draws_3 0 rfl rfl)
theorem dX6_draws_70 : decode cX6_draws 70 = .ok (.invokevirtual 257, 3) := dk_182 1 1 (dk_at dksX6_draws_3 2 rfl rfl)
theorem dX6_draws_73 : decode cX6_draws 73 = .ok (.iload_n 1, 1) := dk_27 (dk_at dksX6_draws_3 5 rfl rfl)
theorem dX6_draws_74 : decode cX6_draws 74 = .ok (.invokestatic 187, 3) := dk_184 0 187 (dk_at dksX6_draws_3 6 rfl rfl)
theorem dX6_draws_77 : decode cX6_draws 77 = .ok (.ifCond .eq 7, 3) := dk_153 0 7 (dk_at dksX6_draws_3 9 rfl rfl)
theorem dX6_draws_80 : decode cX6_draws 80 = .ok (.iload_n 3, 1) := dk_29 (dk_at dksX6_draws_3 12 rfl rfl)
theorem dX6_draws_81 : decode cX6_draws 81 = .ok (.goto 4, 3) := dk_167 0 4 (dk_at dksX6_draws_3 13 rfl rfl)
theorem dX6_draws_84 : decode cX6_draws 84 = .ok (.iconst (-1), 1) := dk_2 (dk_at dksX6_draws_3 16 rfl rfl)
theorem dX6_draws_85 : decode cX6_draws 85 = .ok (.istore_n 2, 1) := dk_61 (dk_at dksX6_draws_3 17 rfl rfl)
theorem dX6_draws_86 : decode cX6_draws 86 = .ok (.iinc 3 (-1), 3) := dk_132 3 255 (dk_at dksX6_draws_3 18 rfl rfl)
theorem dX6_draws_89 : decode cX6_draws 89 = .ok (.goto (-41), 3) := dk_167 255 215 (dk_at dksX6_draws_3 21 rfl rfl)
theorem dX6_draws_92 : decode cX6_draws 92 = .ok (.iload_n 2, 1) := dk_28 (dk_at dksX6_draws_4 0 rfl rfl)
theorem dX6_draws_93 : decode cX6_draws 93 = .ok (.ifCond .ge 13, 3) := dk_156 0 13 (dk_at dksX6_draws_4 1 rfl rfl)
theorem dX6_draws_96 : decode cX6_draws 96 = .ok (.aload_n 0, 1) := dk_42 (dk_at dksX6_draws_4 4 rfl rfl)
theorem dX6_draws_97 : decode cX6_draws 97 = .ok (.ldc_w 256, 3) := dk_19 1 0 (dk_at dksX6_draws_4 5 rfl rfl)
theorem dX6_draws_100 : decode cX6_draws 100 = .ok (.invokevirtual 82, 3) := dk_182 0 82 (dk_at dksX6_draws_4 8 rfl rfl)
theorem dX6_draws_103 : decode cX6_draws 103 = .ok (.goto 4, 3) := dk_167 0 4 (dk_at dksX6_draws_4 11 rfl rfl)
theorem dX6_draws_106 : decode cX6_draws 106 = .ok (.iload_n 2, 1) := dk_28 (dk_at dksX6_draws_4 14 rfl rfl)
theorem dX6_draws_107 : decode cX6_draws 107 = .ok (.ireturn, 1) := dk_172 (dk_at dksX6_draws_4 15 rfl rfl)
abbrev cX6_traffic : ByteArray := prog_30_method_78_code
def yX6_traffic : MethodName := ⟨RX6, "traffic", "(II)I"⟩
def dkwX6_traffic_5 : List UInt8 := [182, 0, 250, 172]
abbrev dktX6_traffic_5 : List UInt8 := dkwX6_traffic_5 ++ []
def dkwX6_traffic_4 : List UInt8 := [184, 0, 70, 54, 4, 132, 5, 1, 167, 255, 201, 42, 28, 154, 0, 7, 29, 167, 0, 5, 21, 4]
abbrev dktX6_traffic_4 : List UInt8 := dkwX6_traffic_4 ++ dktX6_traffic_5
def dkwX6_traffic_3 : List UInt8 := [184, 0, 234, 54, 6, 21, 6, 21, 4, 164, 0, 8, 21, 5, 167, 0, 4, 29, 62, 21, 4, 21, 6]
abbrev dktX6_traffic_3 : List UInt8 := dkwX6_traffic_3 ++ dktX6_traffic_4
def dkwX6_traffic_2 : List UInt8 := [21, 5, 42, 180, 0, 9, 4, 46, 162, 0, 50, 42, 21, 5, 182, 0, 200, 42, 182, 0, 253, 2, 130, 126]
abbrev dktX6_traffic_2 : List UInt8 := dkwX6_traffic_2 ++ dktX6_traffic_3
def dkwX6_traffic_1 : List UInt8 := [180, 0, 9, 42, 180, 0, 16, 184, 0, 73, 42, 27, 182, 0, 237, 3, 62, 2, 54, 4, 3, 54, 5]
abbrev dktX6_traffic_1 : List UInt8 := dkwX6_traffic_1 ++ dktX6_traffic_2
def dkwX6_traffic_0 : List UInt8 := [27, 184, 0, 247, 153, 0, 12, 28, 3, 4, 184, 0, 77, 154, 0, 10, 42, 18, 81, 182, 0, 82, 172, 42]
abbrev dktX6_traffic_0 : List UInt8 := dkwX6_traffic_0 ++ dktX6_traffic_1
theorem dksX6_traffic_0 : cX6_traffic.data.toList.drop 0 = dktX6_traffic_0 := by decide +kernel
theorem dksX6_traffic_1 : cX6_traffic.data.toList.drop 24 = dktX6_traffic_1 := dk_seg dksX6_traffic_0 24 rfl rfl
theorem dksX6_traffic_2 : cX6_traffic.data.toList.drop 47 = dktX6_traffic_2 := dk_seg dksX6_traffic_1 23 rfl rfl
theorem dksX6_traffic_3 : cX6_traffic.data.toList.drop 71 = dktX6_traffic_3 := dk_seg dksX6_traffic_2 24 rfl rfl
theorem dksX6_traffic_4 : cX6_traffic.data.toList.drop 94 = dktX6_traffic_4 := dk_seg dksX6_traffic_3 23 rfl rfl
theorem dksX6_traffic_5 : cX6_traffic.data.toList.drop 116 = dktX6_traffic_5 := dk_seg dksX6_traffic_4 22 rfl rfl
theorem dX6_traffic_0 : decode cX6_traffic 0 = .ok (.iload_n 1, 1) := dk_27 (dk_at dksX6_traffic_0 0 rfl rfl)
theorem dX6_traffic_1 : decode cX6_traffic 1 = .ok (.invokestatic 247, 3) := dk_184 0 247 (dk_at dksX6_traffic_0 1 rfl rfl)
theorem dX6_traffic_4 : decode cX6_traffic 4 = .ok (.ifCond .eq 12, 3) := dk_153 0 12 (dk_at dksX6_traffic_0 4 rfl rfl)
theorem dX6_traffic_7 : decode cX6_traffic 7 = .ok (.iload_n 2, 1) := dk_28 (dk_at dksX6_traffic_0 7 rfl rfl)
theorem dX6_traffic_8 : decode cX6_traffic 8 = .ok (.iconst 0, 1) := dk_3 (dk_at dksX6_traffic_0 8 rfl rfl)
theorem dX6_traffic_9 : decode cX6_traffic 9 = .ok (.iconst 1, 1) := dk_4 (dk_at dksX6_traffic_0 9 rfl rfl)
theorem dX6_traffic_10 : decode cX6_traffic 10 = .ok (.invokestatic 77, 3) := dk_184 0 77 (dk_at dksX6_traffic_0 10 rfl rfl)
theorem dX6_traffic_13 : decode cX6_traffic 13 = .ok (.ifCond .ne 10, 3) := dk_154 0 10 (dk_at dksX6_traffic_0 13 rfl rfl)
theorem dX6_traffic_16 : decode cX6_traffic 16 = .ok (.aload_n 0, 1) := dk_42 (dk_at dksX6_traffic_0 16 rfl rfl)
theorem dX6_traffic_17 : decode cX6_traffic 17 = .ok (.ldc 81, 2) := dk_18 81 (dk_at dksX6_traffic_0 17 rfl rfl)
theorem dX6_traffic_19 : decode cX6_traffic 19 = .ok (.invokevirtual 82, 3) := dk_182 0 82 (dk_at dksX6_traffic_0 19 rfl rfl)
theorem dX6_traffic_22 : decode cX6_traffic 22 = .ok (.ireturn, 1) := dk_172 (dk_at dksX6_traffic_0 22 rfl rfl)
theorem dX6_traffic_23 : decode cX6_traffic 23 = .ok (.aload_n 0, 1) := dk_42 (dk_at dksX6_traffic_0 23 rfl rfl)
theorem dX6_traffic_24 : decode cX6_traffic 24 = .ok (.getfield 9, 3) := dk_180 0 9 (dk_at dksX6_traffic_1 0 rfl rfl)
theorem dX6_traffic_27 : decode cX6_traffic 27 = .ok (.aload_n 0, 1) := dk_42 (dk_at dksX6_traffic_1 3 rfl rfl)
theorem dX6_traffic_28 : decode cX6_traffic 28 = .ok (.getfield 16, 3) := dk_180 0 16 (dk_at dksX6_traffic_1 4 rfl rfl)
theorem dX6_traffic_31 : decode cX6_traffic 31 = .ok (.invokestatic 73, 3) := dk_184 0 73 (dk_at dksX6_traffic_1 7 rfl rfl)
theorem dX6_traffic_34 : decode cX6_traffic 34 = .ok (.aload_n 0, 1) := dk_42 (dk_at dksX6_traffic_1 10 rfl rfl)
theorem dX6_traffic_35 : decode cX6_traffic 35 = .ok (.iload_n 1, 1) := dk_27 (dk_at dksX6_traffic_1 11 rfl rfl)
theorem dX6_traffic_36 : decode cX6_traffic 36 = .ok (.invokevirtual 237, 3) := dk_182 0 237 (dk_at dksX6_traffic_1 12 rfl rfl)
theorem dX6_traffic_39 : decode cX6_traffic 39 = .ok (.iconst 0, 1) := dk_3 (dk_at dksX6_traffic_1 15 rfl rfl)
theorem dX6_traffic_40 : decode cX6_traffic 40 = .ok (.istore_n 3, 1) := dk_62 (dk_at dksX6_traffic_1 16 rfl rfl)
theorem dX6_traffic_41 : decode cX6_traffic 41 = .ok (.iconst (-1), 1) := dk_2 (dk_at dksX6_traffic_1 17 rfl rfl)
theorem dX6_traffic_42 : decode cX6_traffic 42 = .ok (.istore 4, 2) := dk_54 4 (dk_at dksX6_traffic_1 18 rfl rfl)
theorem dX6_traffic_44 : decode cX6_traffic 44 = .ok (.iconst 0, 1) := dk_3 (dk_at dksX6_traffic_1 20 rfl rfl)
theorem dX6_traffic_45 : decode cX6_traffic 45 = .ok (.istore 5, 2) := dk_54 5 (dk_at dksX6_traffic_1 21 rfl rfl)
theorem dX6_traffic_47 : decode cX6_traffic 47 = .ok (.iload 5, 2) := dk_21 5 (dk_at dksX6_traffic_2 0 rfl rfl)
theorem dX6_traffic_49 : decode cX6_traffic 49 = .ok (.aload_n 0, 1) := dk_42 (dk_at dksX6_traffic_2 2 rfl rfl)
theorem dX6_traffic_50 : decode cX6_traffic 50 = .ok (.getfield 9, 3) := dk_180 0 9 (dk_at dksX6_traffic_2 3 rfl rfl)
theorem dX6_traffic_53 : decode cX6_traffic 53 = .ok (.iconst 1, 1) := dk_4 (dk_at dksX6_traffic_2 6 rfl rfl)
theorem dX6_traffic_54 : decode cX6_traffic 54 = .ok (.iaload, 1) := dk_46 (dk_at dksX6_traffic_2 7 rfl rfl)
theorem dX6_traffic_55 : decode cX6_traffic 55 = .ok (.if_icmp .ge 50, 3) := dk_162 0 50 (dk_at dksX6_traffic_2 8 rfl rfl)
theorem dX6_traffic_58 : decode cX6_traffic 58 = .ok (.aload_n 0, 1) := dk_42 (dk_at dksX6_traffic_2 11 rfl rfl)
theorem dX6_traffic_59 : decode cX6_traffic 59 = .ok (.iload 5, 2) := dk_21 5 (dk_at dksX6_traffic_2 12 rfl rfl)
theorem dX6_traffic_61 : decode cX6_traffic 61 = .ok (.invokevirtual 200, 3) := dk_182 0 200 (dk_at dksX6_traffic_2 14 rfl rfl)
theorem dX6_traffic_64 : decode cX6_traffic 64 = .ok (.aload_n 0, 1) := dk_42 (dk_at dksX6_traffic_2 17 rfl rfl)
theorem dX6_traffic_65 : decode cX6_traffic 65 = .ok (.invokevirtual 253, 3) := dk_182 0 253 (dk_at dksX6_traffic_2 18 rfl rfl)
theorem dX6_traffic_68 : decode cX6_traffic 68 = .ok (.iconst (-1), 1) := dk_2 (dk_at dksX6_traffic_2 21 rfl rfl)
theorem dX6_traffic_69 : decode cX6_traffic 69 = .ok (.ixor, 1) := dk_130 (dk_at dksX6_traffic_2 22 rfl rfl)
theorem dX6_traffic_70 : decode cX6_traffic 70 = .ok (.iand, 1) := dk_126 (dk_at dksX6_traffic_2 23 rfl rfl)
theorem dX6_traffic_71 : decode cX6_traffic 71 = .ok (.invokestatic 234, 3) := dk_184 0 234 (dk_at dksX6_traffic_3 0 rfl rfl)
theorem dX6_traffic_74 : decode cX6_traffic 74 = .ok (.istore 6, 2) := dk_54 6 (dk_at dksX6_traffic_3 3 rfl rfl)
theorem dX6_traffic_76 : decode cX6_traffic 76 = .ok (.iload 6, 2) := dk_21 6 (dk_at dksX6_traffic_3 5 rfl rfl)
theorem dX6_traffic_78 : decode cX6_traffic 78 = .ok (.iload 4, 2) := dk_21 4 (dk_at dksX6_traffic_3 7 rfl rfl)
theorem dX6_traffic_80 : decode cX6_traffic 80 = .ok (.if_icmp .le 8, 3) := dk_164 0 8 (dk_at dksX6_traffic_3 9 rfl rfl)
theorem dX6_traffic_83 : decode cX6_traffic 83 = .ok (.iload 5, 2) := dk_21 5 (dk_at dksX6_traffic_3 12 rfl rfl)
theorem dX6_traffic_85 : decode cX6_traffic 85 = .ok (.goto 4, 3) := dk_167 0 4 (dk_at dksX6_traffic_3 14 rfl rfl)
theorem dX6_traffic_88 : decode cX6_traffic 88 = .ok (.iload_n 3, 1) := dk_29 (dk_at dksX6_traffic_3 17 rfl rfl)
theorem dX6_traffic_89 : decode cX6_traffic 89 = .ok (.istore_n 3, 1) := dk_62 (dk_at dksX6_traffic_3 18 rfl rfl)
theorem dX6_traffic_90 : decode cX6_traffic 90 = .ok (.iload 4, 2) := dk_21 4 (dk_at dksX6_traffic_3 19 rfl rfl)
theorem dX6_traffic_92 : decode cX6_traffic 92 = .ok (.iload 6, 2) := dk_21 6 (dk_at dksX6_traffic_3 21 rfl rfl)
theorem dX6_traffic_94 : decode cX6_traffic 94 = .ok (.invokestatic 70, 3) := dk_184 0 70 (dk_at dksX6_traffic_4 0 rfl rfl)
theorem dX6_traffic_97 : decode cX6_traffic 97 = .ok (.istore 4, 2) := dk_54 4 (dk_at dksX6_traffic_4 3 rfl rfl)
theorem dX6_traffic_99 : decode cX6_traffic 99 = .ok (.iinc 5 1, 3) := dk_132 5 1 (dk_at dksX6_traffic_4 5 rfl rfl)
theorem dX6_traffic_102 : decode cX6_traffic 102 = .ok (.goto (-55), 3) := dk_167 255 201 (dk_at dksX6_traffic_4 8 rfl rfl)
theorem dX6_traffic_105 : decode cX6_traffic 105 = .ok (.aload_n 0, 1) := dk_42 (dk_at dksX6_traffic_4 11 rfl rfl)
theorem dX6_traffic_106 : decode cX6_traffic 106 = .ok (.iload_n 2, 1) := dk_28 (dk_at dksX6_traffic_4 12 rfl rfl)
theorem dX6_traffic_107 : decode cX6_traffic 107 = .ok (.ifCond .ne 7, 3) := dk_154 0 7 (dk_at dksX6_traffic_4 13 rfl rfl)
theorem dX6_traffic_110 : decode cX6_traffic 110 = .ok (.iload_n 3, 1) := dk_29 (dk_at dksX6_traffic_4 16 rfl rfl)
theorem dX6_traffic_111 : decode cX6_traffic 111 = .ok (.goto 5, 3) := dk_167 0 5 (dk_at dksX6_traffic_4 17 rfl rfl)
theorem dX6_traffic_114 : decode cX6_traffic 114 = .ok (.iload 4, 2) := dk_21 4 (dk_at dksX6_traffic_4 20 rfl rfl)
theorem dX6_traffic_116 : decode cX6_traffic 116 = .ok (.invokevirtual 250, 3) := dk_182 0 250 (dk_at dksX6_traffic_5 0 rfl rfl)
theorem dX6_traffic_119 : decode cX6_traffic 119 = .ok (.ireturn, 1) := dk_172 (dk_at dksX6_traffic_5 3 rfl rfl)
abbrev cX6_odds : ByteArray := prog_30_method_79_code
def yX6_odds : MethodName := ⟨RX6, "odds", "(III)I"⟩
def dkwX6_odds_5 : List UInt8 := [167, 255, 236, 29, 154, 0, 8, 21, 4, 167, 0, 5, 16, 20, 21, 5, 108, 172]
abbrev dktX6_odds_5 : List UInt8 := dkwX6_odds_5 ++ []
def dkwX6_odds_4 : List UInt8 := [21, 4, 54, 6, 21, 6, 153, 0, 21, 21, 5, 21, 6, 112, 54, 7, 21, 6, 54, 5, 21, 7, 54, 6]
abbrev dktX6_odds_4 : List UInt8 := dkwX6_odds_4 ++ dktX6_odds_5
def dkwX6_odds_3 : List UInt8 := [184, 0, 187, 153, 0, 7, 4, 167, 0, 4, 3, 96, 54, 4, 132, 5, 1, 167, 255, 216, 16, 20, 54, 5]
abbrev dktX6_odds_3 : List UInt8 := dkwX6_odds_3 ++ dktX6_odds_4
def dkwX6_odds_2 : List UInt8 := [21, 5, 16, 20, 162, 0, 39, 42, 180, 0, 9, 7, 21, 5, 79, 21, 4, 42, 28, 182, 1, 1, 27]
abbrev dktX6_odds_2 : List UInt8 := dkwX6_odds_2 ++ dktX6_odds_3
def dkwX6_odds_1 : List UInt8 := [42, 18, 81, 182, 0, 82, 172, 42, 180, 0, 9, 42, 180, 0, 16, 184, 0, 73, 3, 54, 4, 3, 54, 5]
abbrev dktX6_odds_1 : List UInt8 := dkwX6_odds_1 ++ dktX6_odds_2
def dkwX6_odds_0 : List UInt8 := [42, 27, 182, 0, 218, 153, 0, 19, 28, 184, 0, 247, 153, 0, 12, 29, 3, 4, 184, 0, 77, 154, 0, 10]
abbrev dktX6_odds_0 : List UInt8 := dkwX6_odds_0 ++ dktX6_odds_1
theorem dksX6_odds_0 : cX6_odds.data.toList.drop 0 = dktX6_odds_0 := by decide +kernel
theorem dksX6_odds_1 : cX6_odds.data.toList.drop 24 = dktX6_odds_1 := dk_seg dksX6_odds_0 24 rfl rfl
theorem dksX6_odds_2 : cX6_odds.data.toList.drop 48 = dktX6_odds_2 := dk_seg dksX6_odds_1 24 rfl rfl
theorem dksX6_odds_3 : cX6_odds.data.toList.drop 71 = dktX6_odds_3 := dk_seg dksX6_odds_2 23 rfl rfl
theorem dksX6_odds_4 : cX6_odds.data.toList.drop 95 = dktX6_odds_4 := dk_seg dksX6_odds_3 24 rfl rfl
theorem dksX6_odds_5 : cX6_odds.data.toList.drop 119 = dktX6_odds_5 := dk_seg dksX6_odds_4 24 rfl rfl
theorem dX6_odds_0 : decode cX6_odds 0 = .ok (.aload_n 0, 1) := dk_42 (dk_at dksX6_odds_0 0 rfl rfl)
theorem dX6_odds_1 : decode cX6_odds 1 = .ok (.iload_n 1, 1) := dk_27 (dk_at dksX6_odds_0 1 rfl rfl)
theorem dX6_odds_2 : decode cX6_odds 2 = .ok (.invokevirtual 218, 3) := dk_182 0 218 (dk_at dksX6_odds_0 2 rfl rfl)
theorem dX6_odds_5 : decode cX6_odds 5 = .ok (.ifCond .eq 19, 3) := dk_153 0 19 (dk_at dksX6_odds_0 5 rfl rfl)
theorem dX6_odds_8 : decode cX6_odds 8 = .ok (.iload_n 2, 1) := dk_28 (dk_at dksX6_odds_0 8 rfl rfl)
theorem dX6_odds_9 : decode cX6_odds 9 = .ok (.invokestatic 247, 3) := dk_184 0 247 (dk_at dksX6_odds_0 9 rfl rfl)
theorem dX6_odds_12 : decode cX6_odds 12 = .ok (.ifCond .eq 12, 3) := dk_153 0 12 (dk_at dksX6_odds_0 12 rfl rfl)
theorem dX6_odds_15 : decode cX6_odds 15 = .ok (.iload_n 3, 1) := dk_29 (dk_at dksX6_odds_0 15 rfl rfl)
theorem dX6_odds_16 : decode cX6_odds 16 = .ok (.iconst 0, 1) := dk_3 (dk_at dksX6_odds_0 16 rfl rfl)
theorem dX6_odds_17 : decode cX6_odds 17 = .ok (.iconst 1, 1) := dk_4 (dk_at dksX6_odds_0 17 rfl rfl)
theorem dX6_odds_18 : decode cX6_odds 18 = .ok (.invokestatic 77, 3) := dk_184 0 77 (dk_at dksX6_odds_0 18 rfl rfl)
theorem dX6_odds_21 : decode cX6_odds 21 = .ok (.ifCond .ne 10, 3) := dk_154 0 10 (dk_at dksX6_odds_0 21 rfl rfl)
theorem dX6_odds_24 : decode cX6_odds 24 = .ok (.aload_n 0, 1) := dk_42 (dk_at dksX6_odds_1 0 rfl rfl)
theorem dX6_odds_25 : decode cX6_odds 25 = .ok (.ldc 81, 2) := dk_18 81 (dk_at dksX6_odds_1 1 rfl rfl)
theorem dX6_odds_27 : decode cX6_odds 27 = .ok (.invokevirtual 82, 3) := dk_182 0 82 (dk_at dksX6_odds_1 3 rfl rfl)
theorem dX6_odds_30 : decode cX6_odds 30 = .ok (.ireturn, 1) := dk_172 (dk_at dksX6_odds_1 6 rfl rfl)
theorem dX6_odds_31 : decode cX6_odds 31 = .ok (.aload_n 0, 1) := dk_42 (dk_at dksX6_odds_1 7 rfl rfl)
theorem dX6_odds_32 : decode cX6_odds 32 = .ok (.getfield 9, 3) := dk_180 0 9 (dk_at dksX6_odds_1 8 rfl rfl)
theorem dX6_odds_35 : decode cX6_odds 35 = .ok (.aload_n 0, 1) := dk_42 (dk_at dksX6_odds_1 11 rfl rfl)
theorem dX6_odds_36 : decode cX6_odds 36 = .ok (.getfield 16, 3) := dk_180 0 16 (dk_at dksX6_odds_1 12 rfl rfl)
theorem dX6_odds_39 : decode cX6_odds 39 = .ok (.invokestatic 73, 3) := dk_184 0 73 (dk_at dksX6_odds_1 15 rfl rfl)
theorem dX6_odds_42 : decode cX6_odds 42 = .ok (.iconst 0, 1) := dk_3 (dk_at dksX6_odds_1 18 rfl rfl)
theorem dX6_odds_43 : decode cX6_odds 43 = .ok (.istore 4, 2) := dk_54 4 (dk_at dksX6_odds_1 19 rfl rfl)
theorem dX6_odds_45 : decode cX6_odds 45 = .ok (.iconst 0, 1) := dk_3 (dk_at dksX6_odds_1 21 rfl rfl)
theorem dX6_odds_46 : decode cX6_odds 46 = .ok (.istore 5, 2) := dk_54 5 (dk_at dksX6_odds_1 22 rfl rfl)
theorem dX6_odds_48 : decode cX6_odds 48 = .ok (.iload 5, 2) := dk_21 5 (dk_at dksX6_odds_2 0 rfl rfl)
theorem dX6_odds_50 : decode cX6_odds 50 = .ok (.bipush 20, 2) := dk_16 20 (dk_at dksX6_odds_2 2 rfl rfl)
theorem dX6_odds_52 : decode cX6_odds 52 = .ok (.if_icmp .ge 39, 3) := dk_162 0 39 (dk_at dksX6_odds_2 4 rfl rfl)
theorem dX6_odds_55 : decode cX6_odds 55 = .ok (.aload_n 0, 1) := dk_42 (dk_at dksX6_odds_2 7 rfl rfl)
theorem dX6_odds_56 : decode cX6_odds 56 = .ok (.getfield 9, 3) := dk_180 0 9 (dk_at dksX6_odds_2 8 rfl rfl)
theorem dX6_odds_59 : decode cX6_odds 59 = .ok (.iconst 4, 1) := dk_7 (dk_at dksX6_odds_2 11 rfl rfl)
theorem dX6_odds_60 : decode cX6_odds 60 = .ok (.iload 5, 2) := dk_21 5 (dk_at dksX6_odds_2 12 rfl rfl)
theorem dX6_odds_62 : decode cX6_odds 62 = .ok (.iastore, 1) := dk_79 (dk_at dksX6_odds_2 14 rfl rfl)
theorem dX6_odds_63 : decode cX6_odds 63 = .ok (.iload 4, 2) := dk_21 4 (dk_at dksX6_odds_2 15 rfl rfl)
theorem dX6_odds_65 : decode cX6_odds 65 = .ok (.aload_n 0, 1) := dk_42 (dk_at dksX6_odds_2 17 rfl rfl)
theorem dX6_odds_66 : decode cX6_odds 66 = .ok (.iload_n 2, 1) := dk_28 (dk_at dksX6_odds_2 18 rfl rfl)
theorem dX6_odds_67 : decode cX6_odds 67 = .ok (.invokevirtual 257, 3) := dk_182 1 1 (dk_at dksX6_odds_2 19 rfl rfl)
theorem dX6_odds_70 : decode cX6_odds 70 = .ok (.iload_n 1, 1) := dk_27 (dk_at dksX6_odds_2 22 rfl rfl)
theorem dX6_odds_71 : decode cX6_odds 71 = .ok (.invokestatic 187, 3) := dk_184 0 187 (dk_at dksX6_odds_3 0 rfl rfl)
theorem dX6_odds_74 : decode cX6_odds 74 = .ok (.ifCond .eq 7, 3) := dk_153 0 7 (dk_at dksX6_odds_3 3 rfl rfl)
theorem dX6_odds_77 : decode cX6_odds 77 = .ok (.iconst 1, 1) := dk_4 (dk_at dksX6_odds_3 6 rfl rfl)
theorem dX6_odds_78 : decode cX6_odds 78 = .ok (.goto 4, 3) := dk_167 0 4 (dk_at dksX6_odds_3 7 rfl rfl)
theorem dX6_odds_81 : decode cX6_odds 81 = .ok (.iconst 0, 1) := dk_3 (dk_at dksX6_odds_3 10 rfl rfl)
theorem dX6_odds_82 : decode cX6_odds 82 = .ok (.iadd, 1) := dk_96 (dk_at dksX6_odds_3 11 rfl rfl)
theorem dX6_odds_83 : decode cX6_odds 83 = .ok (.istore 4, 2) := dk_54 4 (dk_at dksX6_odds_3 12 rfl rfl)
theorem dX6_odds_85 : decode cX6_odds 85 = .ok (.iinc 5 1, 3) := dk_132 5 1 (dk_at dksX6_odds_3 14 rfl rfl)
theorem dX6_odds_88 : decode cX6_odds 88 = .ok (.goto (-40), 3) := dk_167 255 216 (dk_at dksX6_odds_3 17 rfl rfl)
theorem dX6_odds_91 : decode cX6_odds 91 = .ok (.bipush 20, 2) := dk_16 20 (dk_at dksX6_odds_3 20 rfl rfl)
theorem dX6_odds_93 : decode cX6_odds 93 = .ok (.istore 5, 2) := dk_54 5 (dk_at dksX6_odds_3 22 rfl rfl)
theorem dX6_odds_95 : decode cX6_odds 95 = .ok (.iload 4, 2) := dk_21 4 (dk_at dksX6_odds_4 0 rfl rfl)
theorem dX6_odds_97 : decode cX6_odds 97 = .ok (.istore 6, 2) := dk_54 6 (dk_at dksX6_odds_4 2 rfl rfl)
theorem dX6_odds_99 : decode cX6_odds 99 = .ok (.iload 6, 2) := dk_21 6 (dk_at dksX6_odds_4 4 rfl rfl)
theorem dX6_odds_101 : decode cX6_odds 101 = .ok (.ifCond .eq 21, 3) := dk_153 0 21 (dk_at dksX6_odds_4 6 rfl rfl)
theorem dX6_odds_104 : decode cX6_odds 104 = .ok (.iload 5, 2) := dk_21 5 (dk_at dksX6_odds_4 9 rfl rfl)
theorem dX6_odds_106 : decode cX6_odds 106 = .ok (.iload 6, 2) := dk_21 6 (dk_at dksX6_odds_4 11 rfl rfl)
theorem dX6_odds_108 : decode cX6_odds 108 = .ok (.irem, 1) := dk_112 (dk_at dksX6_odds_4 13 rfl rfl)
theorem dX6_odds_109 : decode cX6_odds 109 = .ok (.istore 7, 2) := dk_54 7 (dk_at dksX6_odds_4 14 rfl rfl)
theorem dX6_odds_111 : decode cX6_odds 111 = .ok (.iload 6, 2) := dk_21 6 (dk_at dksX6_odds_4 16 rfl rfl)
theorem dX6_odds_113 : decode cX6_odds 113 = .ok (.istore 5, 2) := dk_54 5 (dk_at dksX6_odds_4 18 rfl rfl)
theorem dX6_odds_115 : decode cX6_odds 115 = .ok (.iload 7, 2) := dk_21 7 (dk_at dksX6_odds_4 20 rfl rfl)
theorem dX6_odds_117 : decode cX6_odds 117 = .ok (.istore 6, 2) := dk_54 6 (dk_at dksX6_odds_4 22 rfl rfl)
theorem dX6_odds_119 : decode cX6_odds 119 = .ok (.goto (-20), 3) := dk_167 255 236 (dk_at dksX6_odds_5 0 rfl rfl)
theorem dX6_odds_122 : decode cX6_odds 122 = .ok (.iload_n 3, 1) := dk_29 (dk_at dksX6_odds_5 3 rfl rfl)
theorem dX6_odds_123 : decode cX6_odds 123 = .ok (.ifCond .ne 8, 3) := dk_154 0 8 (dk_at dksX6_odds_5 4 rfl rfl)
theorem dX6_odds_126 : decode cX6_odds 126 = .ok (.iload 4, 2) := dk_21 4 (dk_at dksX6_odds_5 7 rfl rfl)
theorem dX6_odds_128 : decode cX6_odds 128 = .ok (.goto 5, 3) := dk_167 0 5 (dk_at dksX6_odds_5 9 rfl rfl)
theorem dX6_odds_131 : decode cX6_odds 131 = .ok (.bipush 20, 2) := dk_16 20 (dk_at dksX6_odds_5 12 rfl rfl)
theorem dX6_odds_133 : decode cX6_odds 133 = .ok (.iload 5, 2) := dk_21 5 (dk_at dksX6_odds_5 14 rfl rfl)
theorem dX6_odds_135 : decode cX6_odds 135 = .ok (.idiv, 1) := dk_108 (dk_at dksX6_odds_5 16 rfl rfl)
theorem dX6_odds_136 : decode cX6_odds 136 = .ok (.ireturn, 1) := dk_172 (dk_at dksX6_odds_5 17 rfl rfl)
abbrev cX6_seed : ByteArray := prog_30_method_80_code
def yX6_seed : MethodName := ⟨RX6, "seed", "(I)I"⟩
def dkwX6_seed_0 : List UInt8 := [42, 16, 6, 27, 182, 0, 171, 172]
abbrev dktX6_seed_0 : List UInt8 := dkwX6_seed_0 ++ []
theorem dksX6_seed_0 : cX6_seed.data.toList.drop 0 = dktX6_seed_0 := by decide +kernel
theorem dX6_seed_0 : decode cX6_seed 0 = .ok (.aload_n 0, 1) := dk_42 (dk_at dksX6_seed_0 0 rfl rfl)
theorem dX6_seed_1 : decode cX6_seed 1 = .ok (.bipush 6, 2) := dk_16 6 (dk_at dksX6_seed_0 1 rfl rfl)
theorem dX6_seed_3 : decode cX6_seed 3 = .ok (.iload_n 1, 1) := dk_27 (dk_at dksX6_seed_0 3 rfl rfl)
theorem dX6_seed_4 : decode cX6_seed 4 = .ok (.invokevirtual 171, 3) := dk_182 0 171 (dk_at dksX6_seed_0 4 rfl rfl)
theorem dX6_seed_7 : decode cX6_seed 7 = .ok (.ireturn, 1) := dk_172 (dk_at dksX6_seed_0 7 rfl rfl)
abbrev cX6_voice : ByteArray := prog_30_method_87_code
def yX6_voice : MethodName := ⟨RX6, "voice", "(III)I"⟩
def dkwX6_voice_4 : List UInt8 := [182, 1, 40, 172]
abbrev dktX6_voice_4 : List UInt8 := dkwX6_voice_4 ++ []
def dkwX6_voice_3 : List UInt8 := [29, 182, 1, 34, 167, 0, 21, 28, 5, 160, 0, 11, 42, 29, 182, 1, 28, 167, 0, 8, 42, 29]
abbrev dktX6_voice_3 : List UInt8 := dkwX6_voice_3 ++ dktX6_voice_4
def dkwX6_voice_2 : List UInt8 := [182, 0, 191, 181, 1, 31, 28, 154, 0, 11, 42, 29, 182, 1, 25, 167, 0, 34, 28, 4, 160, 0, 11, 42]
abbrev dktX6_voice_2 : List UInt8 := dkwX6_voice_2 ++ dktX6_voice_3
def dkwX6_voice_1 : List UInt8 := [42, 3, 181, 1, 13, 42, 42, 27, 3, 182, 0, 191, 181, 1, 16, 42, 27, 181, 1, 22, 42, 42, 27, 4]
abbrev dktX6_voice_1 : List UInt8 := dkwX6_voice_1 ++ dktX6_voice_2
def dkwX6_voice_0 : List UInt8 := [42, 27, 182, 0, 218, 153, 0, 12, 28, 3, 6, 184, 0, 77, 154, 0, 10, 42, 18, 81, 182, 0, 82, 172]
abbrev dktX6_voice_0 : List UInt8 := dkwX6_voice_0 ++ dktX6_voice_1
theorem dksX6_voice_0 : cX6_voice.data.toList.drop 0 = dktX6_voice_0 := by decide +kernel
theorem dksX6_voice_1 : cX6_voice.data.toList.drop 24 = dktX6_voice_1 := dk_seg dksX6_voice_0 24 rfl rfl
theorem dksX6_voice_2 : cX6_voice.data.toList.drop 48 = dktX6_voice_2 := dk_seg dksX6_voice_1 24 rfl rfl
theorem dksX6_voice_3 : cX6_voice.data.toList.drop 72 = dktX6_voice_3 := dk_seg dksX6_voice_2 24 rfl rfl
theorem dksX6_voice_4 : cX6_voice.data.toList.drop 94 = dktX6_voice_4 := dk_seg dksX6_voice_3 22 rfl rfl
theorem dX6_voice_0 : decode cX6_voice 0 = .ok (.aload_n 0, 1) := dk_42 (dk_at dksX6_voice_0 0 rfl rfl)
theorem dX6_voice_1 : decode cX6_voice 1 = .ok (.iload_n 1, 1) := dk_27 (dk_at dksX6_voice_0 1 rfl rfl)
theorem dX6_voice_2 : decode cX6_voice 2 = .ok (.invokevirtual 218, 3) := dk_182 0 218 (dk_at dksX6_voice_0 2 rfl rfl)
theorem dX6_voice_5 : decode cX6_voice 5 = .ok (.ifCond .eq 12, 3) := dk_153 0 12 (dk_at dksX6_voice_0 5 rfl rfl)
theorem dX6_voice_8 : decode cX6_voice 8 = .ok (.iload_n 2, 1) := dk_28 (dk_at dksX6_voice_0 8 rfl rfl)
theorem dX6_voice_9 : decode cX6_voice 9 = .ok (.iconst 0, 1) := dk_3 (dk_at dksX6_voice_0 9 rfl rfl)
theorem dX6_voice_10 : decode cX6_voice 10 = .ok (.iconst 3, 1) := dk_6 (dk_at dksX6_voice_0 10 rfl rfl)
theorem dX6_voice_11 : decode cX6_voice 11 = .ok (.invokestatic 77, 3) := dk_184 0 77 (dk_at dksX6_voice_0 11 rfl rfl)
theorem dX6_voice_14 : decode cX6_voice 14 = .ok (.ifCond .ne 10, 3) := dk_154 0 10 (dk_at dksX6_voice_0 14 rfl rfl)
theorem dX6_voice_17 : decode cX6_voice 17 = .ok (.aload_n 0, 1) := dk_42 (dk_at dksX6_voice_0 17 rfl rfl)
theorem dX6_voice_18 : decode cX6_voice 18 = .ok (.ldc 81, 2) := dk_18 81 (dk_at dksX6_voice_0 18 rfl rfl)
theorem dX6_voice_20 : decode cX6_voice 20 = .ok (.invokevirtual 82, 3) := dk_182 0 82 (dk_at dksX6_voice_0 20 rfl rfl)
theorem dX6_voice_23 : decode cX6_voice 23 = .ok (.ireturn, 1) := dk_172 (dk_at dksX6_voice_0 23 rfl rfl)
theorem dX6_voice_24 : decode cX6_voice 24 = .ok (.aload_n 0, 1) := dk_42 (dk_at dksX6_voice_1 0 rfl rfl)
theorem dX6_voice_25 : decode cX6_voice 25 = .ok (.iconst 0, 1) := dk_3 (dk_at dksX6_voice_1 1 rfl rfl)
theorem dX6_voice_26 : decode cX6_voice 26 = .ok (.putfield 269, 3) := dk_181 1 13 (dk_at dksX6_voice_1 2 rfl rfl)
theorem dX6_voice_29 : decode cX6_voice 29 = .ok (.aload_n 0, 1) := dk_42 (dk_at dksX6_voice_1 5 rfl rfl)
theorem dX6_voice_30 : decode cX6_voice 30 = .ok (.aload_n 0, 1) := dk_42 (dk_at dksX6_voice_1 6 rfl rfl)
theorem dX6_voice_31 : decode cX6_voice 31 = .ok (.iload_n 1, 1) := dk_27 (dk_at dksX6_voice_1 7 rfl rfl)
theorem dX6_voice_32 : decode cX6_voice 32 = .ok (.iconst 0, 1) := dk_3 (dk_at dksX6_voice_1 8 rfl rfl)
theorem dX6_voice_33 : decode cX6_voice 33 = .ok (.invokevirtual 191, 3) := dk_182 0 191 (dk_at dksX6_voice_1 9 rfl rfl)
theorem dX6_voice_36 : decode cX6_voice 36 = .ok (.putfield 272, 3) := dk_181 1 16 (dk_at dksX6_voice_1 12 rfl rfl)
theorem dX6_voice_39 : decode cX6_voice 39 = .ok (.aload_n 0, 1) := dk_42 (dk_at dksX6_voice_1 15 rfl rfl)
theorem dX6_voice_40 : decode cX6_voice 40 = .ok (.iload_n 1, 1) := dk_27 (dk_at dksX6_voice_1 16 rfl rfl)
theorem dX6_voice_41 : decode cX6_voice 41 = .ok (.putfield 278, 3) := dk_181 1 22 (dk_at dksX6_voice_1 17 rfl rfl)
theorem dX6_voice_44 : decode cX6_voice 44 = .ok (.aload_n 0, 1) := dk_42 (dk_at dksX6_voice_1 20 rfl rfl)
theorem dX6_voice_45 : decode cX6_voice 45 = .ok (.aload_n 0, 1) := dk_42 (dk_at dksX6_voice_1 21 rfl rfl)
theorem dX6_voice_46 : decode cX6_voice 46 = .ok (.iload_n 1, 1) := dk_27 (dk_at dksX6_voice_1 22 rfl rfl)
theorem dX6_voice_47 : decode cX6_voice 47 = .ok (.iconst 1, 1) := dk_4 (dk_at dksX6_voice_1 23 rfl rfl)
theorem dX6_voice_48 : decode cX6_voice 48 = .ok (.invokevirtual 191, 3) := dk_182 0 191 (dk_at dksX6_voice_2 0 rfl rfl)
theorem dX6_voice_51 : decode cX6_voice 51 = .ok (.putfield 287, 3) := dk_181 1 31 (dk_at dksX6_voice_2 3 rfl rfl)
theorem dX6_voice_54 : decode cX6_voice 54 = .ok (.iload_n 2, 1) := dk_28 (dk_at dksX6_voice_2 6 rfl rfl)
theorem dX6_voice_55 : decode cX6_voice 55 = .ok (.ifCond .ne 11, 3) := dk_154 0 11 (dk_at dksX6_voice_2 7 rfl rfl)
theorem dX6_voice_58 : decode cX6_voice 58 = .ok (.aload_n 0, 1) := dk_42 (dk_at dksX6_voice_2 10 rfl rfl)
theorem dX6_voice_59 : decode cX6_voice 59 = .ok (.iload_n 3, 1) := dk_29 (dk_at dksX6_voice_2 11 rfl rfl)
theorem dX6_voice_60 : decode cX6_voice 60 = .ok (.invokevirtual 281, 3) := dk_182 1 25 (dk_at dksX6_voice_2 12 rfl rfl)
theorem dX6_voice_63 : decode cX6_voice 63 = .ok (.goto 34, 3) := dk_167 0 34 (dk_at dksX6_voice_2 15 rfl rfl)
theorem dX6_voice_66 : decode cX6_voice 66 = .ok (.iload_n 2, 1) := dk_28 (dk_at dksX6_voice_2 18 rfl rfl)
theorem dX6_voice_67 : decode cX6_voice 67 = .ok (.iconst 1, 1) := dk_4 (dk_at dksX6_voice_2 19 rfl rfl)
theorem dX6_voice_68 : decode cX6_voice 68 = .ok (.if_icmp .ne 11, 3) := dk_160 0 11 (dk_at dksX6_voice_2 20 rfl rfl)
theorem dX6_voice_71 : decode cX6_voice 71 = .ok (.aload_n 0, 1) := dk_42 (dk_at dksX6_voice_2 23 rfl rfl)
theorem dX6_voice_72 : decode cX6_voice 72 = .ok (.iload_n 3, 1) := dk_29 (dk_at dksX6_voice_3 0 rfl rfl)
theorem dX6_voice_73 : decode cX6_voice 73 = .ok (.invokevirtual 290, 3) := dk_182 1 34 (dk_at dksX6_voice_3 1 rfl rfl)
theorem dX6_voice_76 : decode cX6_voice 76 = .ok (.goto 21, 3) := dk_167 0 21 (dk_at dksX6_voice_3 4 rfl rfl)
theorem dX6_voice_79 : decode cX6_voice 79 = .ok (.iload_n 2, 1) := dk_28 (dk_at dksX6_voice_3 7 rfl rfl)
theorem dX6_voice_80 : decode cX6_voice 80 = .ok (.iconst 2, 1) := dk_5 (dk_at dksX6_voice_3 8 rfl rfl)
theorem dX6_voice_81 : decode cX6_voice 81 = .ok (.if_icmp .ne 11, 3) := dk_160 0 11 (dk_at dksX6_voice_3 9 rfl rfl)
theorem dX6_voice_84 : decode cX6_voice 84 = .ok (.aload_n 0, 1) := dk_42 (dk_at dksX6_voice_3 12 rfl rfl)
theorem dX6_voice_85 : decode cX6_voice 85 = .ok (.iload_n 3, 1) := dk_29 (dk_at dksX6_voice_3 13 rfl rfl)
theorem dX6_voice_86 : decode cX6_voice 86 = .ok (.invokevirtual 284, 3) := dk_182 1 28 (dk_at dksX6_voice_3 14 rfl rfl)
theorem dX6_voice_89 : decode cX6_voice 89 = .ok (.goto 8, 3) := dk_167 0 8 (dk_at dksX6_voice_3 17 rfl rfl)
theorem dX6_voice_92 : decode cX6_voice 92 = .ok (.aload_n 0, 1) := dk_42 (dk_at dksX6_voice_3 20 rfl rfl)
theorem dX6_voice_93 : decode cX6_voice 93 = .ok (.iload_n 3, 1) := dk_29 (dk_at dksX6_voice_3 21 rfl rfl)
theorem dX6_voice_94 : decode cX6_voice 94 = .ok (.invokevirtual 296, 3) := dk_182 1 40 (dk_at dksX6_voice_4 0 rfl rfl)
theorem dX6_voice_97 : decode cX6_voice 97 = .ok (.ireturn, 1) := dk_172 (dk_at dksX6_voice_4 3 rfl rfl)
abbrev cX6_sailsOf : ByteArray := prog_30_method_82_code
def yX6_sailsOf : MethodName := ⟨RX6, "sailsOf", "(I)I"⟩
def dkwX6_sailsOf_2 : List UInt8 := [172]
abbrev dktX6_sailsOf_2 : List UInt8 := dkwX6_sailsOf_2 ++ []
def dkwX6_sailsOf_1 : List UInt8 := [182, 1, 19, 28, 153, 0, 14, 27, 42, 180, 1, 22, 96, 6, 104, 167, 0, 9, 27, 42, 180, 1, 22, 96]
abbrev dktX6_sailsOf_1 : List UInt8 := dkwX6_sailsOf_1 ++ dktX6_sailsOf_2
def dkwX6_sailsOf_0 : List UInt8 := [42, 180, 1, 16, 4, 184, 0, 224, 61, 28, 153, 0, 9, 42, 16, 20, 182, 1, 19, 42, 16, 10]
abbrev dktX6_sailsOf_0 : List UInt8 := dkwX6_sailsOf_0 ++ dktX6_sailsOf_1
theorem dksX6_sailsOf_0 : cX6_sailsOf.data.toList.drop 0 = dktX6_sailsOf_0 := by decide +kernel
theorem dksX6_sailsOf_1 : cX6_sailsOf.data.toList.drop 22 = dktX6_sailsOf_1 := dk_seg dksX6_sailsOf_0 22 rfl rfl
theorem dksX6_sailsOf_2 : cX6_sailsOf.data.toList.drop 46 = dktX6_sailsOf_2 := dk_seg dksX6_sailsOf_1 24 rfl rfl
theorem dX6_sailsOf_0 : decode cX6_sailsOf 0 = .ok (.aload_n 0, 1) := dk_42 (dk_at dksX6_sailsOf_0 0 rfl rfl)
theorem dX6_sailsOf_1 : decode cX6_sailsOf 1 = .ok (.getfield 272, 3) := dk_180 1 16 (dk_at dksX6_sailsOf_0 1 rfl rfl)
theorem dX6_sailsOf_4 : decode cX6_sailsOf 4 = .ok (.iconst 1, 1) := dk_4 (dk_at dksX6_sailsOf_0 4 rfl rfl)
theorem dX6_sailsOf_5 : decode cX6_sailsOf 5 = .ok (.invokestatic 224, 3) := dk_184 0 224 (dk_at dksX6_sailsOf_0 5 rfl rfl)
theorem dX6_sailsOf_8 : decode cX6_sailsOf 8 = .ok (.istore_n 2, 1) := dk_61 (dk_at dksX6_sailsOf_0 8 rfl rfl)
theorem dX6_sailsOf_9 : decode cX6_sailsOf 9 = .ok (.iload_n 2, 1) := dk_28 (dk_at dksX6_sailsOf_0 9 rfl rfl)
theorem dX6_sailsOf_10 : decode cX6_sailsOf 10 = .ok (.ifCond .eq 9, 3) := dk_153 0 9 (dk_at dksX6_sailsOf_0 10 rfl rfl)
theorem dX6_sailsOf_13 : decode cX6_sailsOf 13 = .ok (.aload_n 0, 1) := dk_42 (dk_at dksX6_sailsOf_0 13 rfl rfl)
theorem dX6_sailsOf_14 : decode cX6_sailsOf 14 = .ok (.bipush 20, 2) := dk_16 20 (dk_at dksX6_sailsOf_0 14 rfl rfl)
theorem dX6_sailsOf_16 : decode cX6_sailsOf 16 = .ok (.invokevirtual 275, 3) := dk_182 1 19 (dk_at dksX6_sailsOf_0 16 rfl rfl)
theorem dX6_sailsOf_19 : decode cX6_sailsOf 19 = .ok (.aload_n 0, 1) := dk_42 (dk_at dksX6_sailsOf_0 19 rfl rfl)
theorem dX6_sailsOf_20 : decode cX6_sailsOf 20 = .ok (.bipush 10, 2) := dk_16 10 (dk_at dksX6_sailsOf_0 20 rfl rfl)
theorem dX6_sailsOf_22 : decode cX6_sailsOf 22 = .ok (.invokevirtual 275, 3) := dk_182 1 19 (dk_at dksX6_sailsOf_1 0 rfl rfl)
theorem dX6_sailsOf_25 : decode cX6_sailsOf 25 = .ok (.iload_n 2, 1) := dk_28 (dk_at dksX6_sailsOf_1 3 rfl rfl)
theorem dX6_sailsOf_26 : decode cX6_sailsOf 26 = .ok (.ifCond .eq 14, 3) := dk_153 0 14 (dk_at dksX6_sailsOf_1 4 rfl rfl)
theorem dX6_sailsOf_29 : decode cX6_sailsOf 29 = .ok (.iload_n 1, 1) := dk_27 (dk_at dksX6_sailsOf_1 7 rfl rfl)
theorem dX6_sailsOf_30 : decode cX6_sailsOf 30 = .ok (.aload_n 0, 1) := dk_42 (dk_at dksX6_sailsOf_1 8 rfl rfl)
theorem dX6_sailsOf_31 : decode cX6_sailsOf 31 = .ok (.getfield 278, 3) := dk_180 1 22 (dk_at dksX6_sailsOf_1 9 rfl rfl)
theorem dX6_sailsOf_34 : decode cX6_sailsOf 34 = .ok (.iadd, 1) := dk_96 (dk_at dksX6_sailsOf_1 12 rfl rfl)
theorem dX6_sailsOf_35 : decode cX6_sailsOf 35 = .ok (.iconst 3, 1) := dk_6 (dk_at dksX6_sailsOf_1 13 rfl rfl)
theorem dX6_sailsOf_36 : decode cX6_sailsOf 36 = .ok (.imul, 1) := dk_104 (dk_at dksX6_sailsOf_1 14 rfl rfl)
theorem dX6_sailsOf_37 : decode cX6_sailsOf 37 = .ok (.goto 9, 3) := dk_167 0 9 (dk_at dksX6_sailsOf_1 15 rfl rfl)
theorem dX6_sailsOf_40 : decode cX6_sailsOf 40 = .ok (.iload_n 1, 1) := dk_27 (dk_at dksX6_sailsOf_1 18 rfl rfl)
theorem dX6_sailsOf_41 : decode cX6_sailsOf 41 = .ok (.aload_n 0, 1) := dk_42 (dk_at dksX6_sailsOf_1 19 rfl rfl)
theorem dX6_sailsOf_42 : decode cX6_sailsOf 42 = .ok (.getfield 278, 3) := dk_180 1 22 (dk_at dksX6_sailsOf_1 20 rfl rfl)
theorem dX6_sailsOf_45 : decode cX6_sailsOf 45 = .ok (.iadd, 1) := dk_96 (dk_at dksX6_sailsOf_1 23 rfl rfl)
theorem dX6_sailsOf_46 : decode cX6_sailsOf 46 = .ok (.ireturn, 1) := dk_172 (dk_at dksX6_sailsOf_2 0 rfl rfl)
abbrev cX6_ran : ByteArray := prog_30_method_81_code
def yX6_ran : MethodName := ⟨RX6, "ran", "(I)V"⟩
def dkwX6_ran_1 : List UInt8 := [4, 96, 181, 1, 13, 177]
abbrev dktX6_ran_1 : List UInt8 := dkwX6_ran_1 ++ []
def dkwX6_ran_0 : List UInt8 := [42, 180, 1, 13, 16, 40, 162, 0, 23, 42, 180, 0, 44, 42, 180, 1, 13, 27, 79, 42, 89, 180, 1, 13]
abbrev dktX6_ran_0 : List UInt8 := dkwX6_ran_0 ++ dktX6_ran_1
theorem dksX6_ran_0 : cX6_ran.data.toList.drop 0 = dktX6_ran_0 := by decide +kernel
theorem dksX6_ran_1 : cX6_ran.data.toList.drop 24 = dktX6_ran_1 := dk_seg dksX6_ran_0 24 rfl rfl
theorem dX6_ran_0 : decode cX6_ran 0 = .ok (.aload_n 0, 1) := dk_42 (dk_at dksX6_ran_0 0 rfl rfl)
theorem dX6_ran_1 : decode cX6_ran 1 = .ok (.getfield 269, 3) := dk_180 1 13 (dk_at dksX6_ran_0 1 rfl rfl)
theorem dX6_ran_4 : decode cX6_ran 4 = .ok (.bipush 40, 2) := dk_16 40 (dk_at dksX6_ran_0 4 rfl rfl)
theorem dX6_ran_6 : decode cX6_ran 6 = .ok (.if_icmp .ge 23, 3) := dk_162 0 23 (dk_at dksX6_ran_0 6 rfl rfl)
theorem dX6_ran_9 : decode cX6_ran 9 = .ok (.aload_n 0, 1) := dk_42 (dk_at dksX6_ran_0 9 rfl rfl)
theorem dX6_ran_10 : decode cX6_ran 10 = .ok (.getfield 44, 3) := dk_180 0 44 (dk_at dksX6_ran_0 10 rfl rfl)
theorem dX6_ran_13 : decode cX6_ran 13 = .ok (.aload_n 0, 1) := dk_42 (dk_at dksX6_ran_0 13 rfl rfl)
theorem dX6_ran_14 : decode cX6_ran 14 = .ok (.getfield 269, 3) := dk_180 1 13 (dk_at dksX6_ran_0 14 rfl rfl)
theorem dX6_ran_17 : decode cX6_ran 17 = .ok (.iload_n 1, 1) := dk_27 (dk_at dksX6_ran_0 17 rfl rfl)
theorem dX6_ran_18 : decode cX6_ran 18 = .ok (.iastore, 1) := dk_79 (dk_at dksX6_ran_0 18 rfl rfl)
theorem dX6_ran_19 : decode cX6_ran 19 = .ok (.aload_n 0, 1) := dk_42 (dk_at dksX6_ran_0 19 rfl rfl)
theorem dX6_ran_20 : decode cX6_ran 20 = .ok (.dup, 1) := dk_89 (dk_at dksX6_ran_0 20 rfl rfl)
theorem dX6_ran_21 : decode cX6_ran 21 = .ok (.getfield 269, 3) := dk_180 1 13 (dk_at dksX6_ran_0 21 rfl rfl)
theorem dX6_ran_24 : decode cX6_ran 24 = .ok (.iconst 1, 1) := dk_4 (dk_at dksX6_ran_1 0 rfl rfl)
theorem dX6_ran_25 : decode cX6_ran 25 = .ok (.iadd, 1) := dk_96 (dk_at dksX6_ran_1 1 rfl rfl)
theorem dX6_ran_26 : decode cX6_ran 26 = .ok (.putfield 269, 3) := dk_181 1 13 (dk_at dksX6_ran_1 2 rfl rfl)
theorem dX6_ran_29 : decode cX6_ran 29 = .ok (.return_, 1) := dk_177 (dk_at dksX6_ran_1 5 rfl rfl)
abbrev cX6_steersOf : ByteArray := prog_30_method_83_code
def yX6_steersOf : MethodName := ⟨RX6, "steersOf", "(I)I"⟩
def dkwX6_steersOf_3 : List UInt8 := [172]
abbrev dktX6_steersOf_3 : List UInt8 := dkwX6_steersOf_3 ++ []
def dkwX6_steersOf_2 : List UInt8 := [182, 1, 25, 5, 104, 54, 4, 29, 153, 0, 14, 21, 4, 42, 4, 182, 1, 28, 100, 167, 0, 5, 21, 4]
abbrev dktX6_steersOf_2 : List UInt8 := dkwX6_steersOf_2 ++ dktX6_steersOf_3
def dkwX6_steersOf_1 : List UInt8 := [184, 0, 224, 62, 29, 153, 0, 9, 42, 16, 30, 182, 1, 19, 42, 16, 11, 182, 1, 19, 42, 28]
abbrev dktX6_steersOf_1 : List UInt8 := dkwX6_steersOf_1 ++ dktX6_steersOf_2
def dkwX6_steersOf_0 : List UInt8 := [27, 61, 42, 180, 1, 16, 8, 160, 0, 12, 42, 16, 60, 182, 1, 19, 132, 2, 1, 42, 180, 1, 16, 5]
abbrev dktX6_steersOf_0 : List UInt8 := dkwX6_steersOf_0 ++ dktX6_steersOf_1
theorem dksX6_steersOf_0 : cX6_steersOf.data.toList.drop 0 = dktX6_steersOf_0 := by decide +kernel
theorem dksX6_steersOf_1 : cX6_steersOf.data.toList.drop 24 = dktX6_steersOf_1 := dk_seg dksX6_steersOf_0 24 rfl rfl
theorem dksX6_steersOf_2 : cX6_steersOf.data.toList.drop 46 = dktX6_steersOf_2 := dk_seg dksX6_steersOf_1 22 rfl rfl
theorem dksX6_steersOf_3 : cX6_steersOf.data.toList.drop 70 = dktX6_steersOf_3 := dk_seg dksX6_steersOf_2 24 rfl rfl
theorem dX6_steersOf_0 : decode cX6_steersOf 0 = .ok (.iload_n 1, 1) := dk_27 (dk_at dksX6_steersOf_0 0 rfl rfl)
theorem dX6_steersOf_1 : decode cX6_steersOf 1 = .ok (.istore_n 2, 1) := dk_61 (dk_at dksX6_steersOf_0 1 rfl rfl)
theorem dX6_steersOf_2 : decode cX6_steersOf 2 = .ok (.aload_n 0, 1) := dk_42 (dk_at dksX6_steersOf_0 2 rfl rfl)
theorem dX6_steersOf_3 : decode cX6_steersOf 3 = .ok (.getfield 272, 3) := dk_180 1 16 (dk_at dksX6_steersOf_0 3 rfl rfl)
theorem dX6_steersOf_6 : decode cX6_steersOf 6 = .ok (.iconst 5, 1) := dk_8 (dk_at dksX6_steersOf_0 6 rfl rfl)
theorem dX6_steersOf_7 : decode cX6_steersOf 7 = .ok (.if_icmp .ne 12, 3) := dk_160 0 12 (dk_at dksX6_steersOf_0 7 rfl rfl)
theorem dX6_steersOf_10 : decode cX6_steersOf 10 = .ok (.aload_n 0, 1) := dk_42 (dk_at dksX6_steersOf_0 10 rfl rfl)
theorem dX6_steersOf_11 : decode cX6_steersOf 11 = .ok (.bipush 60, 2) := dk_16 60 (dk_at dksX6_steersOf_0 11 rfl rfl)
theorem dX6_steersOf_13 : decode cX6_steersOf 13 = .ok (.invokevirtual 275, 3) := dk_182 1 19 (dk_at dksX6_steersOf_0 13 rfl rfl)
theorem dX6_steersOf_16 : decode cX6_steersOf 16 = .ok (.iinc 2 1, 3) := dk_132 2 1 (dk_at dksX6_steersOf_0 16 rfl rfl)
theorem dX6_steersOf_19 : decode cX6_steersOf 19 = .ok (.aload_n 0, 1) := dk_42 (dk_at dksX6_steersOf_0 19 rfl rfl)
theorem dX6_steersOf_20 : decode cX6_steersOf 20 = .ok (.getfield 272, 3) := dk_180 1 16 (dk_at dksX6_steersOf_0 20 rfl rfl)
theorem dX6_steersOf_23 : decode cX6_steersOf 23 = .ok (.iconst 2, 1) := dk_5 (dk_at dksX6_steersOf_0 23 rfl rfl)
theorem dX6_steersOf_24 : decode cX6_steersOf 24 = .ok (.invokestatic 224, 3) := dk_184 0 224 (dk_at dksX6_steersOf_1 0 rfl rfl)
theorem dX6_steersOf_27 : decode cX6_steersOf 27 = .ok (.istore_n 3, 1) := dk_62 (dk_at dksX6_steersOf_1 3 rfl rfl)
theorem dX6_steersOf_28 : decode cX6_steersOf 28 = .ok (.iload_n 3, 1) := dk_29 (dk_at dksX6_steersOf_1 4 rfl rfl)
theorem dX6_steersOf_29 : decode cX6_steersOf 29 = .ok (.ifCond .eq 9, 3) := dk_153 0 9 (dk_at dksX6_steersOf_1 5 rfl rfl)
theorem dX6_steersOf_32 : decode cX6_steersOf 32 = .ok (.aload_n 0, 1) := dk_42 (dk_at dksX6_steersOf_1 8 rfl rfl)
theorem dX6_steersOf_33 : decode cX6_steersOf 33 = .ok (.bipush 30, 2) := dk_16 30 (dk_at dksX6_steersOf_1 9 rfl rfl)
theorem dX6_steersOf_35 : decode cX6_steersOf 35 = .ok (.invokevirtual 275, 3) := dk_182 1 19 (dk_at dksX6_steersOf_1 11 rfl rfl)
theorem dX6_steersOf_38 : decode cX6_steersOf 38 = .ok (.aload_n 0, 1) := dk_42 (dk_at dksX6_steersOf_1 14 rfl rfl)
theorem dX6_steersOf_39 : decode cX6_steersOf 39 = .ok (.bipush 11, 2) := dk_16 11 (dk_at dksX6_steersOf_1 15 rfl rfl)
theorem dX6_steersOf_41 : decode cX6_steersOf 41 = .ok (.invokevirtual 275, 3) := dk_182 1 19 (dk_at dksX6_steersOf_1 17 rfl rfl)
theorem dX6_steersOf_44 : decode cX6_steersOf 44 = .ok (.aload_n 0, 1) := dk_42 (dk_at dksX6_steersOf_1 20 rfl rfl)
theorem dX6_steersOf_45 : decode cX6_steersOf 45 = .ok (.iload_n 2, 1) := dk_28 (dk_at dksX6_steersOf_1 21 rfl rfl)
theorem dX6_steersOf_46 : decode cX6_steersOf 46 = .ok (.invokevirtual 281, 3) := dk_182 1 25 (dk_at dksX6_steersOf_2 0 rfl rfl)
theorem dX6_steersOf_49 : decode cX6_steersOf 49 = .ok (.iconst 2, 1) := dk_5 (dk_at dksX6_steersOf_2 3 rfl rfl)
theorem dX6_steersOf_50 : decode cX6_steersOf 50 = .ok (.imul, 1) := dk_104 (dk_at dksX6_steersOf_2 4 rfl rfl)
theorem dX6_steersOf_51 : decode cX6_steersOf 51 = .ok (.istore 4, 2) := dk_54 4 (dk_at dksX6_steersOf_2 5 rfl rfl)
theorem dX6_steersOf_53 : decode cX6_steersOf 53 = .ok (.iload_n 3, 1) := dk_29 (dk_at dksX6_steersOf_2 7 rfl rfl)
theorem dX6_steersOf_54 : decode cX6_steersOf 54 = .ok (.ifCond .eq 14, 3) := dk_153 0 14 (dk_at dksX6_steersOf_2 8 rfl rfl)
theorem dX6_steersOf_57 : decode cX6_steersOf 57 = .ok (.iload 4, 2) := dk_21 4 (dk_at dksX6_steersOf_2 11 rfl rfl)
theorem dX6_steersOf_59 : decode cX6_steersOf 59 = .ok (.aload_n 0, 1) := dk_42 (dk_at dksX6_steersOf_2 13 rfl rfl)
theorem dX6_steersOf_60 : decode cX6_steersOf 60 = .ok (.iconst 1, 1) := dk_4 (dk_at dksX6_steersOf_2 14 rfl rfl)
theorem dX6_steersOf_61 : decode cX6_steersOf 61 = .ok (.invokevirtual 284, 3) := dk_182 1 28 (dk_at dksX6_steersOf_2 15 rfl rfl)
theorem dX6_steersOf_64 : decode cX6_steersOf 64 = .ok (.isub, 1) := dk_100 (dk_at dksX6_steersOf_2 18 rfl rfl)
theorem dX6_steersOf_65 : decode cX6_steersOf 65 = .ok (.goto 5, 3) := dk_167 0 5 (dk_at dksX6_steersOf_2 19 rfl rfl)
theorem dX6_steersOf_68 : decode cX6_steersOf 68 = .ok (.iload 4, 2) := dk_21 4 (dk_at dksX6_steersOf_2 22 rfl rfl)
theorem dX6_steersOf_70 : decode cX6_steersOf 70 = .ok (.ireturn, 1) := dk_172 (dk_at dksX6_steersOf_3 0 rfl rfl)
abbrev cX6_soundsOf : ByteArray := prog_30_method_84_code
def yX6_soundsOf : MethodName := ⟨RX6, "soundsOf", "(I)I"⟩
def dkwX6_soundsOf_3 : List UInt8 := [29, 42, 180, 1, 22, 130, 167, 0, 4, 29, 172]
abbrev dktX6_soundsOf_3 : List UInt8 := dkwX6_soundsOf_3 ++ []
def dkwX6_soundsOf_2 : List UInt8 := [180, 1, 31, 100, 116, 167, 0, 9, 27, 42, 180, 1, 31, 100, 62, 42, 180, 1, 16, 16, 6, 160, 0, 12]
abbrev dktX6_soundsOf_2 : List UInt8 := dkwX6_soundsOf_2 ++ dktX6_soundsOf_3
def dkwX6_soundsOf_1 : List UInt8 := [28, 153, 0, 9, 42, 16, 40, 182, 1, 19, 42, 16, 12, 182, 1, 19, 28, 153, 0, 13, 27, 42]
abbrev dktX6_soundsOf_1 : List UInt8 := dkwX6_soundsOf_1 ++ dktX6_soundsOf_2
def dkwX6_soundsOf_0 : List UInt8 := [42, 180, 1, 16, 16, 6, 160, 0, 9, 42, 16, 70, 182, 1, 19, 42, 180, 1, 16, 6, 184, 0, 224, 61]
abbrev dktX6_soundsOf_0 : List UInt8 := dkwX6_soundsOf_0 ++ dktX6_soundsOf_1
theorem dksX6_soundsOf_0 : cX6_soundsOf.data.toList.drop 0 = dktX6_soundsOf_0 := by decide +kernel
theorem dksX6_soundsOf_1 : cX6_soundsOf.data.toList.drop 24 = dktX6_soundsOf_1 := dk_seg dksX6_soundsOf_0 24 rfl rfl
theorem dksX6_soundsOf_2 : cX6_soundsOf.data.toList.drop 46 = dktX6_soundsOf_2 := dk_seg dksX6_soundsOf_1 22 rfl rfl
theorem dksX6_soundsOf_3 : cX6_soundsOf.data.toList.drop 70 = dktX6_soundsOf_3 := dk_seg dksX6_soundsOf_2 24 rfl rfl
theorem dX6_soundsOf_0 : decode cX6_soundsOf 0 = .ok (.aload_n 0, 1) := dk_42 (dk_at dksX6_soundsOf_0 0 rfl rfl)
theorem dX6_soundsOf_1 : decode cX6_soundsOf 1 = .ok (.getfield 272, 3) := dk_180 1 16 (dk_at dksX6_soundsOf_0 1 rfl rfl)
theorem dX6_soundsOf_4 : decode cX6_soundsOf 4 = .ok (.bipush 6, 2) := dk_16 6 (dk_at dksX6_soundsOf_0 4 rfl rfl)
theorem dX6_soundsOf_6 : decode cX6_soundsOf 6 = .ok (.if_icmp .ne 9, 3) := dk_160 0 9 (dk_at dksX6_soundsOf_0 6 rfl rfl)
theorem dX6_soundsOf_9 : decode cX6_soundsOf 9 = .ok (.aload_n 0, 1) := dk_42 (dk_at dksX6_soundsOf_0 9 rfl rfl)
theorem dX6_soundsOf_10 : decode cX6_soundsOf 10 = .ok (.bipush 70, 2) := dk_16 70 (dk_at dksX6_soundsOf_0 10 rfl rfl)
theorem dX6_soundsOf_12 : decode cX6_soundsOf 12 = .ok (.invokevirtual 275, 3) := dk_182 1 19 (dk_at dksX6_soundsOf_0 12 rfl rfl)
theorem dX6_soundsOf_15 : decode cX6_soundsOf 15 = .ok (.aload_n 0, 1) := dk_42 (dk_at dksX6_soundsOf_0 15 rfl rfl)
theorem dX6_soundsOf_16 : decode cX6_soundsOf 16 = .ok (.getfield 272, 3) := dk_180 1 16 (dk_at dksX6_soundsOf_0 16 rfl rfl)
theorem dX6_soundsOf_19 : decode cX6_soundsOf 19 = .ok (.iconst 3, 1) := dk_6 (dk_at dksX6_soundsOf_0 19 rfl rfl)
theorem dX6_soundsOf_20 : decode cX6_soundsOf 20 = .ok (.invokestatic 224, 3) := dk_184 0 224 (dk_at dksX6_soundsOf_0 20 rfl rfl)
theorem dX6_soundsOf_23 : decode cX6_soundsOf 23 = .ok (.istore_n 2, 1) := dk_61 (dk_at dksX6_soundsOf_0 23 rfl rfl)
theorem dX6_soundsOf_24 : decode cX6_soundsOf 24 = .ok (.iload_n 2, 1) := dk_28 (dk_at dksX6_soundsOf_1 0 rfl rfl)
theorem dX6_soundsOf_25 : decode cX6_soundsOf 25 = .ok (.ifCond .eq 9, 3) := dk_153 0 9 (dk_at dksX6_soundsOf_1 1 rfl rfl)
theorem dX6_soundsOf_28 : decode cX6_soundsOf 28 = .ok (.aload_n 0, 1) := dk_42 (dk_at dksX6_soundsOf_1 4 rfl rfl)
theorem dX6_soundsOf_29 : decode cX6_soundsOf 29 = .ok (.bipush 40, 2) := dk_16 40 (dk_at dksX6_soundsOf_1 5 rfl rfl)
theorem dX6_soundsOf_31 : decode cX6_soundsOf 31 = .ok (.invokevirtual 275, 3) := dk_182 1 19 (dk_at dksX6_soundsOf_1 7 rfl rfl)
theorem dX6_soundsOf_34 : decode cX6_soundsOf 34 = .ok (.aload_n 0, 1) := dk_42 (dk_at dksX6_soundsOf_1 10 rfl rfl)
theorem dX6_soundsOf_35 : decode cX6_soundsOf 35 = .ok (.bipush 12, 2) := dk_16 12 (dk_at dksX6_soundsOf_1 11 rfl rfl)
theorem dX6_soundsOf_37 : decode cX6_soundsOf 37 = .ok (.invokevirtual 275, 3) := dk_182 1 19 (dk_at dksX6_soundsOf_1 13 rfl rfl)
theorem dX6_soundsOf_40 : decode cX6_soundsOf 40 = .ok (.iload_n 2, 1) := dk_28 (dk_at dksX6_soundsOf_1 16 rfl rfl)
theorem dX6_soundsOf_41 : decode cX6_soundsOf 41 = .ok (.ifCond .eq 13, 3) := dk_153 0 13 (dk_at dksX6_soundsOf_1 17 rfl rfl)
theorem dX6_soundsOf_44 : decode cX6_soundsOf 44 = .ok (.iload_n 1, 1) := dk_27 (dk_at dksX6_soundsOf_1 20 rfl rfl)
theorem dX6_soundsOf_45 : decode cX6_soundsOf 45 = .ok (.aload_n 0, 1) := dk_42 (dk_at dksX6_soundsOf_1 21 rfl rfl)
theorem dX6_soundsOf_46 : decode cX6_soundsOf 46 = .ok (.getfield 287, 3) := dk_180 1 31 (dk_at dksX6_soundsOf_2 0 rfl rfl)
theorem dX6_soundsOf_49 : decode cX6_soundsOf 49 = .ok (.isub, 1) := dk_100 (dk_at dksX6_soundsOf_2 3 rfl rfl)
theorem dX6_soundsOf_50 : decode cX6_soundsOf 50 = .ok (.ineg, 1) := dk_116 (dk_at dksX6_soundsOf_2 4 rfl rfl)
theorem dX6_soundsOf_51 : decode cX6_soundsOf 51 = .ok (.goto 9, 3) := dk_167 0 9 (dk_at dksX6_soundsOf_2 5 rfl rfl)
theorem dX6_soundsOf_54 : decode cX6_soundsOf 54 = .ok (.iload_n 1, 1) := dk_27 (dk_at dksX6_soundsOf_2 8 rfl rfl)
theorem dX6_soundsOf_55 : decode cX6_soundsOf 55 = .ok (.aload_n 0, 1) := dk_42 (dk_at dksX6_soundsOf_2 9 rfl rfl)
theorem dX6_soundsOf_56 : decode cX6_soundsOf 56 = .ok (.getfield 287, 3) := dk_180 1 31 (dk_at dksX6_soundsOf_2 10 rfl rfl)
theorem dX6_soundsOf_59 : decode cX6_soundsOf 59 = .ok (.isub, 1) := dk_100 (dk_at dksX6_soundsOf_2 13 rfl rfl)
theorem dX6_soundsOf_60 : decode cX6_soundsOf 60 = .ok (.istore_n 3, 1) := dk_62 (dk_at dksX6_soundsOf_2 14 rfl rfl)
theorem dX6_soundsOf_61 : decode cX6_soundsOf 61 = .ok (.aload_n 0, 1) := dk_42 (dk_at dksX6_soundsOf_2 15 rfl rfl)
theorem dX6_soundsOf_62 : decode cX6_soundsOf 62 = .ok (.getfield 272, 3) := dk_180 1 16 (dk_at dksX6_soundsOf_2 16 rfl rfl)
theorem dX6_soundsOf_65 : decode cX6_soundsOf 65 = .ok (.bipush 6, 2) := dk_16 6 (dk_at dksX6_soundsOf_2 19 rfl rfl)
theorem dX6_soundsOf_67 : decode cX6_soundsOf 67 = .ok (.if_icmp .ne 12, 3) := dk_160 0 12 (dk_at dksX6_soundsOf_2 21 rfl rfl)
theorem dX6_soundsOf_70 : decode cX6_soundsOf 70 = .ok (.iload_n 3, 1) := dk_29 (dk_at dksX6_soundsOf_3 0 rfl rfl)
theorem dX6_soundsOf_71 : decode cX6_soundsOf 71 = .ok (.aload_n 0, 1) := dk_42 (dk_at dksX6_soundsOf_3 1 rfl rfl)
theorem dX6_soundsOf_72 : decode cX6_soundsOf 72 = .ok (.getfield 278, 3) := dk_180 1 22 (dk_at dksX6_soundsOf_3 2 rfl rfl)
theorem dX6_soundsOf_75 : decode cX6_soundsOf 75 = .ok (.ixor, 1) := dk_130 (dk_at dksX6_soundsOf_3 5 rfl rfl)
theorem dX6_soundsOf_76 : decode cX6_soundsOf 76 = .ok (.goto 4, 3) := dk_167 0 4 (dk_at dksX6_soundsOf_3 6 rfl rfl)
theorem dX6_soundsOf_79 : decode cX6_soundsOf 79 = .ok (.iload_n 3, 1) := dk_29 (dk_at dksX6_soundsOf_3 9 rfl rfl)
theorem dX6_soundsOf_80 : decode cX6_soundsOf 80 = .ok (.ireturn, 1) := dk_172 (dk_at dksX6_soundsOf_3 10 rfl rfl)
abbrev cX6_logsOf : ByteArray := prog_30_method_86_code
def yX6_logsOf : MethodName := ⟨RX6, "logsOf", "(I)I"⟩
def dkwX6_logsOf_2 : List UInt8 := [61, 28, 42, 5, 182, 1, 25, 100, 172, 42, 27, 182, 1, 37, 172]
abbrev dktX6_logsOf_2 : List UInt8 := dkwX6_logsOf_2 ++ []
def dkwX6_logsOf_1 : List UInt8 := [182, 1, 37, 100, 172, 42, 180, 1, 16, 7, 160, 0, 23, 42, 16, 50, 182, 1, 19, 42, 27, 182, 1, 37]
abbrev dktX6_logsOf_1 : List UInt8 := dkwX6_logsOf_1 ++ dktX6_logsOf_2
def dkwX6_logsOf_0 : List UInt8 := [42, 180, 1, 16, 16, 6, 160, 0, 23, 42, 16, 71, 182, 1, 19, 42, 27, 182, 1, 34, 61, 28, 42, 27]
abbrev dktX6_logsOf_0 : List UInt8 := dkwX6_logsOf_0 ++ dktX6_logsOf_1
theorem dksX6_logsOf_0 : cX6_logsOf.data.toList.drop 0 = dktX6_logsOf_0 := by decide +kernel
theorem dksX6_logsOf_1 : cX6_logsOf.data.toList.drop 24 = dktX6_logsOf_1 := dk_seg dksX6_logsOf_0 24 rfl rfl
theorem dksX6_logsOf_2 : cX6_logsOf.data.toList.drop 48 = dktX6_logsOf_2 := dk_seg dksX6_logsOf_1 24 rfl rfl
theorem dX6_logsOf_0 : decode cX6_logsOf 0 = .ok (.aload_n 0, 1) := dk_42 (dk_at dksX6_logsOf_0 0 rfl rfl)
theorem dX6_logsOf_1 : decode cX6_logsOf 1 = .ok (.getfield 272, 3) := dk_180 1 16 (dk_at dksX6_logsOf_0 1 rfl rfl)
theorem dX6_logsOf_4 : decode cX6_logsOf 4 = .ok (.bipush 6, 2) := dk_16 6 (dk_at dksX6_logsOf_0 4 rfl rfl)
theorem dX6_logsOf_6 : decode cX6_logsOf 6 = .ok (.if_icmp .ne 23, 3) := dk_160 0 23 (dk_at dksX6_logsOf_0 6 rfl rfl)
theorem dX6_logsOf_9 : decode cX6_logsOf 9 = .ok (.aload_n 0, 1) := dk_42 (dk_at dksX6_logsOf_0 9 rfl rfl)
theorem dX6_logsOf_10 : decode cX6_logsOf 10 = .ok (.bipush 71, 2) := dk_16 71 (dk_at dksX6_logsOf_0 10 rfl rfl)
theorem dX6_logsOf_12 : decode cX6_logsOf 12 = .ok (.invokevirtual 275, 3) := dk_182 1 19 (dk_at dksX6_logsOf_0 12 rfl rfl)
theorem dX6_logsOf_15 : decode cX6_logsOf 15 = .ok (.aload_n 0, 1) := dk_42 (dk_at dksX6_logsOf_0 15 rfl rfl)
theorem dX6_logsOf_16 : decode cX6_logsOf 16 = .ok (.iload_n 1, 1) := dk_27 (dk_at dksX6_logsOf_0 16 rfl rfl)
theorem dX6_logsOf_17 : decode cX6_logsOf 17 = .ok (.invokevirtual 290, 3) := dk_182 1 34 (dk_at dksX6_logsOf_0 17 rfl rfl)
theorem dX6_logsOf_20 : decode cX6_logsOf 20 = .ok (.istore_n 2, 1) := dk_61 (dk_at dksX6_logsOf_0 20 rfl rfl)
theorem dX6_logsOf_21 : decode cX6_logsOf 21 = .ok (.iload_n 2, 1) := dk_28 (dk_at dksX6_logsOf_0 21 rfl rfl)
theorem dX6_logsOf_22 : decode cX6_logsOf 22 = .ok (.aload_n 0, 1) := dk_42 (dk_at dksX6_logsOf_0 22 rfl rfl)
theorem dX6_logsOf_23 : decode cX6_logsOf 23 = .ok (.iload_n 1, 1) := dk_27 (dk_at dksX6_logsOf_0 23 rfl rfl)
theorem dX6_logsOf_24 : decode cX6_logsOf 24 = .ok (.invokevirtual 293, 3) := dk_182 1 37 (dk_at dksX6_logsOf_1 0 rfl rfl)
theorem dX6_logsOf_27 : decode cX6_logsOf 27 = .ok (.isub, 1) := dk_100 (dk_at dksX6_logsOf_1 3 rfl rfl)
theorem dX6_logsOf_28 : decode cX6_logsOf 28 = .ok (.ireturn, 1) := dk_172 (dk_at dksX6_logsOf_1 4 rfl rfl)
theorem dX6_logsOf_29 : decode cX6_logsOf 29 = .ok (.aload_n 0, 1) := dk_42 (dk_at dksX6_logsOf_1 5 rfl rfl)
theorem dX6_logsOf_30 : decode cX6_logsOf 30 = .ok (.getfield 272, 3) := dk_180 1 16 (dk_at dksX6_logsOf_1 6 rfl rfl)
theorem dX6_logsOf_33 : decode cX6_logsOf 33 = .ok (.iconst 4, 1) := dk_7 (dk_at dksX6_logsOf_1 9 rfl rfl)
theorem dX6_logsOf_34 : decode cX6_logsOf 34 = .ok (.if_icmp .ne 23, 3) := dk_160 0 23 (dk_at dksX6_logsOf_1 10 rfl rfl)
theorem dX6_logsOf_37 : decode cX6_logsOf 37 = .ok (.aload_n 0, 1) := dk_42 (dk_at dksX6_logsOf_1 13 rfl rfl)
theorem dX6_logsOf_38 : decode cX6_logsOf 38 = .ok (.bipush 50, 2) := dk_16 50 (dk_at dksX6_logsOf_1 14 rfl rfl)
theorem dX6_logsOf_40 : decode cX6_logsOf 40 = .ok (.invokevirtual 275, 3) := dk_182 1 19 (dk_at dksX6_logsOf_1 16 rfl rfl)
theorem dX6_logsOf_43 : decode cX6_logsOf 43 = .ok (.aload_n 0, 1) := dk_42 (dk_at dksX6_logsOf_1 19 rfl rfl)
theorem dX6_logsOf_44 : decode cX6_logsOf 44 = .ok (.iload_n 1, 1) := dk_27 (dk_at dksX6_logsOf_1 20 rfl rfl)
theorem dX6_logsOf_45 : decode cX6_logsOf 45 = .ok (.invokevirtual 293, 3) := dk_182 1 37 (dk_at dksX6_logsOf_1 21 rfl rfl)
theorem dX6_logsOf_48 : decode cX6_logsOf 48 = .ok (.istore_n 2, 1) := dk_61 (dk_at dksX6_logsOf_2 0 rfl rfl)
theorem dX6_logsOf_49 : decode cX6_logsOf 49 = .ok (.iload_n 2, 1) := dk_28 (dk_at dksX6_logsOf_2 1 rfl rfl)
theorem dX6_logsOf_50 : decode cX6_logsOf 50 = .ok (.aload_n 0, 1) := dk_42 (dk_at dksX6_logsOf_2 2 rfl rfl)
theorem dX6_logsOf_51 : decode cX6_logsOf 51 = .ok (.iconst 2, 1) := dk_5 (dk_at dksX6_logsOf_2 3 rfl rfl)
theorem dX6_logsOf_52 : decode cX6_logsOf 52 = .ok (.invokevirtual 281, 3) := dk_182 1 25 (dk_at dksX6_logsOf_2 4 rfl rfl)
theorem dX6_logsOf_55 : decode cX6_logsOf 55 = .ok (.isub, 1) := dk_100 (dk_at dksX6_logsOf_2 7 rfl rfl)
theorem dX6_logsOf_56 : decode cX6_logsOf 56 = .ok (.ireturn, 1) := dk_172 (dk_at dksX6_logsOf_2 8 rfl rfl)
theorem dX6_logsOf_57 : decode cX6_logsOf 57 = .ok (.aload_n 0, 1) := dk_42 (dk_at dksX6_logsOf_2 9 rfl rfl)
theorem dX6_logsOf_58 : decode cX6_logsOf 58 = .ok (.iload_n 1, 1) := dk_27 (dk_at dksX6_logsOf_2 10 rfl rfl)
theorem dX6_logsOf_59 : decode cX6_logsOf 59 = .ok (.invokevirtual 293, 3) := dk_182 1 37 (dk_at dksX6_logsOf_2 11 rfl rfl)
theorem dX6_logsOf_62 : decode cX6_logsOf 62 = .ok (.ireturn, 1) := dk_172 (dk_at dksX6_logsOf_2 14 rfl rfl)
abbrev cX6_plainLogs : ByteArray := prog_30_method_85_code
def yX6_plainLogs : MethodName := ⟨RX6, "plainLogs", "(I)I"⟩
def dkwX6_plainLogs_0 : List UInt8 := [42, 16, 13, 182, 1, 19, 42, 27, 182, 1, 34, 61, 28, 42, 27, 182, 1, 28, 130, 172]
abbrev dktX6_plainLogs_0 : List UInt8 := dkwX6_plainLogs_0 ++ []
theorem dksX6_plainLogs_0 : cX6_plainLogs.data.toList.drop 0 = dktX6_plainLogs_0 := by decide +kernel
theorem dX6_plainLogs_0 : decode cX6_plainLogs 0 = .ok (.aload_n 0, 1) := dk_42 (dk_at dksX6_plainLogs_0 0 rfl rfl)
theorem dX6_plainLogs_1 : decode cX6_plainLogs 1 = .ok (.bipush 13, 2) := dk_16 13 (dk_at dksX6_plainLogs_0 1 rfl rfl)
theorem dX6_plainLogs_3 : decode cX6_plainLogs 3 = .ok (.invokevirtual 275, 3) := dk_182 1 19 (dk_at dksX6_plainLogs_0 3 rfl rfl)
theorem dX6_plainLogs_6 : decode cX6_plainLogs 6 = .ok (.aload_n 0, 1) := dk_42 (dk_at dksX6_plainLogs_0 6 rfl rfl)
theorem dX6_plainLogs_7 : decode cX6_plainLogs 7 = .ok (.iload_n 1, 1) := dk_27 (dk_at dksX6_plainLogs_0 7 rfl rfl)
theorem dX6_plainLogs_8 : decode cX6_plainLogs 8 = .ok (.invokevirtual 290, 3) := dk_182 1 34 (dk_at dksX6_plainLogs_0 8 rfl rfl)
theorem dX6_plainLogs_11 : decode cX6_plainLogs 11 = .ok (.istore_n 2, 1) := dk_61 (dk_at dksX6_plainLogs_0 11 rfl rfl)
theorem dX6_plainLogs_12 : decode cX6_plainLogs 12 = .ok (.iload_n 2, 1) := dk_28 (dk_at dksX6_plainLogs_0 12 rfl rfl)
theorem dX6_plainLogs_13 : decode cX6_plainLogs 13 = .ok (.aload_n 0, 1) := dk_42 (dk_at dksX6_plainLogs_0 13 rfl rfl)
theorem dX6_plainLogs_14 : decode cX6_plainLogs 14 = .ok (.iload_n 1, 1) := dk_27 (dk_at dksX6_plainLogs_0 14 rfl rfl)
theorem dX6_plainLogs_15 : decode cX6_plainLogs 15 = .ok (.invokevirtual 284, 3) := dk_182 1 28 (dk_at dksX6_plainLogs_0 15 rfl rfl)
theorem dX6_plainLogs_18 : decode cX6_plainLogs 18 = .ok (.ixor, 1) := dk_130 (dk_at dksX6_plainLogs_0 18 rfl rfl)
theorem dX6_plainLogs_19 : decode cX6_plainLogs 19 = .ok (.ireturn, 1) := dk_172 (dk_at dksX6_plainLogs_0 19 rfl rfl)
abbrev cX6_trace : ByteArray := prog_30_method_88_code
def yX6_trace : MethodName := ⟨RX6, "trace", "(I)I"⟩
def dkwX6_trace_1 : List UInt8 := [19, 1, 0, 182, 0, 82, 172]
abbrev dktX6_trace_1 : List UInt8 := dkwX6_trace_1 ++ []
def dkwX6_trace_0 : List UInt8 := [27, 3, 42, 180, 1, 13, 4, 100, 184, 0, 77, 153, 0, 12, 42, 180, 0, 44, 27, 46, 167, 0, 10, 42]
abbrev dktX6_trace_0 : List UInt8 := dkwX6_trace_0 ++ dktX6_trace_1
theorem dksX6_trace_0 : cX6_trace.data.toList.drop 0 = dktX6_trace_0 := by decide +kernel
theorem dksX6_trace_1 : cX6_trace.data.toList.drop 24 = dktX6_trace_1 := dk_seg dksX6_trace_0 24 rfl rfl
theorem dX6_trace_0 : decode cX6_trace 0 = .ok (.iload_n 1, 1) := dk_27 (dk_at dksX6_trace_0 0 rfl rfl)
theorem dX6_trace_1 : decode cX6_trace 1 = .ok (.iconst 0, 1) := dk_3 (dk_at dksX6_trace_0 1 rfl rfl)
theorem dX6_trace_2 : decode cX6_trace 2 = .ok (.aload_n 0, 1) := dk_42 (dk_at dksX6_trace_0 2 rfl rfl)
theorem dX6_trace_3 : decode cX6_trace 3 = .ok (.getfield 269, 3) := dk_180 1 13 (dk_at dksX6_trace_0 3 rfl rfl)
theorem dX6_trace_6 : decode cX6_trace 6 = .ok (.iconst 1, 1) := dk_4 (dk_at dksX6_trace_0 6 rfl rfl)
theorem dX6_trace_7 : decode cX6_trace 7 = .ok (.isub, 1) := dk_100 (dk_at dksX6_trace_0 7 rfl rfl)
theorem dX6_trace_8 : decode cX6_trace 8 = .ok (.invokestatic 77, 3) := dk_184 0 77 (dk_at dksX6_trace_0 8 rfl rfl)
theorem dX6_trace_11 : decode cX6_trace 11 = .ok (.ifCond .eq 12, 3) := dk_153 0 12 (dk_at dksX6_trace_0 11 rfl rfl)
theorem dX6_trace_14 : decode cX6_trace 14 = .ok (.aload_n 0, 1) := dk_42 (dk_at dksX6_trace_0 14 rfl rfl)
theorem dX6_trace_15 : decode cX6_trace 15 = .ok (.getfield 44, 3) := dk_180 0 44 (dk_at dksX6_trace_0 15 rfl rfl)
theorem dX6_trace_18 : decode cX6_trace 18 = .ok (.iload_n 1, 1) := dk_27 (dk_at dksX6_trace_0 18 rfl rfl)
theorem dX6_trace_19 : decode cX6_trace 19 = .ok (.iaload, 1) := dk_46 (dk_at dksX6_trace_0 19 rfl rfl)
theorem dX6_trace_20 : decode cX6_trace 20 = .ok (.goto 10, 3) := dk_167 0 10 (dk_at dksX6_trace_0 20 rfl rfl)
theorem dX6_trace_23 : decode cX6_trace 23 = .ok (.aload_n 0, 1) := dk_42 (dk_at dksX6_trace_0 23 rfl rfl)
theorem dX6_trace_24 : decode cX6_trace 24 = .ok (.ldc_w 256, 3) := dk_19 1 0 (dk_at dksX6_trace_1 0 rfl rfl)
theorem dX6_trace_27 : decode cX6_trace 27 = .ok (.invokevirtual 82, 3) := dk_182 0 82 (dk_at dksX6_trace_1 3 rfl rfl)
theorem dX6_trace_30 : decode cX6_trace 30 = .ok (.ireturn, 1) := dk_172 (dk_at dksX6_trace_1 6 rfl rfl)
abbrev cX6_sheet : ByteArray := prog_30_method_90_code
def yX6_sheet : MethodName := ⟨RX6, "sheet", "(III)I"⟩
def dkwX6_sheet_5 : List UInt8 := [167, 255, 233, 4, 172]
abbrev dktX6_sheet_5 : List UInt8 := dkwX6_sheet_5 ++ []
def dkwX6_sheet_4 : List UInt8 := [21, 4, 16, 40, 162, 0, 22, 42, 180, 0, 53, 16, 40, 27, 104, 21, 4, 96, 3, 79, 132, 4, 1]
abbrev dktX6_sheet_4 : List UInt8 := dkwX6_sheet_4 ++ dktX6_sheet_5
def dkwX6_sheet_3 : List UInt8 := [180, 0, 47, 27, 28, 79, 42, 180, 0, 50, 27, 28, 154, 0, 7, 3, 167, 0, 4, 29, 79, 3, 54, 4]
abbrev dktX6_sheet_3 : List UInt8 := dkwX6_sheet_3 ++ dktX6_sheet_4
def dkwX6_sheet_2 : List UInt8 := [182, 0, 82, 172, 28, 153, 0, 16, 29, 16, 40, 164, 0, 10, 42, 18, 81, 182, 0, 82, 172, 42]
abbrev dktX6_sheet_2 : List UInt8 := dkwX6_sheet_2 ++ dktX6_sheet_3
def dkwX6_sheet_1 : List UInt8 := [16, 32, 159, 0, 10, 42, 18, 81, 182, 0, 82, 172, 28, 153, 0, 14, 29, 156, 0, 10, 42, 18, 174]
abbrev dktX6_sheet_1 : List UInt8 := dkwX6_sheet_1 ++ dktX6_sheet_2
def dkwX6_sheet_0 : List UInt8 := [27, 184, 1, 7, 153, 0, 25, 28, 153, 0, 28, 28, 16, 8, 159, 0, 22, 28, 16, 16, 159, 0, 16, 28]
abbrev dktX6_sheet_0 : List UInt8 := dkwX6_sheet_0 ++ dktX6_sheet_1
theorem dksX6_sheet_0 : cX6_sheet.data.toList.drop 0 = dktX6_sheet_0 := by decide +kernel
theorem dksX6_sheet_1 : cX6_sheet.data.toList.drop 24 = dktX6_sheet_1 := dk_seg dksX6_sheet_0 24 rfl rfl
theorem dksX6_sheet_2 : cX6_sheet.data.toList.drop 47 = dktX6_sheet_2 := dk_seg dksX6_sheet_1 23 rfl rfl
theorem dksX6_sheet_3 : cX6_sheet.data.toList.drop 69 = dktX6_sheet_3 := dk_seg dksX6_sheet_2 22 rfl rfl
theorem dksX6_sheet_4 : cX6_sheet.data.toList.drop 93 = dktX6_sheet_4 := dk_seg dksX6_sheet_3 24 rfl rfl
theorem dksX6_sheet_5 : cX6_sheet.data.toList.drop 116 = dktX6_sheet_5 := dk_seg dksX6_sheet_4 23 rfl rfl
theorem dX6_sheet_0 : decode cX6_sheet 0 = .ok (.iload_n 1, 1) := dk_27 (dk_at dksX6_sheet_0 0 rfl rfl)
theorem dX6_sheet_1 : decode cX6_sheet 1 = .ok (.invokestatic 263, 3) := dk_184 1 7 (dk_at dksX6_sheet_0 1 rfl rfl)
theorem dX6_sheet_4 : decode cX6_sheet 4 = .ok (.ifCond .eq 25, 3) := dk_153 0 25 (dk_at dksX6_sheet_0 4 rfl rfl)
theorem dX6_sheet_7 : decode cX6_sheet 7 = .ok (.iload_n 2, 1) := dk_28 (dk_at dksX6_sheet_0 7 rfl rfl)
theorem dX6_sheet_8 : decode cX6_sheet 8 = .ok (.ifCond .eq 28, 3) := dk_153 0 28 (dk_at dksX6_sheet_0 8 rfl rfl)
theorem dX6_sheet_11 : decode cX6_sheet 11 = .ok (.iload_n 2, 1) := dk_28 (dk_at dksX6_sheet_0 11 rfl rfl)
theorem dX6_sheet_12 : decode cX6_sheet 12 = .ok (.bipush 8, 2) := dk_16 8 (dk_at dksX6_sheet_0 12 rfl rfl)
theorem dX6_sheet_14 : decode cX6_sheet 14 = .ok (.if_icmp .eq 22, 3) := dk_159 0 22 (dk_at dksX6_sheet_0 14 rfl rfl)
theorem dX6_sheet_17 : decode cX6_sheet 17 = .ok (.iload_n 2, 1) := dk_28 (dk_at dksX6_sheet_0 17 rfl rfl)
theorem dX6_sheet_18 : decode cX6_sheet 18 = .ok (.bipush 16, 2) := dk_16 16 (dk_at dksX6_sheet_0 18 rfl rfl)
theorem dX6_sheet_20 : decode cX6_sheet 20 = .ok (.if_icmp .eq 16, 3) := dk_159 0 16 (dk_at dksX6_sheet_0 20 rfl rfl)
theorem dX6_sheet_23 : decode cX6_sheet 23 = .ok (.iload_n 2, 1) := dk_28 (dk_at dksX6_sheet_0 23 rfl rfl)
theorem dX6_sheet_24 : decode cX6_sheet 24 = .ok (.bipush 32, 2) := dk_16 32 (dk_at dksX6_sheet_1 0 rfl rfl)
theorem dX6_sheet_26 : decode cX6_sheet 26 = .ok (.if_icmp .eq 10, 3) := dk_159 0 10 (dk_at dksX6_sheet_1 2 rfl rfl)
theorem dX6_sheet_29 : decode cX6_sheet 29 = .ok (.aload_n 0, 1) := dk_42 (dk_at dksX6_sheet_1 5 rfl rfl)
theorem dX6_sheet_30 : decode cX6_sheet 30 = .ok (.ldc 81, 2) := dk_18 81 (dk_at dksX6_sheet_1 6 rfl rfl)
theorem dX6_sheet_32 : decode cX6_sheet 32 = .ok (.invokevirtual 82, 3) := dk_182 0 82 (dk_at dksX6_sheet_1 8 rfl rfl)
theorem dX6_sheet_35 : decode cX6_sheet 35 = .ok (.ireturn, 1) := dk_172 (dk_at dksX6_sheet_1 11 rfl rfl)
theorem dX6_sheet_36 : decode cX6_sheet 36 = .ok (.iload_n 2, 1) := dk_28 (dk_at dksX6_sheet_1 12 rfl rfl)
theorem dX6_sheet_37 : decode cX6_sheet 37 = .ok (.ifCond .eq 14, 3) := dk_153 0 14 (dk_at dksX6_sheet_1 13 rfl rfl)
theorem dX6_sheet_40 : decode cX6_sheet 40 = .ok (.iload_n 3, 1) := dk_29 (dk_at dksX6_sheet_1 16 rfl rfl)
theorem dX6_sheet_41 : decode cX6_sheet 41 = .ok (.ifCond .ge 10, 3) := dk_156 0 10 (dk_at dksX6_sheet_1 17 rfl rfl)
theorem dX6_sheet_44 : decode cX6_sheet 44 = .ok (.aload_n 0, 1) := dk_42 (dk_at dksX6_sheet_1 20 rfl rfl)
theorem dX6_sheet_45 : decode cX6_sheet 45 = .ok (.ldc 174, 2) := dk_18 174 (dk_at dksX6_sheet_1 21 rfl rfl)
theorem dX6_sheet_47 : decode cX6_sheet 47 = .ok (.invokevirtual 82, 3) := dk_182 0 82 (dk_at dksX6_sheet_2 0 rfl rfl)
theorem dX6_sheet_50 : decode cX6_sheet 50 = .ok (.ireturn, 1) := dk_172 (dk_at dksX6_sheet_2 3 rfl rfl)
theorem dX6_sheet_51 : decode cX6_sheet 51 = .ok (.iload_n 2, 1) := dk_28 (dk_at dksX6_sheet_2 4 rfl rfl)
theorem dX6_sheet_52 : decode cX6_sheet 52 = .ok (.ifCond .eq 16, 3) := dk_153 0 16 (dk_at dksX6_sheet_2 5 rfl rfl)
theorem dX6_sheet_55 : decode cX6_sheet 55 = .ok (.iload_n 3, 1) := dk_29 (dk_at dksX6_sheet_2 8 rfl rfl)
theorem dX6_sheet_56 : decode cX6_sheet 56 = .ok (.bipush 40, 2) := dk_16 40 (dk_at dksX6_sheet_2 9 rfl rfl)
theorem dX6_sheet_58 : decode cX6_sheet 58 = .ok (.if_icmp .le 10, 3) := dk_164 0 10 (dk_at dksX6_sheet_2 11 rfl rfl)
theorem dX6_sheet_61 : decode cX6_sheet 61 = .ok (.aload_n 0, 1) := dk_42 (dk_at dksX6_sheet_2 14 rfl rfl)
theorem dX6_sheet_62 : decode cX6_sheet 62 = .ok (.ldc 81, 2) := dk_18 81 (dk_at dksX6_sheet_2 15 rfl rfl)
theorem dX6_sheet_64 : decode cX6_sheet 64 = .ok (.invokevirtual 82, 3) := dk_182 0 82 (dk_at dksX6_sheet_2 17 rfl rfl)
theorem dX6_sheet_67 : decode cX6_sheet 67 = .ok (.ireturn, 1) := dk_172 (dk_at dksX6_sheet_2 20 rfl rfl)
theorem dX6_sheet_68 : decode cX6_sheet 68 = .ok (.aload_n 0, 1) := dk_42 (dk_at dksX6_sheet_2 21 rfl rfl)
theorem dX6_sheet_69 : decode cX6_sheet 69 = .ok (.getfield 47, 3) := dk_180 0 47 (dk_at dksX6_sheet_3 0 rfl rfl)
theorem dX6_sheet_72 : decode cX6_sheet 72 = .ok (.iload_n 1, 1) := dk_27 (dk_at dksX6_sheet_3 3 rfl rfl)
theorem dX6_sheet_73 : decode cX6_sheet 73 = .ok (.iload_n 2, 1) := dk_28 (dk_at dksX6_sheet_3 4 rfl rfl)
theorem dX6_sheet_74 : decode cX6_sheet 74 = .ok (.iastore, 1) := dk_79 (dk_at dksX6_sheet_3 5 rfl rfl)
theorem dX6_sheet_75 : decode cX6_sheet 75 = .ok (.aload_n 0, 1) := dk_42 (dk_at dksX6_sheet_3 6 rfl rfl)
theorem dX6_sheet_76 : decode cX6_sheet 76 = .ok (.getfield 50, 3) := dk_180 0 50 (dk_at dksX6_sheet_3 7 rfl rfl)
theorem dX6_sheet_79 : decode cX6_sheet 79 = .ok (.iload_n 1, 1) := dk_27 (dk_at dksX6_sheet_3 10 rfl rfl)
theorem dX6_sheet_80 : decode cX6_sheet 80 = .ok (.iload_n 2, 1) := dk_28 (dk_at dksX6_sheet_3 11 rfl rfl)
theorem dX6_sheet_81 : decode cX6_sheet 81 = .ok (.ifCond .ne 7, 3) := dk_154 0 7 (dk_at dksX6_sheet_3 12 rfl rfl)
theorem dX6_sheet_84 : decode cX6_sheet 84 = .ok (.iconst 0, 1) := dk_3 (dk_at dksX6_sheet_3 15 rfl rfl)
theorem dX6_sheet_85 : decode cX6_sheet 85 = .ok (.goto 4, 3) := dk_167 0 4 (dk_at dksX6_sheet_3 16 rfl rfl)
theorem dX6_sheet_88 : decode cX6_sheet 88 = .ok (.iload_n 3, 1) := dk_29 (dk_at dksX6_sheet_3 19 rfl rfl)
theorem dX6_sheet_89 : decode cX6_sheet 89 = .ok (.iastore, 1) := dk_79 (dk_at dksX6_sheet_3 20 rfl rfl)
theorem dX6_sheet_90 : decode cX6_sheet 90 = .ok (.iconst 0, 1) := dk_3 (dk_at dksX6_sheet_3 21 rfl rfl)
theorem dX6_sheet_91 : decode cX6_sheet 91 = .ok (.istore 4, 2) := dk_54 4 (dk_at dksX6_sheet_3 22 rfl rfl)
theorem dX6_sheet_93 : decode cX6_sheet 93 = .ok (.iload 4, 2) := dk_21 4 (dk_at dksX6_sheet_4 0 rfl rfl)
theorem dX6_sheet_95 : decode cX6_sheet 95 = .ok (.bipush 40, 2) := dk_16 40 (dk_at dksX6_sheet_4 2 rfl rfl)
theorem dX6_sheet_97 : decode cX6_sheet 97 = .ok (.if_icmp .ge 22, 3) := dk_162 0 22 (dk_at dksX6_sheet_4 4 rfl rfl)
theorem dX6_sheet_100 : decode cX6_sheet 100 = .ok (.aload_n 0, 1) := dk_42 (dk_at dksX6_sheet_4 7 rfl rfl)
theorem dX6_sheet_101 : decode cX6_sheet 101 = .ok (.getfield 53, 3) := dk_180 0 53 (dk_at dksX6_sheet_4 8 rfl rfl)
theorem dX6_sheet_104 : decode cX6_sheet 104 = .ok (.bipush 40, 2) := dk_16 40 (dk_at dksX6_sheet_4 11 rfl rfl)
theorem dX6_sheet_106 : decode cX6_sheet 106 = .ok (.iload_n 1, 1) := dk_27 (dk_at dksX6_sheet_4 13 rfl rfl)
theorem dX6_sheet_107 : decode cX6_sheet 107 = .ok (.imul, 1) := dk_104 (dk_at dksX6_sheet_4 14 rfl rfl)
theorem dX6_sheet_108 : decode cX6_sheet 108 = .ok (.iload 4, 2) := dk_21 4 (dk_at dksX6_sheet_4 15 rfl rfl)
theorem dX6_sheet_110 : decode cX6_sheet 110 = .ok (.iadd, 1) := dk_96 (dk_at dksX6_sheet_4 17 rfl rfl)
theorem dX6_sheet_111 : decode cX6_sheet 111 = .ok (.iconst 0, 1) := dk_3 (dk_at dksX6_sheet_4 18 rfl rfl)
theorem dX6_sheet_112 : decode cX6_sheet 112 = .ok (.iastore, 1) := dk_79 (dk_at dksX6_sheet_4 19 rfl rfl)
theorem dX6_sheet_113 : decode cX6_sheet 113 = .ok (.iinc 4 1, 3) := dk_132 4 1 (dk_at dksX6_sheet_4 20 rfl rfl)
theorem dX6_sheet_116 : decode cX6_sheet 116 = .ok (.goto (-23), 3) := dk_167 255 233 (dk_at dksX6_sheet_5 0 rfl rfl)
theorem dX6_sheet_119 : decode cX6_sheet 119 = .ok (.iconst 1, 1) := dk_4 (dk_at dksX6_sheet_5 3 rfl rfl)
theorem dX6_sheet_120 : decode cX6_sheet 120 = .ok (.ireturn, 1) := dk_172 (dk_at dksX6_sheet_5 4 rfl rfl)
abbrev cX6_put : ByteArray := prog_30_method_91_code
def yX6_put : MethodName := ⟨RX6, "put", "(III)I"⟩
def dkwX6_put_4 : List UInt8 := [29, 79, 4, 172]
abbrev dktX6_put_4 : List UInt8 := dkwX6_put_4 ++ []
def dkwX6_put_3 : List UInt8 := [160, 0, 8, 29, 145, 167, 0, 20, 42, 180, 0, 47, 27, 46, 16, 16, 160, 0, 8, 29, 147, 167, 0, 4]
abbrev dktX6_put_3 : List UInt8 := dkwX6_put_3 ++ dktX6_put_4
def dkwX6_put_2 : List UInt8 := [18, 81, 182, 0, 82, 172, 42, 180, 0, 53, 16, 40, 27, 104, 28, 96, 42, 180, 0, 47, 27, 46, 16, 8]
abbrev dktX6_put_2 : List UInt8 := dkwX6_put_2 ++ dktX6_put_3
def dkwX6_put_1 : List UInt8 := [19, 1, 0, 182, 0, 82, 172, 28, 3, 42, 180, 0, 50, 27, 46, 4, 100, 184, 0, 77, 154, 0, 10, 42]
abbrev dktX6_put_1 : List UInt8 := dkwX6_put_1 ++ dktX6_put_2
def dkwX6_put_0 : List UInt8 := [27, 184, 1, 7, 154, 0, 10, 42, 18, 81, 182, 0, 82, 172, 42, 180, 0, 47, 27, 46, 154, 0, 11, 42]
abbrev dktX6_put_0 : List UInt8 := dkwX6_put_0 ++ dktX6_put_1
theorem dksX6_put_0 : cX6_put.data.toList.drop 0 = dktX6_put_0 := by decide +kernel
theorem dksX6_put_1 : cX6_put.data.toList.drop 24 = dktX6_put_1 := dk_seg dksX6_put_0 24 rfl rfl
theorem dksX6_put_2 : cX6_put.data.toList.drop 48 = dktX6_put_2 := dk_seg dksX6_put_1 24 rfl rfl
theorem dksX6_put_3 : cX6_put.data.toList.drop 72 = dktX6_put_3 := dk_seg dksX6_put_2 24 rfl rfl
theorem dksX6_put_4 : cX6_put.data.toList.drop 96 = dktX6_put_4 := dk_seg dksX6_put_3 24 rfl rfl
theorem dX6_put_0 : decode cX6_put 0 = .ok (.iload_n 1, 1) := dk_27 (dk_at dksX6_put_0 0 rfl rfl)
theorem dX6_put_1 : decode cX6_put 1 = .ok (.invokestatic 263, 3) := dk_184 1 7 (dk_at dksX6_put_0 1 rfl rfl)
theorem dX6_put_4 : decode cX6_put 4 = .ok (.ifCond .ne 10, 3) := dk_154 0 10 (dk_at dksX6_put_0 4 rfl rfl)
theorem dX6_put_7 : decode cX6_put 7 = .ok (.aload_n 0, 1) := dk_42 (dk_at dksX6_put_0 7 rfl rfl)
theorem dX6_put_8 : decode cX6_put 8 = .ok (.ldc 81, 2) := dk_18 81 (dk_at dksX6_put_0 8 rfl rfl)
theorem dX6_put_10 : decode cX6_put 10 = .ok (.invokevirtual 82, 3) := dk_182 0 82 (dk_at dksX6_put_0 10 rfl rfl)
theorem dX6_put_13 : decode cX6_put 13 = .ok (.ireturn, 1) := dk_172 (dk_at dksX6_put_0 13 rfl rfl)
theorem dX6_put_14 : decode cX6_put 14 = .ok (.aload_n 0, 1) := dk_42 (dk_at dksX6_put_0 14 rfl rfl)
theorem dX6_put_15 : decode cX6_put 15 = .ok (.getfield 47, 3) := dk_180 0 47 (dk_at dksX6_put_0 15 rfl rfl)
theorem dX6_put_18 : decode cX6_put 18 = .ok (.iload_n 1, 1) := dk_27 (dk_at dksX6_put_0 18 rfl rfl)
theorem dX6_put_19 : decode cX6_put 19 = .ok (.iaload, 1) := dk_46 (dk_at dksX6_put_0 19 rfl rfl)
theorem dX6_put_20 : decode cX6_put 20 = .ok (.ifCond .ne 11, 3) := dk_154 0 11 (dk_at dksX6_put_0 20 rfl rfl)
theorem dX6_put_23 : decode cX6_put 23 = .ok (.aload_n 0, 1) := dk_42 (dk_at dksX6_put_0 23 rfl rfl)
theorem dX6_put_24 : decode cX6_put 24 = .ok (.ldc_w 256, 3) := dk_19 1 0 (dk_at dksX6_put_1 0 rfl rfl)
theorem dX6_put_27 : decode cX6_put 27 = .ok (.invokevirtual 82, 3) := dk_182 0 82 (dk_at dksX6_put_1 3 rfl rfl)
theorem dX6_put_30 : decode cX6_put 30 = .ok (.ireturn, 1) := dk_172 (dk_at dksX6_put_1 6 rfl rfl)
theorem dX6_put_31 : decode cX6_put 31 = .ok (.iload_n 2, 1) := dk_28 (dk_at dksX6_put_1 7 rfl rfl)
theorem dX6_put_32 : decode cX6_put 32 = .ok (.iconst 0, 1) := dk_3 (dk_at dksX6_put_1 8 rfl rfl)
theorem dX6_put_33 : decode cX6_put 33 = .ok (.aload_n 0, 1) := dk_42 (dk_at dksX6_put_1 9 rfl rfl)
theorem dX6_put_34 : decode cX6_put 34 = .ok (.getfield 50, 3) := dk_180 0 50 (dk_at dksX6_put_1 10 rfl rfl)
theorem dX6_put_37 : decode cX6_put 37 = .ok (.iload_n 1, 1) := dk_27 (dk_at dksX6_put_1 13 rfl rfl)
theorem dX6_put_38 : decode cX6_put 38 = .ok (.iaload, 1) := dk_46 (dk_at dksX6_put_1 14 rfl rfl)
theorem dX6_put_39 : decode cX6_put 39 = .ok (.iconst 1, 1) := dk_4 (dk_at dksX6_put_1 15 rfl rfl)
theorem dX6_put_40 : decode cX6_put 40 = .ok (.isub, 1) := dk_100 (dk_at dksX6_put_1 16 rfl rfl)
theorem dX6_put_41 : decode cX6_put 41 = .ok (.invokestatic 77, 3) := dk_184 0 77 (dk_at dksX6_put_1 17 rfl rfl)
theorem dX6_put_44 : decode cX6_put 44 = .ok (.ifCond .ne 10, 3) := dk_154 0 10 (dk_at dksX6_put_1 20 rfl rfl)
theorem dX6_put_47 : decode cX6_put 47 = .ok (.aload_n 0, 1) := dk_42 (dk_at dksX6_put_1 23 rfl rfl)
theorem dX6_put_48 : decode cX6_put 48 = .ok (.ldc 81, 2) := dk_18 81 (dk_at dksX6_put_2 0 rfl rfl)
theorem dX6_put_50 : decode cX6_put 50 = .ok (.invokevirtual 82, 3) := dk_182 0 82 (dk_at dksX6_put_2 2 rfl rfl)
theorem dX6_put_53 : decode cX6_put 53 = .ok (.ireturn, 1) := dk_172 (dk_at dksX6_put_2 5 rfl rfl)
theorem dX6_put_54 : decode cX6_put 54 = .ok (.aload_n 0, 1) := dk_42 (dk_at dksX6_put_2 6 rfl rfl)
theorem dX6_put_55 : decode cX6_put 55 = .ok (.getfield 53, 3) := dk_180 0 53 (dk_at dksX6_put_2 7 rfl rfl)
theorem dX6_put_58 : decode cX6_put 58 = .ok (.bipush 40, 2) := dk_16 40 (dk_at dksX6_put_2 10 rfl rfl)
theorem dX6_put_60 : decode cX6_put 60 = .ok (.iload_n 1, 1) := dk_27 (dk_at dksX6_put_2 12 rfl rfl)
theorem dX6_put_61 : decode cX6_put 61 = .ok (.imul, 1) := dk_104 (dk_at dksX6_put_2 13 rfl rfl)
theorem dX6_put_62 : decode cX6_put 62 = .ok (.iload_n 2, 1) := dk_28 (dk_at dksX6_put_2 14 rfl rfl)
theorem dX6_put_63 : decode cX6_put 63 = .ok (.iadd, 1) := dk_96 (dk_at dksX6_put_2 15 rfl rfl)
theorem dX6_put_64 : decode cX6_put 64 = .ok (.aload_n 0, 1) := dk_42 (dk_at dksX6_put_2 16 rfl rfl)
theorem dX6_put_65 : decode cX6_put 65 = .ok (.getfield 47, 3) := dk_180 0 47 (dk_at dksX6_put_2 17 rfl rfl)
theorem dX6_put_68 : decode cX6_put 68 = .ok (.iload_n 1, 1) := dk_27 (dk_at dksX6_put_2 20 rfl rfl)
theorem dX6_put_69 : decode cX6_put 69 = .ok (.iaload, 1) := dk_46 (dk_at dksX6_put_2 21 rfl rfl)
theorem dX6_put_70 : decode cX6_put 70 = .ok (.bipush 8, 2) := dk_16 8 (dk_at dksX6_put_2 22 rfl rfl)
theorem dX6_put_72 : decode cX6_put 72 = .ok (.if_icmp .ne 8, 3) := dk_160 0 8 (dk_at dksX6_put_3 0 rfl rfl)
theorem dX6_put_75 : decode cX6_put 75 = .ok (.iload_n 3, 1) := dk_29 (dk_at dksX6_put_3 3 rfl rfl)
theorem dX6_put_76 : decode cX6_put 76 = .ok (.i2b, 1) := dk_145 (dk_at dksX6_put_3 4 rfl rfl)
theorem dX6_put_77 : decode cX6_put 77 = .ok (.goto 20, 3) := dk_167 0 20 (dk_at dksX6_put_3 5 rfl rfl)
theorem dX6_put_80 : decode cX6_put 80 = .ok (.aload_n 0, 1) := dk_42 (dk_at dksX6_put_3 8 rfl rfl)
theorem dX6_put_81 : decode cX6_put 81 = .ok (.getfield 47, 3) := dk_180 0 47 (dk_at dksX6_put_3 9 rfl rfl)
theorem dX6_put_84 : decode cX6_put 84 = .ok (.iload_n 1, 1) := dk_27 (dk_at dksX6_put_3 12 rfl rfl)
theorem dX6_put_85 : decode cX6_put 85 = .ok (.iaload, 1) := dk_46 (dk_at dksX6_put_3 13 rfl rfl)
theorem dX6_put_86 : decode cX6_put 86 = .ok (.bipush 16, 2) := dk_16 16 (dk_at dksX6_put_3 14 rfl rfl)
theorem dX6_put_88 : decode cX6_put 88 = .ok (.if_icmp .ne 8, 3) := dk_160 0 8 (dk_at dksX6_put_3 16 rfl rfl)
theorem dX6_put_91 : decode cX6_put 91 = .ok (.iload_n 3, 1) := dk_29 (dk_at dksX6_put_3 19 rfl rfl)
theorem dX6_put_92 : decode cX6_put 92 = .ok (.i2s, 1) := dk_147 (dk_at dksX6_put_3 20 rfl rfl)
theorem dX6_put_93 : decode cX6_put 93 = .ok (.goto 4, 3) := dk_167 0 4 (dk_at dksX6_put_3 21 rfl rfl)
theorem dX6_put_96 : decode cX6_put 96 = .ok (.iload_n 3, 1) := dk_29 (dk_at dksX6_put_4 0 rfl rfl)
theorem dX6_put_97 : decode cX6_put 97 = .ok (.iastore, 1) := dk_79 (dk_at dksX6_put_4 1 rfl rfl)
theorem dX6_put_98 : decode cX6_put 98 = .ok (.iconst 1, 1) := dk_4 (dk_at dksX6_put_4 2 rfl rfl)
theorem dX6_put_99 : decode cX6_put 99 = .ok (.ireturn, 1) := dk_172 (dk_at dksX6_put_4 3 rfl rfl)
abbrev cX6_move : ByteArray := prog_30_method_92_code
def yX6_move : MethodName := ⟨RX6, "move", "(IIIII)I"⟩
def dkwX6_move_8 : List UInt8 := [180, 0, 56, 21, 6, 46, 79, 132, 6, 1, 167, 255, 224, 21, 5, 172]
abbrev dktX6_move_8 : List UInt8 := dkwX6_move_8 ++ []
def dkwX6_move_7 : List UInt8 := [54, 6, 21, 6, 21, 5, 162, 0, 31, 42, 180, 0, 53, 16, 40, 29, 104, 21, 4, 96, 21, 6, 96, 42]
abbrev dktX6_move_7 : List UInt8 := dkwX6_move_7 ++ dktX6_move_8
def dkwX6_move_6 : List UInt8 := [21, 6, 42, 180, 0, 53, 16, 40, 27, 104, 28, 96, 21, 6, 96, 46, 79, 132, 6, 1, 167, 255, 225, 3]
abbrev dktX6_move_6 : List UInt8 := dkwX6_move_6 ++ dktX6_move_7
def dkwX6_move_5 : List UInt8 := [158, 0, 10, 42, 18, 81, 182, 0, 82, 172, 3, 54, 6, 21, 6, 21, 5, 162, 0, 30, 42, 180, 0, 56]
abbrev dktX6_move_5 : List UInt8 := dkwX6_move_5 ++ dktX6_move_6
def dkwX6_move_4 : List UInt8 := [27, 46, 133, 148, 157, 0, 21, 21, 4, 133, 21, 5, 133, 97, 42, 180, 0, 50, 29, 46, 133, 148]
abbrev dktX6_move_4 : List UInt8 := dkwX6_move_4 ++ dktX6_move_5
def dkwX6_move_3 : List UInt8 := [21, 5, 155, 0, 47, 28, 155, 0, 43, 21, 4, 155, 0, 38, 28, 133, 21, 5, 133, 97, 42, 180, 0, 50]
abbrev dktX6_move_3 : List UInt8 := dkwX6_move_3 ++ dktX6_move_4
def dkwX6_move_2 : List UInt8 := [172, 42, 180, 0, 47, 27, 46, 42, 180, 0, 47, 29, 46, 159, 0, 10, 42, 18, 227, 182, 0, 82, 172]
abbrev dktX6_move_2 : List UInt8 := dkwX6_move_2 ++ dktX6_move_3
def dkwX6_move_1 : List UInt8 := [180, 0, 47, 27, 46, 153, 0, 12, 42, 180, 0, 47, 29, 46, 154, 0, 11, 42, 19, 1, 0, 182, 0, 82]
abbrev dktX6_move_1 : List UInt8 := dkwX6_move_1 ++ dktX6_move_2
def dkwX6_move_0 : List UInt8 := [27, 184, 1, 7, 153, 0, 10, 29, 184, 1, 7, 154, 0, 10, 42, 18, 81, 182, 0, 82, 172, 42]
abbrev dktX6_move_0 : List UInt8 := dkwX6_move_0 ++ dktX6_move_1
theorem dksX6_move_0 : cX6_move.data.toList.drop 0 = dktX6_move_0 := by decide +kernel
theorem dksX6_move_1 : cX6_move.data.toList.drop 22 = dktX6_move_1 := dk_seg dksX6_move_0 22 rfl rfl
theorem dksX6_move_2 : cX6_move.data.toList.drop 46 = dktX6_move_2 := dk_seg dksX6_move_1 24 rfl rfl
theorem dksX6_move_3 : cX6_move.data.toList.drop 69 = dktX6_move_3 := dk_seg dksX6_move_2 23 rfl rfl
theorem dksX6_move_4 : cX6_move.data.toList.drop 93 = dktX6_move_4 := dk_seg dksX6_move_3 24 rfl rfl
theorem dksX6_move_5 : cX6_move.data.toList.drop 115 = dktX6_move_5 := dk_seg dksX6_move_4 22 rfl rfl
theorem dksX6_move_6 : cX6_move.data.toList.drop 139 = dktX6_move_6 := dk_seg dksX6_move_5 24 rfl rfl
theorem dksX6_move_7 : cX6_move.data.toList.drop 163 = dktX6_move_7 := dk_seg dksX6_move_6 24 rfl rfl
theorem dksX6_move_8 : cX6_move.data.toList.drop 187 = dktX6_move_8 := dk_seg dksX6_move_7 24 rfl rfl
theorem dX6_move_0 : decode cX6_move 0 = .ok (.iload_n 1, 1) := dk_27 (dk_at dksX6_move_0 0 rfl rfl)
theorem dX6_move_1 : decode cX6_move 1 = .ok (.invokestatic 263, 3) := dk_184 1 7 (dk_at dksX6_move_0 1 rfl rfl)
theorem dX6_move_4 : decode cX6_move 4 = .ok (.ifCond .eq 10, 3) := dk_153 0 10 (dk_at dksX6_move_0 4 rfl rfl)
theorem dX6_move_7 : decode cX6_move 7 = .ok (.iload_n 3, 1) := dk_29 (dk_at dksX6_move_0 7 rfl rfl)
theorem dX6_move_8 : decode cX6_move 8 = .ok (.invokestatic 263, 3) := dk_184 1 7 (dk_at dksX6_move_0 8 rfl rfl)
theorem dX6_move_11 : decode cX6_move 11 = .ok (.ifCond .ne 10, 3) := dk_154 0 10 (dk_at dksX6_move_0 11 rfl rfl)
theorem dX6_move_14 : decode cX6_move 14 = .ok (.aload_n 0, 1) := dk_42 (dk_at dksX6_move_0 14 rfl rfl)
theorem dX6_move_15 : decode cX6_move 15 = .ok (.ldc 81, 2) := dk_18 81 (dk_at dksX6_move_0 15 rfl rfl)
theorem dX6_move_17 : decode cX6_move 17 = .ok (.invokevirtual 82, 3) := dk_182 0 82 (dk_at dksX6_move_0 17 rfl rfl)
theorem dX6_move_20 : decode cX6_move 20 = .ok (.ireturn, 1) := dk_172 (dk_at dksX6_move_0 20 rfl rfl)
theorem dX6_move_21 : decode cX6_move 21 = .ok (.aload_n 0, 1) := dk_42 (dk_at dksX6_move_0 21 rfl rfl)
theorem dX6_move_22 : decode cX6_move 22 = .ok (.getfield 47, 3) := dk_180 0 47 (dk_at dksX6_move_1 0 rfl rfl)
theorem dX6_move_25 : decode cX6_move 25 = .ok (.iload_n 1, 1) := dk_27 (dk_at dksX6_move_1 3 rfl rfl)
theorem dX6_move_26 : decode cX6_move 26 = .ok (.iaload, 1) := dk_46 (dk_at dksX6_move_1 4 rfl rfl)
theorem dX6_move_27 : decode cX6_move 27 = .ok (.ifCond .eq 12, 3) := dk_153 0 12 (dk_at dksX6_move_1 5 rfl rfl)
theorem dX6_move_30 : decode cX6_move 30 = .ok (.aload_n 0, 1) := dk_42 (dk_at dksX6_move_1 8 rfl rfl)
theorem dX6_move_31 : decode cX6_move 31 = .ok (.getfield 47, 3) := dk_180 0 47 (dk_at dksX6_move_1 9 rfl rfl)
theorem dX6_move_34 : decode cX6_move 34 = .ok (.iload_n 3, 1) := dk_29 (dk_at dksX6_move_1 12 rfl rfl)
theorem dX6_move_35 : decode cX6_move 35 = .ok (.iaload, 1) := dk_46 (dk_at dksX6_move_1 13 rfl rfl)
theorem dX6_move_36 : decode cX6_move 36 = .ok (.ifCond .ne 11, 3) := dk_154 0 11 (dk_at dksX6_move_1 14 rfl rfl)
theorem dX6_move_39 : decode cX6_move 39 = .ok (.aload_n 0, 1) := dk_42 (dk_at dksX6_move_1 17 rfl rfl)
theorem dX6_move_40 : decode cX6_move 40 = .ok (.ldc_w 256, 3) := dk_19 1 0 (dk_at dksX6_move_1 18 rfl rfl)
theorem dX6_move_43 : decode cX6_move 43 = .ok (.invokevirtual 82, 3) := dk_182 0 82 (dk_at dksX6_move_1 21 rfl rfl)
theorem dX6_move_46 : decode cX6_move 46 = .ok (.ireturn, 1) := dk_172 (dk_at dksX6_move_2 0 rfl rfl)
theorem dX6_move_47 : decode cX6_move 47 = .ok (.aload_n 0, 1) := dk_42 (dk_at dksX6_move_2 1 rfl rfl)
theorem dX6_move_48 : decode cX6_move 48 = .ok (.getfield 47, 3) := dk_180 0 47 (dk_at dksX6_move_2 2 rfl rfl)
theorem dX6_move_51 : decode cX6_move 51 = .ok (.iload_n 1, 1) := dk_27 (dk_at dksX6_move_2 5 rfl rfl)
theorem dX6_move_52 : decode cX6_move 52 = .ok (.iaload, 1) := dk_46 (dk_at dksX6_move_2 6 rfl rfl)
theorem dX6_move_53 : decode cX6_move 53 = .ok (.aload_n 0, 1) := dk_42 (dk_at dksX6_move_2 7 rfl rfl)
theorem dX6_move_54 : decode cX6_move 54 = .ok (.getfield 47, 3) := dk_180 0 47 (dk_at dksX6_move_2 8 rfl rfl)
theorem dX6_move_57 : decode cX6_move 57 = .ok (.iload_n 3, 1) := dk_29 (dk_at dksX6_move_2 11 rfl rfl)
theorem dX6_move_58 : decode cX6_move 58 = .ok (.iaload, 1) := dk_46 (dk_at dksX6_move_2 12 rfl rfl)
theorem dX6_move_59 : decode cX6_move 59 = .ok (.if_icmp .eq 10, 3) := dk_159 0 10 (dk_at dksX6_move_2 13 rfl rfl)
theorem dX6_move_62 : decode cX6_move 62 = .ok (.aload_n 0, 1) := dk_42 (dk_at dksX6_move_2 16 rfl rfl)
theorem dX6_move_63 : decode cX6_move 63 = .ok (.ldc 227, 2) := dk_18 227 (dk_at dksX6_move_2 17 rfl rfl)
theorem dX6_move_65 : decode cX6_move 65 = .ok (.invokevirtual 82, 3) := dk_182 0 82 (dk_at dksX6_move_2 19 rfl rfl)
theorem dX6_move_68 : decode cX6_move 68 = .ok (.ireturn, 1) := dk_172 (dk_at dksX6_move_2 22 rfl rfl)
theorem dX6_move_69 : decode cX6_move 69 = .ok (.iload 5, 2) := dk_21 5 (dk_at dksX6_move_3 0 rfl rfl)
theorem dX6_move_71 : decode cX6_move 71 = .ok (.ifCond .lt 47, 3) := dk_155 0 47 (dk_at dksX6_move_3 2 rfl rfl)
theorem dX6_move_74 : decode cX6_move 74 = .ok (.iload_n 2, 1) := dk_28 (dk_at dksX6_move_3 5 rfl rfl)
theorem dX6_move_75 : decode cX6_move 75 = .ok (.ifCond .lt 43, 3) := dk_155 0 43 (dk_at dksX6_move_3 6 rfl rfl)
theorem dX6_move_78 : decode cX6_move 78 = .ok (.iload 4, 2) := dk_21 4 (dk_at dksX6_move_3 9 rfl rfl)
theorem dX6_move_80 : decode cX6_move 80 = .ok (.ifCond .lt 38, 3) := dk_155 0 38 (dk_at dksX6_move_3 11 rfl rfl)
theorem dX6_move_83 : decode cX6_move 83 = .ok (.iload_n 2, 1) := dk_28 (dk_at dksX6_move_3 14 rfl rfl)
theorem dX6_move_84 : decode cX6_move 84 = .ok (.i2l, 1) := dk_133 (dk_at dksX6_move_3 15 rfl rfl)
theorem dX6_move_85 : decode cX6_move 85 = .ok (.iload 5, 2) := dk_21 5 (dk_at dksX6_move_3 16 rfl rfl)
theorem dX6_move_87 : decode cX6_move 87 = .ok (.i2l, 1) := dk_133 (dk_at dksX6_move_3 18 rfl rfl)
theorem dX6_move_88 : decode cX6_move 88 = .ok (.ladd, 1) := dk_97 (dk_at dksX6_move_3 19 rfl rfl)
theorem dX6_move_89 : decode cX6_move 89 = .ok (.aload_n 0, 1) := dk_42 (dk_at dksX6_move_3 20 rfl rfl)
theorem dX6_move_90 : decode cX6_move 90 = .ok (.getfield 50, 3) := dk_180 0 50 (dk_at dksX6_move_3 21 rfl rfl)
theorem dX6_move_93 : decode cX6_move 93 = .ok (.iload_n 1, 1) := dk_27 (dk_at dksX6_move_4 0 rfl rfl)
theorem dX6_move_94 : decode cX6_move 94 = .ok (.iaload, 1) := dk_46 (dk_at dksX6_move_4 1 rfl rfl)
theorem dX6_move_95 : decode cX6_move 95 = .ok (.i2l, 1) := dk_133 (dk_at dksX6_move_4 2 rfl rfl)
theorem dX6_move_96 : decode cX6_move 96 = .ok (.lcmp, 1) := dk_148 (dk_at dksX6_move_4 3 rfl rfl)
theorem dX6_move_97 : decode cX6_move 97 = .ok (.ifCond .gt 21, 3) := dk_157 0 21 (dk_at dksX6_move_4 4 rfl rfl)
theorem dX6_move_100 : decode cX6_move 100 = .ok (.iload 4, 2) := dk_21 4 (dk_at dksX6_move_4 7 rfl rfl)
theorem dX6_move_102 : decode cX6_move 102 = .ok (.i2l, 1) := dk_133 (dk_at dksX6_move_4 9 rfl rfl)
theorem dX6_move_103 : decode cX6_move 103 = .ok (.iload 5, 2) := dk_21 5 (dk_at dksX6_move_4 10 rfl rfl)
theorem dX6_move_105 : decode cX6_move 105 = .ok (.i2l, 1) := dk_133 (dk_at dksX6_move_4 12 rfl rfl)
theorem dX6_move_106 : decode cX6_move 106 = .ok (.ladd, 1) := dk_97 (dk_at dksX6_move_4 13 rfl rfl)
theorem dX6_move_107 : decode cX6_move 107 = .ok (.aload_n 0, 1) := dk_42 (dk_at dksX6_move_4 14 rfl rfl)
theorem dX6_move_108 : decode cX6_move 108 = .ok (.getfield 50, 3) := dk_180 0 50 (dk_at dksX6_move_4 15 rfl rfl)
theorem dX6_move_111 : decode cX6_move 111 = .ok (.iload_n 3, 1) := dk_29 (dk_at dksX6_move_4 18 rfl rfl)
theorem dX6_move_112 : decode cX6_move 112 = .ok (.iaload, 1) := dk_46 (dk_at dksX6_move_4 19 rfl rfl)
theorem dX6_move_113 : decode cX6_move 113 = .ok (.i2l, 1) := dk_133 (dk_at dksX6_move_4 20 rfl rfl)
theorem dX6_move_114 : decode cX6_move 114 = .ok (.lcmp, 1) := dk_148 (dk_at dksX6_move_4 21 rfl rfl)
theorem dX6_move_115 : decode cX6_move 115 = .ok (.ifCond .le 10, 3) := dk_158 0 10 (dk_at dksX6_move_5 0 rfl rfl)
theorem dX6_move_118 : decode cX6_move 118 = .ok (.aload_n 0, 1) := dk_42 (dk_at dksX6_move_5 3 rfl rfl)
theorem dX6_move_119 : decode cX6_move 119 = .ok (.ldc 81, 2) := dk_18 81 (dk_at dksX6_move_5 4 rfl rfl)
theorem dX6_move_121 : decode cX6_move 121 = .ok (.invokevirtual 82, 3) := dk_182 0 82 (dk_at dksX6_move_5 6 rfl rfl)
theorem dX6_move_124 : decode cX6_move 124 = .ok (.ireturn, 1) := dk_172 (dk_at dksX6_move_5 9 rfl rfl)
theorem dX6_move_125 : decode cX6_move 125 = .ok (.iconst 0, 1) := dk_3 (dk_at dksX6_move_5 10 rfl rfl)
theorem dX6_move_126 : decode cX6_move 126 = .ok (.istore 6, 2) := dk_54 6 (dk_at dksX6_move_5 11 rfl rfl)
theorem dX6_move_128 : decode cX6_move 128 = .ok (.iload 6, 2) := dk_21 6 (dk_at dksX6_move_5 13 rfl rfl)
theorem dX6_move_130 : decode cX6_move 130 = .ok (.iload 5, 2) := dk_21 5 (dk_at dksX6_move_5 15 rfl rfl)
theorem dX6_move_132 : decode cX6_move 132 = .ok (.if_icmp .ge 30, 3) := dk_162 0 30 (dk_at dksX6_move_5 17 rfl rfl)
theorem dX6_move_135 : decode cX6_move 135 = .ok (.aload_n 0, 1) := dk_42 (dk_at dksX6_move_5 20 rfl rfl)
theorem dX6_move_136 : decode cX6_move 136 = .ok (.getfield 56, 3) := dk_180 0 56 (dk_at dksX6_move_5 21 rfl rfl)
theorem dX6_move_139 : decode cX6_move 139 = .ok (.iload 6, 2) := dk_21 6 (dk_at dksX6_move_6 0 rfl rfl)
theorem dX6_move_141 : decode cX6_move 141 = .ok (.aload_n 0, 1) := dk_42 (dk_at dksX6_move_6 2 rfl rfl)
theorem dX6_move_142 : decode cX6_move 142 = .ok (.getfield 53, 3) := dk_180 0 53 (dk_at dksX6_move_6 3 rfl rfl)
theorem dX6_move_145 : decode cX6_move 145 = .ok (.bipush 40, 2) := dk_16 40 (dk_at dksX6_move_6 6 rfl rfl)
theorem dX6_move_147 : decode cX6_move 147 = .ok (.iload_n 1, 1) := dk_27 (dk_at dksX6_move_6 8 rfl rfl)
theorem dX6_move_148 : decode cX6_move 148 = .ok (.imul, 1) := dk_104 (dk_at dksX6_move_6 9 rfl rfl)
theorem dX6_move_149 : decode cX6_move 149 = .ok (.iload_n 2, 1) := dk_28 (dk_at dksX6_move_6 10 rfl rfl)
theorem dX6_move_150 : decode cX6_move 150 = .ok (.iadd, 1) := dk_96 (dk_at dksX6_move_6 11 rfl rfl)
theorem dX6_move_151 : decode cX6_move 151 = .ok (.iload 6, 2) := dk_21 6 (dk_at dksX6_move_6 12 rfl rfl)
theorem dX6_move_153 : decode cX6_move 153 = .ok (.iadd, 1) := dk_96 (dk_at dksX6_move_6 14 rfl rfl)
theorem dX6_move_154 : decode cX6_move 154 = .ok (.iaload, 1) := dk_46 (dk_at dksX6_move_6 15 rfl rfl)
theorem dX6_move_155 : decode cX6_move 155 = .ok (.iastore, 1) := dk_79 (dk_at dksX6_move_6 16 rfl rfl)
theorem dX6_move_156 : decode cX6_move 156 = .ok (.iinc 6 1, 3) := dk_132 6 1 (dk_at dksX6_move_6 17 rfl rfl)
theorem dX6_move_159 : decode cX6_move 159 = .ok (.goto (-31), 3) := dk_167 255 225 (dk_at dksX6_move_6 20 rfl rfl)
theorem dX6_move_162 : decode cX6_move 162 = .ok (.iconst 0, 1) := dk_3 (dk_at dksX6_move_6 23 rfl rfl)
theorem dX6_move_163 : decode cX6_move 163 = .ok (.istore 6, 2) := dk_54 6 (dk_at dksX6_move_7 0 rfl rfl)
theorem dX6_move_165 : decode cX6_move 165 = .ok (.iload 6, 2) := dk_21 6 (dk_at dksX6_move_7 2 rfl rfl)
theorem dX6_move_167 : decode cX6_move 167 = .ok (.iload 5, 2) := dk_21 5 (dk_at dksX6_move_7 4 rfl rfl)
theorem dX6_move_169 : decode cX6_move 169 = .ok (.if_icmp .ge 31, 3) := dk_162 0 31 (dk_at dksX6_move_7 6 rfl rfl)
theorem dX6_move_172 : decode cX6_move 172 = .ok (.aload_n 0, 1) := dk_42 (dk_at dksX6_move_7 9 rfl rfl)
theorem dX6_move_173 : decode cX6_move 173 = .ok (.getfield 53, 3) := dk_180 0 53 (dk_at dksX6_move_7 10 rfl rfl)
theorem dX6_move_176 : decode cX6_move 176 = .ok (.bipush 40, 2) := dk_16 40 (dk_at dksX6_move_7 13 rfl rfl)
theorem dX6_move_178 : decode cX6_move 178 = .ok (.iload_n 3, 1) := dk_29 (dk_at dksX6_move_7 15 rfl rfl)
theorem dX6_move_179 : decode cX6_move 179 = .ok (.imul, 1) := dk_104 (dk_at dksX6_move_7 16 rfl rfl)
theorem dX6_move_180 : decode cX6_move 180 = .ok (.iload 4, 2) := dk_21 4 (dk_at dksX6_move_7 17 rfl rfl)
theorem dX6_move_182 : decode cX6_move 182 = .ok (.iadd, 1) := dk_96 (dk_at dksX6_move_7 19 rfl rfl)
theorem dX6_move_183 : decode cX6_move 183 = .ok (.iload 6, 2) := dk_21 6 (dk_at dksX6_move_7 20 rfl rfl)
theorem dX6_move_185 : decode cX6_move 185 = .ok (.iadd, 1) := dk_96 (dk_at dksX6_move_7 22 rfl rfl)
theorem dX6_move_186 : decode cX6_move 186 = .ok (.aload_n 0, 1) := dk_42 (dk_at dksX6_move_7 23 rfl rfl)
theorem dX6_move_187 : decode cX6_move 187 = .ok (.getfield 56, 3) := dk_180 0 56 (dk_at dksX6_move_8 0 rfl rfl)
theorem dX6_move_190 : decode cX6_move 190 = .ok (.iload 6, 2) := dk_21 6 (dk_at dksX6_move_8 3 rfl rfl)
theorem dX6_move_192 : decode cX6_move 192 = .ok (.iaload, 1) := dk_46 (dk_at dksX6_move_8 5 rfl rfl)
theorem dX6_move_193 : decode cX6_move 193 = .ok (.iastore, 1) := dk_79 (dk_at dksX6_move_8 6 rfl rfl)
theorem dX6_move_194 : decode cX6_move 194 = .ok (.iinc 6 1, 3) := dk_132 6 1 (dk_at dksX6_move_8 7 rfl rfl)
theorem dX6_move_197 : decode cX6_move 197 = .ok (.goto (-32), 3) := dk_167 255 224 (dk_at dksX6_move_8 10 rfl rfl)
theorem dX6_move_200 : decode cX6_move 200 = .ok (.iload 5, 2) := dk_21 5 (dk_at dksX6_move_8 13 rfl rfl)
theorem dX6_move_202 : decode cX6_move 202 = .ok (.ireturn, 1) := dk_172 (dk_at dksX6_move_8 15 rfl rfl)
abbrev cX6_beds : ByteArray := prog_30_method_93_code
def yX6_beds : MethodName := ⟨RX6, "beds", "(I)I"⟩
def dkwX6_beds_4 : List UInt8 := [182, 0, 145, 28, 172]
abbrev dktX6_beds_4 : List UInt8 := dkwX6_beds_4 ++ []
def dkwX6_beds_3 : List UInt8 := [28, 3, 184, 0, 165, 42, 180, 0, 53, 16, 40, 27, 104, 28, 96, 46, 79, 132, 2, 1, 167, 255, 197, 42]
abbrev dktX6_beds_3 : List UInt8 := dkwX6_beds_3 ++ dktX6_beds_4
def dkwX6_beds_2 : List UInt8 := [153, 0, 47, 42, 180, 0, 53, 16, 40, 27, 104, 28, 96, 46, 184, 0, 209, 153, 0, 30, 42, 180, 0, 9]
abbrev dktX6_beds_2 : List UInt8 := dkwX6_beds_2 ++ dktX6_beds_3
def dkwX6_beds_1 : List UInt8 := [19, 1, 0, 182, 0, 82, 172, 3, 61, 28, 42, 180, 0, 50, 27, 46, 162, 0, 55, 42, 28, 182, 0, 175]
abbrev dktX6_beds_1 : List UInt8 := dkwX6_beds_1 ++ dktX6_beds_2
def dkwX6_beds_0 : List UInt8 := [27, 184, 1, 7, 154, 0, 10, 42, 18, 81, 182, 0, 82, 172, 42, 180, 0, 47, 27, 46, 154, 0, 11, 42]
abbrev dktX6_beds_0 : List UInt8 := dkwX6_beds_0 ++ dktX6_beds_1
theorem dksX6_beds_0 : cX6_beds.data.toList.drop 0 = dktX6_beds_0 := by decide +kernel
theorem dksX6_beds_1 : cX6_beds.data.toList.drop 24 = dktX6_beds_1 := dk_seg dksX6_beds_0 24 rfl rfl
theorem dksX6_beds_2 : cX6_beds.data.toList.drop 48 = dktX6_beds_2 := dk_seg dksX6_beds_1 24 rfl rfl
theorem dksX6_beds_3 : cX6_beds.data.toList.drop 72 = dktX6_beds_3 := dk_seg dksX6_beds_2 24 rfl rfl
theorem dksX6_beds_4 : cX6_beds.data.toList.drop 96 = dktX6_beds_4 := dk_seg dksX6_beds_3 24 rfl rfl
theorem dX6_beds_0 : decode cX6_beds 0 = .ok (.iload_n 1, 1) := dk_27 (dk_at dksX6_beds_0 0 rfl rfl)
theorem dX6_beds_1 : decode cX6_beds 1 = .ok (.invokestatic 263, 3) := dk_184 1 7 (dk_at dksX6_beds_0 1 rfl rfl)
theorem dX6_beds_4 : decode cX6_beds 4 = .ok (.ifCond .ne 10, 3) := dk_154 0 10 (dk_at dksX6_beds_0 4 rfl rfl)
theorem dX6_beds_7 : decode cX6_beds 7 = .ok (.aload_n 0, 1) := dk_42 (dk_at dksX6_beds_0 7 rfl rfl)
theorem dX6_beds_8 : decode cX6_beds 8 = .ok (.ldc 81, 2) := dk_18 81 (dk_at dksX6_beds_0 8 rfl rfl)
theorem dX6_beds_10 : decode cX6_beds 10 = .ok (.invokevirtual 82, 3) := dk_182 0 82 (dk_at dksX6_beds_0 10 rfl rfl)
theorem dX6_beds_13 : decode cX6_beds 13 = .ok (.ireturn, 1) := dk_172 (dk_at dksX6_beds_0 13 rfl rfl)
theorem dX6_beds_14 : decode cX6_beds 14 = .ok (.aload_n 0, 1) := dk_42 (dk_at dksX6_beds_0 14 rfl rfl)
theorem dX6_beds_15 : decode cX6_beds 15 = .ok (.getfield 47, 3) := dk_180 0 47 (dk_at dksX6_beds_0 15 rfl rfl)
theorem dX6_beds_18 : decode cX6_beds 18 = .ok (.iload_n 1, 1) := dk_27 (dk_at dksX6_beds_0 18 rfl rfl)
theorem dX6_beds_19 : decode cX6_beds 19 = .ok (.iaload, 1) := dk_46 (dk_at dksX6_beds_0 19 rfl rfl)
theorem dX6_beds_20 : decode cX6_beds 20 = .ok (.ifCond .ne 11, 3) := dk_154 0 11 (dk_at dksX6_beds_0 20 rfl rfl)
theorem dX6_beds_23 : decode cX6_beds 23 = .ok (.aload_n 0, 1) := dk_42 (dk_at dksX6_beds_0 23 rfl rfl)
theorem dX6_beds_24 : decode cX6_beds 24 = .ok (.ldc_w 256, 3) := dk_19 1 0 (dk_at dksX6_beds_1 0 rfl rfl)
theorem dX6_beds_27 : decode cX6_beds 27 = .ok (.invokevirtual 82, 3) := dk_182 0 82 (dk_at dksX6_beds_1 3 rfl rfl)
theorem dX6_beds_30 : decode cX6_beds 30 = .ok (.ireturn, 1) := dk_172 (dk_at dksX6_beds_1 6 rfl rfl)
theorem dX6_beds_31 : decode cX6_beds 31 = .ok (.iconst 0, 1) := dk_3 (dk_at dksX6_beds_1 7 rfl rfl)
theorem dX6_beds_32 : decode cX6_beds 32 = .ok (.istore_n 2, 1) := dk_61 (dk_at dksX6_beds_1 8 rfl rfl)
theorem dX6_beds_33 : decode cX6_beds 33 = .ok (.iload_n 2, 1) := dk_28 (dk_at dksX6_beds_1 9 rfl rfl)
theorem dX6_beds_34 : decode cX6_beds 34 = .ok (.aload_n 0, 1) := dk_42 (dk_at dksX6_beds_1 10 rfl rfl)
theorem dX6_beds_35 : decode cX6_beds 35 = .ok (.getfield 50, 3) := dk_180 0 50 (dk_at dksX6_beds_1 11 rfl rfl)
theorem dX6_beds_38 : decode cX6_beds 38 = .ok (.iload_n 1, 1) := dk_27 (dk_at dksX6_beds_1 14 rfl rfl)
theorem dX6_beds_39 : decode cX6_beds 39 = .ok (.iaload, 1) := dk_46 (dk_at dksX6_beds_1 15 rfl rfl)
theorem dX6_beds_40 : decode cX6_beds 40 = .ok (.if_icmp .ge 55, 3) := dk_162 0 55 (dk_at dksX6_beds_1 16 rfl rfl)
theorem dX6_beds_43 : decode cX6_beds 43 = .ok (.aload_n 0, 1) := dk_42 (dk_at dksX6_beds_1 19 rfl rfl)
theorem dX6_beds_44 : decode cX6_beds 44 = .ok (.iload_n 2, 1) := dk_28 (dk_at dksX6_beds_1 20 rfl rfl)
theorem dX6_beds_45 : decode cX6_beds 45 = .ok (.invokevirtual 175, 3) := dk_182 0 175 (dk_at dksX6_beds_1 21 rfl rfl)
theorem dX6_beds_48 : decode cX6_beds 48 = .ok (.ifCond .eq 47, 3) := dk_153 0 47 (dk_at dksX6_beds_2 0 rfl rfl)
theorem dX6_beds_51 : decode cX6_beds 51 = .ok (.aload_n 0, 1) := dk_42 (dk_at dksX6_beds_2 3 rfl rfl)
theorem dX6_beds_52 : decode cX6_beds 52 = .ok (.getfield 53, 3) := dk_180 0 53 (dk_at dksX6_beds_2 4 rfl rfl)
theorem dX6_beds_55 : decode cX6_beds 55 = .ok (.bipush 40, 2) := dk_16 40 (dk_at dksX6_beds_2 7 rfl rfl)
theorem dX6_beds_57 : decode cX6_beds 57 = .ok (.iload_n 1, 1) := dk_27 (dk_at dksX6_beds_2 9 rfl rfl)
theorem dX6_beds_58 : decode cX6_beds 58 = .ok (.imul, 1) := dk_104 (dk_at dksX6_beds_2 10 rfl rfl)
theorem dX6_beds_59 : decode cX6_beds 59 = .ok (.iload_n 2, 1) := dk_28 (dk_at dksX6_beds_2 11 rfl rfl)
theorem dX6_beds_60 : decode cX6_beds 60 = .ok (.iadd, 1) := dk_96 (dk_at dksX6_beds_2 12 rfl rfl)
theorem dX6_beds_61 : decode cX6_beds 61 = .ok (.iaload, 1) := dk_46 (dk_at dksX6_beds_2 13 rfl rfl)
theorem dX6_beds_62 : decode cX6_beds 62 = .ok (.invokestatic 209, 3) := dk_184 0 209 (dk_at dksX6_beds_2 14 rfl rfl)
theorem dX6_beds_65 : decode cX6_beds 65 = .ok (.ifCond .eq 30, 3) := dk_153 0 30 (dk_at dksX6_beds_2 17 rfl rfl)
theorem dX6_beds_68 : decode cX6_beds 68 = .ok (.aload_n 0, 1) := dk_42 (dk_at dksX6_beds_2 20 rfl rfl)
theorem dX6_beds_69 : decode cX6_beds 69 = .ok (.getfield 9, 3) := dk_180 0 9 (dk_at dksX6_beds_2 21 rfl rfl)
theorem dX6_beds_72 : decode cX6_beds 72 = .ok (.iload_n 2, 1) := dk_28 (dk_at dksX6_beds_3 0 rfl rfl)
theorem dX6_beds_73 : decode cX6_beds 73 = .ok (.iconst 0, 1) := dk_3 (dk_at dksX6_beds_3 1 rfl rfl)
theorem dX6_beds_74 : decode cX6_beds 74 = .ok (.invokestatic 165, 3) := dk_184 0 165 (dk_at dksX6_beds_3 2 rfl rfl)
theorem dX6_beds_77 : decode cX6_beds 77 = .ok (.aload_n 0, 1) := dk_42 (dk_at dksX6_beds_3 5 rfl rfl)
theorem dX6_beds_78 : decode cX6_beds 78 = .ok (.getfield 53, 3) := dk_180 0 53 (dk_at dksX6_beds_3 6 rfl rfl)
theorem dX6_beds_81 : decode cX6_beds 81 = .ok (.bipush 40, 2) := dk_16 40 (dk_at dksX6_beds_3 9 rfl rfl)
theorem dX6_beds_83 : decode cX6_beds 83 = .ok (.iload_n 1, 1) := dk_27 (dk_at dksX6_beds_3 11 rfl rfl)
theorem dX6_beds_84 : decode cX6_beds 84 = .ok (.imul, 1) := dk_104 (dk_at dksX6_beds_3 12 rfl rfl)
theorem dX6_beds_85 : decode cX6_beds 85 = .ok (.iload_n 2, 1) := dk_28 (dk_at dksX6_beds_3 13 rfl rfl)
theorem dX6_beds_86 : decode cX6_beds 86 = .ok (.iadd, 1) := dk_96 (dk_at dksX6_beds_3 14 rfl rfl)
theorem dX6_beds_87 : decode cX6_beds 87 = .ok (.iaload, 1) := dk_46 (dk_at dksX6_beds_3 15 rfl rfl)
theorem dX6_beds_88 : decode cX6_beds 88 = .ok (.iastore, 1) := dk_79 (dk_at dksX6_beds_3 16 rfl rfl)
theorem dX6_beds_89 : decode cX6_beds 89 = .ok (.iinc 2 1, 3) := dk_132 2 1 (dk_at dksX6_beds_3 17 rfl rfl)
theorem dX6_beds_92 : decode cX6_beds 92 = .ok (.goto (-59), 3) := dk_167 255 197 (dk_at dksX6_beds_3 20 rfl rfl)
theorem dX6_beds_95 : decode cX6_beds 95 = .ok (.aload_n 0, 1) := dk_42 (dk_at dksX6_beds_3 23 rfl rfl)
theorem dX6_beds_96 : decode cX6_beds 96 = .ok (.invokevirtual 145, 3) := dk_182 0 145 (dk_at dksX6_beds_4 0 rfl rfl)
theorem dX6_beds_99 : decode cX6_beds 99 = .ok (.iload_n 2, 1) := dk_28 (dk_at dksX6_beds_4 3 rfl rfl)
theorem dX6_beds_100 : decode cX6_beds 100 = .ok (.ireturn, 1) := dk_172 (dk_at dksX6_beds_4 4 rfl rfl)
abbrev cX6_judge : ByteArray := prog_30_method_94_code
def yX6_judge : MethodName := ⟨RX6, "judge", "(I)I"⟩
def dkwX6_judge_4 : List UInt8 := [160, 0, 7, 2, 167, 0, 4, 28, 172]
abbrev dktX6_judge_4 : List UInt8 := dkwX6_judge_4 ++ []
def dkwX6_judge_3 : List UInt8 := [132, 2, 1, 167, 255, 215, 28, 42, 180, 0, 50, 27, 46, 160, 0, 17, 28, 42, 180, 0, 9, 5, 46]
abbrev dktX6_judge_3 : List UInt8 := dkwX6_judge_3 ++ dktX6_judge_4
def dkwX6_judge_2 : List UInt8 := [153, 0, 29, 42, 180, 0, 53, 16, 40, 27, 104, 28, 96, 46, 42, 28, 6, 182, 0, 191, 160, 0, 9]
abbrev dktX6_judge_2 : List UInt8 := dkwX6_judge_2 ++ dktX6_judge_3
def dkwX6_judge_1 : List UInt8 := [19, 1, 0, 182, 0, 82, 172, 3, 61, 28, 42, 180, 0, 50, 27, 46, 162, 0, 37, 42, 28, 182, 0, 218]
abbrev dktX6_judge_1 : List UInt8 := dkwX6_judge_1 ++ dktX6_judge_2
def dkwX6_judge_0 : List UInt8 := [27, 184, 1, 7, 154, 0, 10, 42, 18, 81, 182, 0, 82, 172, 42, 180, 0, 47, 27, 46, 154, 0, 11, 42]
abbrev dktX6_judge_0 : List UInt8 := dkwX6_judge_0 ++ dktX6_judge_1
theorem dksX6_judge_0 : cX6_judge.data.toList.drop 0 = dktX6_judge_0 := by decide +kernel
theorem dksX6_judge_1 : cX6_judge.data.toList.drop 24 = dktX6_judge_1 := dk_seg dksX6_judge_0 24 rfl rfl
theorem dksX6_judge_2 : cX6_judge.data.toList.drop 48 = dktX6_judge_2 := dk_seg dksX6_judge_1 24 rfl rfl
theorem dksX6_judge_3 : cX6_judge.data.toList.drop 71 = dktX6_judge_3 := dk_seg dksX6_judge_2 23 rfl rfl
theorem dksX6_judge_4 : cX6_judge.data.toList.drop 94 = dktX6_judge_4 := dk_seg dksX6_judge_3 23 rfl rfl
theorem dX6_judge_0 : decode cX6_judge 0 = .ok (.iload_n 1, 1) := dk_27 (dk_at dksX6_judge_0 0 rfl rfl)
theorem dX6_judge_1 : decode cX6_judge 1 = .ok (.invokestatic 263, 3) := dk_184 1 7 (dk_at dksX6_judge_0 1 rfl rfl)
theorem dX6_judge_4 : decode cX6_judge 4 = .ok (.ifCond .ne 10, 3) := dk_154 0 10 (dk_at dksX6_judge_0 4 rfl rfl)
theorem dX6_judge_7 : decode cX6_judge 7 = .ok (.aload_n 0, 1) := dk_42 (dk_at dksX6_judge_0 7 rfl rfl)
theorem dX6_judge_8 : decode cX6_judge 8 = .ok (.ldc 81, 2) := dk_18 81 (dk_at dksX6_judge_0 8 rfl rfl)
theorem dX6_judge_10 : decode cX6_judge 10 = .ok (.invokevirtual 82, 3) := dk_182 0 82 (dk_at dksX6_judge_0 10 rfl rfl)
theorem dX6_judge_13 : decode cX6_judge 13 = .ok (.ireturn, 1) := dk_172 (dk_at dksX6_judge_0 13 rfl rfl)
theorem dX6_judge_14 : decode cX6_judge 14 = .ok (.aload_n 0, 1) := dk_42 (dk_at dksX6_judge_0 14 rfl rfl)
theorem dX6_judge_15 : decode cX6_judge 15 = .ok (.getfield 47, 3) := dk_180 0 47 (dk_at dksX6_judge_0 15 rfl rfl)
theorem dX6_judge_18 : decode cX6_judge 18 = .ok (.iload_n 1, 1) := dk_27 (dk_at dksX6_judge_0 18 rfl rfl)
theorem dX6_judge_19 : decode cX6_judge 19 = .ok (.iaload, 1) := dk_46 (dk_at dksX6_judge_0 19 rfl rfl)
theorem dX6_judge_20 : decode cX6_judge 20 = .ok (.ifCond .ne 11, 3) := dk_154 0 11 (dk_at dksX6_judge_0 20 rfl rfl)
theorem dX6_judge_23 : decode cX6_judge 23 = .ok (.aload_n 0, 1) := dk_42 (dk_at dksX6_judge_0 23 rfl rfl)
theorem dX6_judge_24 : decode cX6_judge 24 = .ok (.ldc_w 256, 3) := dk_19 1 0 (dk_at dksX6_judge_1 0 rfl rfl)
theorem dX6_judge_27 : decode cX6_judge 27 = .ok (.invokevirtual 82, 3) := dk_182 0 82 (dk_at dksX6_judge_1 3 rfl rfl)
theorem dX6_judge_30 : decode cX6_judge 30 = .ok (.ireturn, 1) := dk_172 (dk_at dksX6_judge_1 6 rfl rfl)
theorem dX6_judge_31 : decode cX6_judge 31 = .ok (.iconst 0, 1) := dk_3 (dk_at dksX6_judge_1 7 rfl rfl)
theorem dX6_judge_32 : decode cX6_judge 32 = .ok (.istore_n 2, 1) := dk_61 (dk_at dksX6_judge_1 8 rfl rfl)
theorem dX6_judge_33 : decode cX6_judge 33 = .ok (.iload_n 2, 1) := dk_28 (dk_at dksX6_judge_1 9 rfl rfl)
theorem dX6_judge_34 : decode cX6_judge 34 = .ok (.aload_n 0, 1) := dk_42 (dk_at dksX6_judge_1 10 rfl rfl)
theorem dX6_judge_35 : decode cX6_judge 35 = .ok (.getfield 50, 3) := dk_180 0 50 (dk_at dksX6_judge_1 11 rfl rfl)
theorem dX6_judge_38 : decode cX6_judge 38 = .ok (.iload_n 1, 1) := dk_27 (dk_at dksX6_judge_1 14 rfl rfl)
theorem dX6_judge_39 : decode cX6_judge 39 = .ok (.iaload, 1) := dk_46 (dk_at dksX6_judge_1 15 rfl rfl)
theorem dX6_judge_40 : decode cX6_judge 40 = .ok (.if_icmp .ge 37, 3) := dk_162 0 37 (dk_at dksX6_judge_1 16 rfl rfl)
theorem dX6_judge_43 : decode cX6_judge 43 = .ok (.aload_n 0, 1) := dk_42 (dk_at dksX6_judge_1 19 rfl rfl)
theorem dX6_judge_44 : decode cX6_judge 44 = .ok (.iload_n 2, 1) := dk_28 (dk_at dksX6_judge_1 20 rfl rfl)
theorem dX6_judge_45 : decode cX6_judge 45 = .ok (.invokevirtual 218, 3) := dk_182 0 218 (dk_at dksX6_judge_1 21 rfl rfl)
theorem dX6_judge_48 : decode cX6_judge 48 = .ok (.ifCond .eq 29, 3) := dk_153 0 29 (dk_at dksX6_judge_2 0 rfl rfl)
theorem dX6_judge_51 : decode cX6_judge 51 = .ok (.aload_n 0, 1) := dk_42 (dk_at dksX6_judge_2 3 rfl rfl)
theorem dX6_judge_52 : decode cX6_judge 52 = .ok (.getfield 53, 3) := dk_180 0 53 (dk_at dksX6_judge_2 4 rfl rfl)
theorem dX6_judge_55 : decode cX6_judge 55 = .ok (.bipush 40, 2) := dk_16 40 (dk_at dksX6_judge_2 7 rfl rfl)
theorem dX6_judge_57 : decode cX6_judge 57 = .ok (.iload_n 1, 1) := dk_27 (dk_at dksX6_judge_2 9 rfl rfl)
theorem dX6_judge_58 : decode cX6_judge 58 = .ok (.imul, 1) := dk_104 (dk_at dksX6_judge_2 10 rfl rfl)
theorem dX6_judge_59 : decode cX6_judge 59 = .ok (.iload_n 2, 1) := dk_28 (dk_at dksX6_judge_2 11 rfl rfl)
theorem dX6_judge_60 : decode cX6_judge 60 = .ok (.iadd, 1) := dk_96 (dk_at dksX6_judge_2 12 rfl rfl)
theorem dX6_judge_61 : decode cX6_judge 61 = .ok (.iaload, 1) := dk_46 (dk_at dksX6_judge_2 13 rfl rfl)
theorem dX6_judge_62 : decode cX6_judge 62 = .ok (.aload_n 0, 1) := dk_42 (dk_at dksX6_judge_2 14 rfl rfl)
theorem dX6_judge_63 : decode cX6_judge 63 = .ok (.iload_n 2, 1) := dk_28 (dk_at dksX6_judge_2 15 rfl rfl)
theorem dX6_judge_64 : decode cX6_judge 64 = .ok (.iconst 3, 1) := dk_6 (dk_at dksX6_judge_2 16 rfl rfl)
theorem dX6_judge_65 : decode cX6_judge 65 = .ok (.invokevirtual 191, 3) := dk_182 0 191 (dk_at dksX6_judge_2 17 rfl rfl)
theorem dX6_judge_68 : decode cX6_judge 68 = .ok (.if_icmp .ne 9, 3) := dk_160 0 9 (dk_at dksX6_judge_2 20 rfl rfl)
theorem dX6_judge_71 : decode cX6_judge 71 = .ok (.iinc 2 1, 3) := dk_132 2 1 (dk_at dksX6_judge_3 0 rfl rfl)
theorem dX6_judge_74 : decode cX6_judge 74 = .ok (.goto (-41), 3) := dk_167 255 215 (dk_at dksX6_judge_3 3 rfl rfl)
theorem dX6_judge_77 : decode cX6_judge 77 = .ok (.iload_n 2, 1) := dk_28 (dk_at dksX6_judge_3 6 rfl rfl)
theorem dX6_judge_78 : decode cX6_judge 78 = .ok (.aload_n 0, 1) := dk_42 (dk_at dksX6_judge_3 7 rfl rfl)
theorem dX6_judge_79 : decode cX6_judge 79 = .ok (.getfield 50, 3) := dk_180 0 50 (dk_at dksX6_judge_3 8 rfl rfl)
theorem dX6_judge_82 : decode cX6_judge 82 = .ok (.iload_n 1, 1) := dk_27 (dk_at dksX6_judge_3 11 rfl rfl)
theorem dX6_judge_83 : decode cX6_judge 83 = .ok (.iaload, 1) := dk_46 (dk_at dksX6_judge_3 12 rfl rfl)
theorem dX6_judge_84 : decode cX6_judge 84 = .ok (.if_icmp .ne 17, 3) := dk_160 0 17 (dk_at dksX6_judge_3 13 rfl rfl)
theorem dX6_judge_87 : decode cX6_judge 87 = .ok (.iload_n 2, 1) := dk_28 (dk_at dksX6_judge_3 16 rfl rfl)
theorem dX6_judge_88 : decode cX6_judge 88 = .ok (.aload_n 0, 1) := dk_42 (dk_at dksX6_judge_3 17 rfl rfl)
theorem dX6_judge_89 : decode cX6_judge 89 = .ok (.getfield 9, 3) := dk_180 0 9 (dk_at dksX6_judge_3 18 rfl rfl)
theorem dX6_judge_92 : decode cX6_judge 92 = .ok (.iconst 2, 1) := dk_5 (dk_at dksX6_judge_3 21 rfl rfl)
theorem dX6_judge_93 : decode cX6_judge 93 = .ok (.iaload, 1) := dk_46 (dk_at dksX6_judge_3 22 rfl rfl)
theorem dX6_judge_94 : decode cX6_judge 94 = .ok (.if_icmp .ne 7, 3) := dk_160 0 7 (dk_at dksX6_judge_4 0 rfl rfl)
theorem dX6_judge_97 : decode cX6_judge 97 = .ok (.iconst (-1), 1) := dk_2 (dk_at dksX6_judge_4 3 rfl rfl)
theorem dX6_judge_98 : decode cX6_judge 98 = .ok (.goto 4, 3) := dk_167 0 4 (dk_at dksX6_judge_4 4 rfl rfl)
theorem dX6_judge_101 : decode cX6_judge 101 = .ok (.iload_n 2, 1) := dk_28 (dk_at dksX6_judge_4 7 rfl rfl)
theorem dX6_judge_102 : decode cX6_judge 102 = .ok (.ireturn, 1) := dk_172 (dk_at dksX6_judge_4 8 rfl rfl)
abbrev cX6_image : ByteArray := prog_30_method_95_code
def yX6_image : MethodName := ⟨RX6, "image", "()I"⟩
def dkwX6_image_1 : List UInt8 := [180, 1, 43, 172]
abbrev dktX6_image_1 : List UInt8 := dkwX6_image_1 ++ []
def dkwX6_image_0 : List UInt8 := [42, 180, 0, 9, 42, 180, 0, 13, 184, 0, 73, 42, 89, 180, 1, 43, 4, 96, 181, 1, 43, 42]
abbrev dktX6_image_0 : List UInt8 := dkwX6_image_0 ++ dktX6_image_1
theorem dksX6_image_0 : cX6_image.data.toList.drop 0 = dktX6_image_0 := by decide +kernel
theorem dksX6_image_1 : cX6_image.data.toList.drop 22 = dktX6_image_1 := dk_seg dksX6_image_0 22 rfl rfl
theorem dX6_image_0 : decode cX6_image 0 = .ok (.aload_n 0, 1) := dk_42 (dk_at dksX6_image_0 0 rfl rfl)
theorem dX6_image_1 : decode cX6_image 1 = .ok (.getfield 9, 3) := dk_180 0 9 (dk_at dksX6_image_0 1 rfl rfl)
theorem dX6_image_4 : decode cX6_image 4 = .ok (.aload_n 0, 1) := dk_42 (dk_at dksX6_image_0 4 rfl rfl)
theorem dX6_image_5 : decode cX6_image 5 = .ok (.getfield 13, 3) := dk_180 0 13 (dk_at dksX6_image_0 5 rfl rfl)
theorem dX6_image_8 : decode cX6_image 8 = .ok (.invokestatic 73, 3) := dk_184 0 73 (dk_at dksX6_image_0 8 rfl rfl)
theorem dX6_image_11 : decode cX6_image 11 = .ok (.aload_n 0, 1) := dk_42 (dk_at dksX6_image_0 11 rfl rfl)
theorem dX6_image_12 : decode cX6_image 12 = .ok (.dup, 1) := dk_89 (dk_at dksX6_image_0 12 rfl rfl)
theorem dX6_image_13 : decode cX6_image 13 = .ok (.getfield 299, 3) := dk_180 1 43 (dk_at dksX6_image_0 13 rfl rfl)
theorem dX6_image_16 : decode cX6_image 16 = .ok (.iconst 1, 1) := dk_4 (dk_at dksX6_image_0 16 rfl rfl)
theorem dX6_image_17 : decode cX6_image 17 = .ok (.iadd, 1) := dk_96 (dk_at dksX6_image_0 17 rfl rfl)
theorem dX6_image_18 : decode cX6_image 18 = .ok (.putfield 299, 3) := dk_181 1 43 (dk_at dksX6_image_0 18 rfl rfl)
theorem dX6_image_21 : decode cX6_image 21 = .ok (.aload_n 0, 1) := dk_42 (dk_at dksX6_image_0 21 rfl rfl)
theorem dX6_image_22 : decode cX6_image 22 = .ok (.getfield 299, 3) := dk_180 1 43 (dk_at dksX6_image_1 0 rfl rfl)
theorem dX6_image_25 : decode cX6_image 25 = .ok (.ireturn, 1) := dk_172 (dk_at dksX6_image_1 3 rfl rfl)
abbrev cX6_restore : ByteArray := prog_30_method_96_code
def yX6_restore : MethodName := ⟨RX6, "restore", "()I"⟩
def dkwX6_restore_1 : List UInt8 := [184, 0, 73, 42, 182, 0, 145, 42, 180, 0, 9, 3, 46, 172]
abbrev dktX6_restore_1 : List UInt8 := dkwX6_restore_1 ++ []
def dkwX6_restore_0 : List UInt8 := [42, 180, 1, 43, 154, 0, 11, 42, 19, 1, 0, 182, 0, 82, 172, 42, 180, 0, 13, 42, 180, 0, 9]
abbrev dktX6_restore_0 : List UInt8 := dkwX6_restore_0 ++ dktX6_restore_1
theorem dksX6_restore_0 : cX6_restore.data.toList.drop 0 = dktX6_restore_0 := by decide +kernel
theorem dksX6_restore_1 : cX6_restore.data.toList.drop 23 = dktX6_restore_1 := dk_seg dksX6_restore_0 23 rfl rfl
theorem dX6_restore_0 : decode cX6_restore 0 = .ok (.aload_n 0, 1) := dk_42 (dk_at dksX6_restore_0 0 rfl rfl)
theorem dX6_restore_1 : decode cX6_restore 1 = .ok (.getfield 299, 3) := dk_180 1 43 (dk_at dksX6_restore_0 1 rfl rfl)
theorem dX6_restore_4 : decode cX6_restore 4 = .ok (.ifCond .ne 11, 3) := dk_154 0 11 (dk_at dksX6_restore_0 4 rfl rfl)
theorem dX6_restore_7 : decode cX6_restore 7 = .ok (.aload_n 0, 1) := dk_42 (dk_at dksX6_restore_0 7 rfl rfl)
theorem dX6_restore_8 : decode cX6_restore 8 = .ok (.ldc_w 256, 3) := dk_19 1 0 (dk_at dksX6_restore_0 8 rfl rfl)
theorem dX6_restore_11 : decode cX6_restore 11 = .ok (.invokevirtual 82, 3) := dk_182 0 82 (dk_at dksX6_restore_0 11 rfl rfl)
theorem dX6_restore_14 : decode cX6_restore 14 = .ok (.ireturn, 1) := dk_172 (dk_at dksX6_restore_0 14 rfl rfl)
theorem dX6_restore_15 : decode cX6_restore 15 = .ok (.aload_n 0, 1) := dk_42 (dk_at dksX6_restore_0 15 rfl rfl)
theorem dX6_restore_16 : decode cX6_restore 16 = .ok (.getfield 13, 3) := dk_180 0 13 (dk_at dksX6_restore_0 16 rfl rfl)
theorem dX6_restore_19 : decode cX6_restore 19 = .ok (.aload_n 0, 1) := dk_42 (dk_at dksX6_restore_0 19 rfl rfl)
theorem dX6_restore_20 : decode cX6_restore 20 = .ok (.getfield 9, 3) := dk_180 0 9 (dk_at dksX6_restore_0 20 rfl rfl)
theorem dX6_restore_23 : decode cX6_restore 23 = .ok (.invokestatic 73, 3) := dk_184 0 73 (dk_at dksX6_restore_1 0 rfl rfl)
theorem dX6_restore_26 : decode cX6_restore 26 = .ok (.aload_n 0, 1) := dk_42 (dk_at dksX6_restore_1 3 rfl rfl)
theorem dX6_restore_27 : decode cX6_restore 27 = .ok (.invokevirtual 145, 3) := dk_182 0 145 (dk_at dksX6_restore_1 4 rfl rfl)
theorem dX6_restore_30 : decode cX6_restore 30 = .ok (.aload_n 0, 1) := dk_42 (dk_at dksX6_restore_1 7 rfl rfl)
theorem dX6_restore_31 : decode cX6_restore 31 = .ok (.getfield 9, 3) := dk_180 0 9 (dk_at dksX6_restore_1 8 rfl rfl)
theorem dX6_restore_34 : decode cX6_restore 34 = .ok (.iconst 0, 1) := dk_3 (dk_at dksX6_restore_1 11 rfl rfl)
theorem dX6_restore_35 : decode cX6_restore 35 = .ok (.iaload, 1) := dk_46 (dk_at dksX6_restore_1 12 rfl rfl)
theorem dX6_restore_36 : decode cX6_restore 36 = .ok (.ireturn, 1) := dk_172 (dk_at dksX6_restore_1 13 rfl rfl)
abbrev cX6_tell : ByteArray := prog_30_method_97_code
def yX6_tell : MethodName := ⟨RX6, "tell", "(I)I"⟩
def dkwX6_tell_2 : List UInt8 := [180, 0, 9, 16, 8, 46, 172]
abbrev dktX6_tell_2 : List UInt8 := dkwX6_tell_2 ++ []
def dkwX6_tell_1 : List UInt8 := [16, 118, 42, 180, 0, 9, 16, 8, 46, 96, 27, 79, 42, 180, 0, 9, 16, 8, 92, 46, 4, 96, 79, 42]
abbrev dktX6_tell_1 : List UInt8 := dkwX6_tell_1 ++ dktX6_tell_2
def dkwX6_tell_0 : List UInt8 := [42, 180, 0, 9, 16, 8, 46, 16, 20, 160, 0, 10, 42, 18, 85, 182, 0, 82, 172, 42, 180, 0, 9]
abbrev dktX6_tell_0 : List UInt8 := dkwX6_tell_0 ++ dktX6_tell_1
theorem dksX6_tell_0 : cX6_tell.data.toList.drop 0 = dktX6_tell_0 := by decide +kernel
theorem dksX6_tell_1 : cX6_tell.data.toList.drop 23 = dktX6_tell_1 := dk_seg dksX6_tell_0 23 rfl rfl
theorem dksX6_tell_2 : cX6_tell.data.toList.drop 47 = dktX6_tell_2 := dk_seg dksX6_tell_1 24 rfl rfl
theorem dX6_tell_0 : decode cX6_tell 0 = .ok (.aload_n 0, 1) := dk_42 (dk_at dksX6_tell_0 0 rfl rfl)
theorem dX6_tell_1 : decode cX6_tell 1 = .ok (.getfield 9, 3) := dk_180 0 9 (dk_at dksX6_tell_0 1 rfl rfl)
theorem dX6_tell_4 : decode cX6_tell 4 = .ok (.bipush 8, 2) := dk_16 8 (dk_at dksX6_tell_0 4 rfl rfl)
theorem dX6_tell_6 : decode cX6_tell 6 = .ok (.iaload, 1) := dk_46 (dk_at dksX6_tell_0 6 rfl rfl)
theorem dX6_tell_7 : decode cX6_tell 7 = .ok (.bipush 20, 2) := dk_16 20 (dk_at dksX6_tell_0 7 rfl rfl)
theorem dX6_tell_9 : decode cX6_tell 9 = .ok (.if_icmp .ne 10, 3) := dk_160 0 10 (dk_at dksX6_tell_0 9 rfl rfl)
theorem dX6_tell_12 : decode cX6_tell 12 = .ok (.aload_n 0, 1) := dk_42 (dk_at dksX6_tell_0 12 rfl rfl)
theorem dX6_tell_13 : decode cX6_tell 13 = .ok (.ldc 85, 2) := dk_18 85 (dk_at dksX6_tell_0 13 rfl rfl)
theorem dX6_tell_15 : decode cX6_tell 15 = .ok (.invokevirtual 82, 3) := dk_182 0 82 (dk_at dksX6_tell_0 15 rfl rfl)
theorem dX6_tell_18 : decode cX6_tell 18 = .ok (.ireturn, 1) := dk_172 (dk_at dksX6_tell_0 18 rfl rfl)
theorem dX6_tell_19 : decode cX6_tell 19 = .ok (.aload_n 0, 1) := dk_42 (dk_at dksX6_tell_0 19 rfl rfl)
theorem dX6_tell_20 : decode cX6_tell 20 = .ok (.getfield 9, 3) := dk_180 0 9 (dk_at dksX6_tell_0 20 rfl rfl)
theorem dX6_tell_23 : decode cX6_tell 23 = .ok (.bipush 118, 2) := dk_16 118 (dk_at dksX6_tell_1 0 rfl rfl)
theorem dX6_tell_25 : decode cX6_tell 25 = .ok (.aload_n 0, 1) := dk_42 (dk_at dksX6_tell_1 2 rfl rfl)
theorem dX6_tell_26 : decode cX6_tell 26 = .ok (.getfield 9, 3) := dk_180 0 9 (dk_at dksX6_tell_1 3 rfl rfl)
theorem dX6_tell_29 : decode cX6_tell 29 = .ok (.bipush 8, 2) := dk_16 8 (dk_at dksX6_tell_1 6 rfl rfl)
theorem dX6_tell_31 : decode cX6_tell 31 = .ok (.iaload, 1) := dk_46 (dk_at dksX6_tell_1 8 rfl rfl)
theorem dX6_tell_32 : decode cX6_tell 32 = .ok (.iadd, 1) := dk_96 (dk_at dksX6_tell_1 9 rfl rfl)
theorem dX6_tell_33 : decode cX6_tell 33 = .ok (.iload_n 1, 1) := dk_27 (dk_at dksX6_tell_1 10 rfl rfl)
theorem dX6_tell_34 : decode cX6_tell 34 = .ok (.iastore, 1) := dk_79 (dk_at dksX6_tell_1 11 rfl rfl)
theorem dX6_tell_35 : decode cX6_tell 35 = .ok (.aload_n 0, 1) := dk_42 (dk_at dksX6_tell_1 12 rfl rfl)
theorem dX6_tell_36 : decode cX6_tell 36 = .ok (.getfield 9, 3) := dk_180 0 9 (dk_at dksX6_tell_1 13 rfl rfl)
theorem dX6_tell_39 : decode cX6_tell 39 = .ok (.bipush 8, 2) := dk_16 8 (dk_at dksX6_tell_1 16 rfl rfl)
theorem dX6_tell_41 : decode cX6_tell 41 = .ok (.dup2, 1) := dk_92 (dk_at dksX6_tell_1 18 rfl rfl)
theorem dX6_tell_42 : decode cX6_tell 42 = .ok (.iaload, 1) := dk_46 (dk_at dksX6_tell_1 19 rfl rfl)
theorem dX6_tell_43 : decode cX6_tell 43 = .ok (.iconst 1, 1) := dk_4 (dk_at dksX6_tell_1 20 rfl rfl)
theorem dX6_tell_44 : decode cX6_tell 44 = .ok (.iadd, 1) := dk_96 (dk_at dksX6_tell_1 21 rfl rfl)
theorem dX6_tell_45 : decode cX6_tell 45 = .ok (.iastore, 1) := dk_79 (dk_at dksX6_tell_1 22 rfl rfl)
theorem dX6_tell_46 : decode cX6_tell 46 = .ok (.aload_n 0, 1) := dk_42 (dk_at dksX6_tell_1 23 rfl rfl)
theorem dX6_tell_47 : decode cX6_tell 47 = .ok (.getfield 9, 3) := dk_180 0 9 (dk_at dksX6_tell_2 0 rfl rfl)
theorem dX6_tell_50 : decode cX6_tell 50 = .ok (.bipush 8, 2) := dk_16 8 (dk_at dksX6_tell_2 3 rfl rfl)
theorem dX6_tell_52 : decode cX6_tell 52 = .ok (.iaload, 1) := dk_46 (dk_at dksX6_tell_2 5 rfl rfl)
theorem dX6_tell_53 : decode cX6_tell 53 = .ok (.ireturn, 1) := dk_172 (dk_at dksX6_tell_2 6 rfl rfl)
abbrev cX6_check : ByteArray := prog_30_method_98_code
def yX6_check : MethodName := ⟨RX6, "check", "()I"⟩
def dkwX6_check_3 : List UInt8 := [167, 255, 216, 42, 28, 182, 0, 250, 172]
abbrev dktX6_check_3 : List UInt8 := dkwX6_check_3 ++ []
def dkwX6_check_2 : List UInt8 := [16, 118, 29, 96, 46, 42, 182, 0, 240, 160, 0, 7, 3, 167, 0, 6, 4, 29, 96, 61, 132, 3, 1]
abbrev dktX6_check_2 : List UInt8 := dkwX6_check_2 ++ dktX6_check_3
def dkwX6_check_1 : List UInt8 := [184, 0, 73, 3, 61, 3, 62, 29, 27, 162, 0, 41, 28, 154, 0, 37, 42, 182, 0, 231, 42, 180, 0, 9]
abbrev dktX6_check_1 : List UInt8 := dkwX6_check_1 ++ dktX6_check_2
def dkwX6_check_0 : List UInt8 := [42, 180, 0, 9, 16, 8, 46, 60, 42, 180, 0, 9, 16, 8, 3, 79, 42, 180, 0, 9, 42, 180, 0, 16]
abbrev dktX6_check_0 : List UInt8 := dkwX6_check_0 ++ dktX6_check_1
theorem dksX6_check_0 : cX6_check.data.toList.drop 0 = dktX6_check_0 := by decide +kernel
theorem dksX6_check_1 : cX6_check.data.toList.drop 24 = dktX6_check_1 := dk_seg dksX6_check_0 24 rfl rfl
theorem dksX6_check_2 : cX6_check.data.toList.drop 48 = dktX6_check_2 := dk_seg dksX6_check_1 24 rfl rfl
theorem dksX6_check_3 : cX6_check.data.toList.drop 71 = dktX6_check_3 := dk_seg dksX6_check_2 23 rfl rfl
theorem dX6_check_0 : decode cX6_check 0 = .ok (.aload_n 0, 1) := dk_42 (dk_at dksX6_check_0 0 rfl rfl)
theorem dX6_check_1 : decode cX6_check 1 = .ok (.getfield 9, 3) := dk_180 0 9 (dk_at dksX6_check_0 1 rfl rfl)
theorem dX6_check_4 : decode cX6_check 4 = .ok (.bipush 8, 2) := dk_16 8 (dk_at dksX6_check_0 4 rfl rfl)
theorem dX6_check_6 : decode cX6_check 6 = .ok (.iaload, 1) := dk_46 (dk_at dksX6_check_0 6 rfl rfl)
theorem dX6_check_7 : decode cX6_check 7 = .ok (.istore_n 1, 1) := dk_60 (dk_at dksX6_check_0 7 rfl rfl)
theorem dX6_check_8 : decode cX6_check 8 = .ok (.aload_n 0, 1) := dk_42 (dk_at dksX6_check_0 8 rfl rfl)
theorem dX6_check_9 : decode cX6_check 9 = .ok (.getfield 9, 3) := dk_180 0 9 (dk_at dksX6_check_0 9 rfl rfl)
theorem dX6_check_12 : decode cX6_check 12 = .ok (.bipush 8, 2) := dk_16 8 (dk_at dksX6_check_0 12 rfl rfl)
theorem dX6_check_14 : decode cX6_check 14 = .ok (.iconst 0, 1) := dk_3 (dk_at dksX6_check_0 14 rfl rfl)
theorem dX6_check_15 : decode cX6_check 15 = .ok (.iastore, 1) := dk_79 (dk_at dksX6_check_0 15 rfl rfl)
theorem dX6_check_16 : decode cX6_check 16 = .ok (.aload_n 0, 1) := dk_42 (dk_at dksX6_check_0 16 rfl rfl)
theorem dX6_check_17 : decode cX6_check 17 = .ok (.getfield 9, 3) := dk_180 0 9 (dk_at dksX6_check_0 17 rfl rfl)
theorem dX6_check_20 : decode cX6_check 20 = .ok (.aload_n 0, 1) := dk_42 (dk_at dksX6_check_0 20 rfl rfl)
theorem dX6_check_21 : decode cX6_check 21 = .ok (.getfield 16, 3) := dk_180 0 16 (dk_at dksX6_check_0 21 rfl rfl)
theorem dX6_check_24 : decode cX6_check 24 = .ok (.invokestatic 73, 3) := dk_184 0 73 (dk_at dksX6_check_1 0 rfl rfl)
theorem dX6_check_27 : decode cX6_check 27 = .ok (.iconst 0, 1) := dk_3 (dk_at dksX6_check_1 3 rfl rfl)
theorem dX6_check_28 : decode cX6_check 28 = .ok (.istore_n 2, 1) := dk_61 (dk_at dksX6_check_1 4 rfl rfl)
theorem dX6_check_29 : decode cX6_check 29 = .ok (.iconst 0, 1) := dk_3 (dk_at dksX6_check_1 5 rfl rfl)
theorem dX6_check_30 : decode cX6_check 30 = .ok (.istore_n 3, 1) := dk_62 (dk_at dksX6_check_1 6 rfl rfl)
theorem dX6_check_31 : decode cX6_check 31 = .ok (.iload_n 3, 1) := dk_29 (dk_at dksX6_check_1 7 rfl rfl)
theorem dX6_check_32 : decode cX6_check 32 = .ok (.iload_n 1, 1) := dk_27 (dk_at dksX6_check_1 8 rfl rfl)
theorem dX6_check_33 : decode cX6_check 33 = .ok (.if_icmp .ge 41, 3) := dk_162 0 41 (dk_at dksX6_check_1 9 rfl rfl)
theorem dX6_check_36 : decode cX6_check 36 = .ok (.iload_n 2, 1) := dk_28 (dk_at dksX6_check_1 12 rfl rfl)
theorem dX6_check_37 : decode cX6_check 37 = .ok (.ifCond .ne 37, 3) := dk_154 0 37 (dk_at dksX6_check_1 13 rfl rfl)
theorem dX6_check_40 : decode cX6_check 40 = .ok (.aload_n 0, 1) := dk_42 (dk_at dksX6_check_1 16 rfl rfl)
theorem dX6_check_41 : decode cX6_check 41 = .ok (.invokevirtual 231, 3) := dk_182 0 231 (dk_at dksX6_check_1 17 rfl rfl)
theorem dX6_check_44 : decode cX6_check 44 = .ok (.aload_n 0, 1) := dk_42 (dk_at dksX6_check_1 20 rfl rfl)
theorem dX6_check_45 : decode cX6_check 45 = .ok (.getfield 9, 3) := dk_180 0 9 (dk_at dksX6_check_1 21 rfl rfl)
theorem dX6_check_48 : decode cX6_check 48 = .ok (.bipush 118, 2) := dk_16 118 (dk_at dksX6_check_2 0 rfl rfl)
theorem dX6_check_50 : decode cX6_check 50 = .ok (.iload_n 3, 1) := dk_29 (dk_at dksX6_check_2 2 rfl rfl)
theorem dX6_check_51 : decode cX6_check 51 = .ok (.iadd, 1) := dk_96 (dk_at dksX6_check_2 3 rfl rfl)
theorem dX6_check_52 : decode cX6_check 52 = .ok (.iaload, 1) := dk_46 (dk_at dksX6_check_2 4 rfl rfl)
theorem dX6_check_53 : decode cX6_check 53 = .ok (.aload_n 0, 1) := dk_42 (dk_at dksX6_check_2 5 rfl rfl)
theorem dX6_check_54 : decode cX6_check 54 = .ok (.invokevirtual 240, 3) := dk_182 0 240 (dk_at dksX6_check_2 6 rfl rfl)
theorem dX6_check_57 : decode cX6_check 57 = .ok (.if_icmp .ne 7, 3) := dk_160 0 7 (dk_at dksX6_check_2 9 rfl rfl)
theorem dX6_check_60 : decode cX6_check 60 = .ok (.iconst 0, 1) := dk_3 (dk_at dksX6_check_2 12 rfl rfl)
theorem dX6_check_61 : decode cX6_check 61 = .ok (.goto 6, 3) := dk_167 0 6 (dk_at dksX6_check_2 13 rfl rfl)
theorem dX6_check_64 : decode cX6_check 64 = .ok (.iconst 1, 1) := dk_4 (dk_at dksX6_check_2 16 rfl rfl)
theorem dX6_check_65 : decode cX6_check 65 = .ok (.iload_n 3, 1) := dk_29 (dk_at dksX6_check_2 17 rfl rfl)
theorem dX6_check_66 : decode cX6_check 66 = .ok (.iadd, 1) := dk_96 (dk_at dksX6_check_2 18 rfl rfl)
theorem dX6_check_67 : decode cX6_check 67 = .ok (.istore_n 2, 1) := dk_61 (dk_at dksX6_check_2 19 rfl rfl)
theorem dX6_check_68 : decode cX6_check 68 = .ok (.iinc 3 1, 3) := dk_132 3 1 (dk_at dksX6_check_2 20 rfl rfl)
theorem dX6_check_71 : decode cX6_check 71 = .ok (.goto (-40), 3) := dk_167 255 216 (dk_at dksX6_check_3 0 rfl rfl)
theorem dX6_check_74 : decode cX6_check 74 = .ok (.aload_n 0, 1) := dk_42 (dk_at dksX6_check_3 3 rfl rfl)
theorem dX6_check_75 : decode cX6_check 75 = .ok (.iload_n 2, 1) := dk_28 (dk_at dksX6_check_3 4 rfl rfl)
theorem dX6_check_76 : decode cX6_check 76 = .ok (.invokevirtual 250, 3) := dk_182 0 250 (dk_at dksX6_check_3 5 rfl rfl)
theorem dX6_check_79 : decode cX6_check 79 = .ok (.ireturn, 1) := dk_172 (dk_at dksX6_check_3 8 rfl rfl)
abbrev cX6_count : ByteArray := prog_30_method_99_code
def yX6_count : MethodName := ⟨RX6, "count", "(I)I"⟩
def dkwX6_count_5 : List UInt8 := [172, 42, 180, 1, 13, 172, 42, 180, 0, 9, 16, 6, 46, 172, 42, 18, 81, 182, 0, 82, 172]
abbrev dktX6_count_5 : List UInt8 := dkwX6_count_5 ++ []
def dkwX6_count_4 : List UInt8 := [172, 42, 182, 0, 253, 184, 0, 234, 172, 42, 180, 0, 9, 16, 7, 46, 172, 42, 180, 0, 9, 16, 8, 46]
abbrev dktX6_count_4 : List UInt8 := dkwX6_count_4 ++ dktX6_count_5
def dkwX6_count_3 : List UInt8 := [180, 0, 9, 6, 46, 172, 42, 180, 0, 9, 7, 46, 172, 42, 180, 0, 9, 8, 46, 172, 42, 182, 0, 240]
abbrev dktX6_count_3 : List UInt8 := dkwX6_count_3 ++ dktX6_count_4
def dkwX6_count_2 : List UInt8 := [42, 180, 0, 9, 4, 46, 172, 42, 180, 0, 9, 5, 46, 172, 42, 180, 0, 9, 3, 46, 172, 42]
abbrev dktX6_count_2 : List UInt8 := dkwX6_count_2 ++ dktX6_count_3
def dkwX6_count_1 : List UInt8 := [170, 0, 0, 0, 0, 0, 147, 0, 0, 0, 0, 0, 0, 0, 11, 0, 0, 0, 63, 0, 0, 0, 70, 0, 0, 0, 77, 0, 0, 0, 84, 0, 0, 0, 91, 0, 0, 0, 98, 0, 0, 0, 105, 0, 0, 0, 110, 0, 0, 0, 118, 0, 0, 0, 126, 0, 0, 0, 134, 0, 0, 0, 139]
abbrev dktX6_count_1 : List UInt8 := dkwX6_count_1 ++ dktX6_count_2
def dkwX6_count_0 : List UInt8 := [27]
abbrev dktX6_count_0 : List UInt8 := dkwX6_count_0 ++ dktX6_count_1
theorem dksX6_count_0 : cX6_count.data.toList.drop 0 = dktX6_count_0 := by decide +kernel
theorem dksX6_count_1 : cX6_count.data.toList.drop 1 = dktX6_count_1 := dk_seg dksX6_count_0 1 rfl rfl
theorem dksX6_count_2 : cX6_count.data.toList.drop 64 = dktX6_count_2 := dk_seg dksX6_count_1 63 rfl rfl
theorem dksX6_count_3 : cX6_count.data.toList.drop 86 = dktX6_count_3 := dk_seg dksX6_count_2 22 rfl rfl
theorem dksX6_count_4 : cX6_count.data.toList.drop 110 = dktX6_count_4 := dk_seg dksX6_count_3 24 rfl rfl
theorem dksX6_count_5 : cX6_count.data.toList.drop 134 = dktX6_count_5 := dk_seg dksX6_count_4 24 rfl rfl
theorem dX6_count_0 : decode cX6_count 0 = .ok (.iload_n 1, 1) := dk_27 (dk_at dksX6_count_0 0 rfl rfl)
theorem dX6_count_1 : decode cX6_count 1 = .ok (.tableswitch 147 0 11 #[63, 70, 77, 84, 91, 98, 105, 110, 118, 126, 134, 139], 63) := by decide +kernel
theorem dX6_count_64 : decode cX6_count 64 = .ok (.aload_n 0, 1) := dk_42 (dk_at dksX6_count_2 0 rfl rfl)
theorem dX6_count_65 : decode cX6_count 65 = .ok (.getfield 9, 3) := dk_180 0 9 (dk_at dksX6_count_2 1 rfl rfl)
theorem dX6_count_68 : decode cX6_count 68 = .ok (.iconst 1, 1) := dk_4 (dk_at dksX6_count_2 4 rfl rfl)
theorem dX6_count_69 : decode cX6_count 69 = .ok (.iaload, 1) := dk_46 (dk_at dksX6_count_2 5 rfl rfl)
theorem dX6_count_70 : decode cX6_count 70 = .ok (.ireturn, 1) := dk_172 (dk_at dksX6_count_2 6 rfl rfl)
theorem dX6_count_71 : decode cX6_count 71 = .ok (.aload_n 0, 1) := dk_42 (dk_at dksX6_count_2 7 rfl rfl)
theorem dX6_count_72 : decode cX6_count 72 = .ok (.getfield 9, 3) := dk_180 0 9 (dk_at dksX6_count_2 8 rfl rfl)
theorem dX6_count_75 : decode cX6_count 75 = .ok (.iconst 2, 1) := dk_5 (dk_at dksX6_count_2 11 rfl rfl)
theorem dX6_count_76 : decode cX6_count 76 = .ok (.iaload, 1) := dk_46 (dk_at dksX6_count_2 12 rfl rfl)
theorem dX6_count_77 : decode cX6_count 77 = .ok (.ireturn, 1) := dk_172 (dk_at dksX6_count_2 13 rfl rfl)
theorem dX6_count_78 : decode cX6_count 78 = .ok (.aload_n 0, 1) := dk_42 (dk_at dksX6_count_2 14 rfl rfl)
theorem dX6_count_79 : decode cX6_count 79 = .ok (.getfield 9, 3) := dk_180 0 9 (dk_at dksX6_count_2 15 rfl rfl)
theorem dX6_count_82 : decode cX6_count 82 = .ok (.iconst 0, 1) := dk_3 (dk_at dksX6_count_2 18 rfl rfl)
theorem dX6_count_83 : decode cX6_count 83 = .ok (.iaload, 1) := dk_46 (dk_at dksX6_count_2 19 rfl rfl)
theorem dX6_count_84 : decode cX6_count 84 = .ok (.ireturn, 1) := dk_172 (dk_at dksX6_count_2 20 rfl rfl)
theorem dX6_count_85 : decode cX6_count 85 = .ok (.aload_n 0, 1) := dk_42 (dk_at dksX6_count_2 21 rfl rfl)
theorem dX6_count_86 : decode cX6_count 86 = .ok (.getfield 9, 3) := dk_180 0 9 (dk_at dksX6_count_3 0 rfl rfl)
theorem dX6_count_89 : decode cX6_count 89 = .ok (.iconst 3, 1) := dk_6 (dk_at dksX6_count_3 3 rfl rfl)
theorem dX6_count_90 : decode cX6_count 90 = .ok (.iaload, 1) := dk_46 (dk_at dksX6_count_3 4 rfl rfl)
theorem dX6_count_91 : decode cX6_count 91 = .ok (.ireturn, 1) := dk_172 (dk_at dksX6_count_3 5 rfl rfl)
theorem dX6_count_92 : decode cX6_count 92 = .ok (.aload_n 0, 1) := dk_42 (dk_at dksX6_count_3 6 rfl rfl)
theorem dX6_count_93 : decode cX6_count 93 = .ok (.getfield 9, 3) := dk_180 0 9 (dk_at dksX6_count_3 7 rfl rfl)
theorem dX6_count_96 : decode cX6_count 96 = .ok (.iconst 4, 1) := dk_7 (dk_at dksX6_count_3 10 rfl rfl)
theorem dX6_count_97 : decode cX6_count 97 = .ok (.iaload, 1) := dk_46 (dk_at dksX6_count_3 11 rfl rfl)
theorem dX6_count_98 : decode cX6_count 98 = .ok (.ireturn, 1) := dk_172 (dk_at dksX6_count_3 12 rfl rfl)
theorem dX6_count_99 : decode cX6_count 99 = .ok (.aload_n 0, 1) := dk_42 (dk_at dksX6_count_3 13 rfl rfl)
theorem dX6_count_100 : decode cX6_count 100 = .ok (.getfield 9, 3) := dk_180 0 9 (dk_at dksX6_count_3 14 rfl rfl)
theorem dX6_count_103 : decode cX6_count 103 = .ok (.iconst 5, 1) := dk_8 (dk_at dksX6_count_3 17 rfl rfl)
theorem dX6_count_104 : decode cX6_count 104 = .ok (.iaload, 1) := dk_46 (dk_at dksX6_count_3 18 rfl rfl)
theorem dX6_count_105 : decode cX6_count 105 = .ok (.ireturn, 1) := dk_172 (dk_at dksX6_count_3 19 rfl rfl)
theorem dX6_count_106 : decode cX6_count 106 = .ok (.aload_n 0, 1) := dk_42 (dk_at dksX6_count_3 20 rfl rfl)
theorem dX6_count_107 : decode cX6_count 107 = .ok (.invokevirtual 240, 3) := dk_182 0 240 (dk_at dksX6_count_3 21 rfl rfl)
theorem dX6_count_110 : decode cX6_count 110 = .ok (.ireturn, 1) := dk_172 (dk_at dksX6_count_4 0 rfl rfl)
theorem dX6_count_111 : decode cX6_count 111 = .ok (.aload_n 0, 1) := dk_42 (dk_at dksX6_count_4 1 rfl rfl)
theorem dX6_count_112 : decode cX6_count 112 = .ok (.invokevirtual 253, 3) := dk_182 0 253 (dk_at dksX6_count_4 2 rfl rfl)
theorem dX6_count_115 : decode cX6_count 115 = .ok (.invokestatic 234, 3) := dk_184 0 234 (dk_at dksX6_count_4 5 rfl rfl)
theorem dX6_count_118 : decode cX6_count 118 = .ok (.ireturn, 1) := dk_172 (dk_at dksX6_count_4 8 rfl rfl)
theorem dX6_count_119 : decode cX6_count 119 = .ok (.aload_n 0, 1) := dk_42 (dk_at dksX6_count_4 9 rfl rfl)
theorem dX6_count_120 : decode cX6_count 120 = .ok (.getfield 9, 3) := dk_180 0 9 (dk_at dksX6_count_4 10 rfl rfl)
theorem dX6_count_123 : decode cX6_count 123 = .ok (.bipush 7, 2) := dk_16 7 (dk_at dksX6_count_4 13 rfl rfl)
theorem dX6_count_125 : decode cX6_count 125 = .ok (.iaload, 1) := dk_46 (dk_at dksX6_count_4 15 rfl rfl)
theorem dX6_count_126 : decode cX6_count 126 = .ok (.ireturn, 1) := dk_172 (dk_at dksX6_count_4 16 rfl rfl)
theorem dX6_count_127 : decode cX6_count 127 = .ok (.aload_n 0, 1) := dk_42 (dk_at dksX6_count_4 17 rfl rfl)
theorem dX6_count_128 : decode cX6_count 128 = .ok (.getfield 9, 3) := dk_180 0 9 (dk_at dksX6_count_4 18 rfl rfl)
theorem dX6_count_131 : decode cX6_count 131 = .ok (.bipush 8, 2) := dk_16 8 (dk_at dksX6_count_4 21 rfl rfl)
theorem dX6_count_133 : decode cX6_count 133 = .ok (.iaload, 1) := dk_46 (dk_at dksX6_count_4 23 rfl rfl)
theorem dX6_count_134 : decode cX6_count 134 = .ok (.ireturn, 1) := dk_172 (dk_at dksX6_count_5 0 rfl rfl)
theorem dX6_count_135 : decode cX6_count 135 = .ok (.aload_n 0, 1) := dk_42 (dk_at dksX6_count_5 1 rfl rfl)
theorem dX6_count_136 : decode cX6_count 136 = .ok (.getfield 269, 3) := dk_180 1 13 (dk_at dksX6_count_5 2 rfl rfl)
theorem dX6_count_139 : decode cX6_count 139 = .ok (.ireturn, 1) := dk_172 (dk_at dksX6_count_5 5 rfl rfl)
theorem dX6_count_140 : decode cX6_count 140 = .ok (.aload_n 0, 1) := dk_42 (dk_at dksX6_count_5 6 rfl rfl)
theorem dX6_count_141 : decode cX6_count 141 = .ok (.getfield 9, 3) := dk_180 0 9 (dk_at dksX6_count_5 7 rfl rfl)
theorem dX6_count_144 : decode cX6_count 144 = .ok (.bipush 6, 2) := dk_16 6 (dk_at dksX6_count_5 10 rfl rfl)
theorem dX6_count_146 : decode cX6_count 146 = .ok (.iaload, 1) := dk_46 (dk_at dksX6_count_5 12 rfl rfl)
theorem dX6_count_147 : decode cX6_count 147 = .ok (.ireturn, 1) := dk_172 (dk_at dksX6_count_5 13 rfl rfl)
theorem dX6_count_148 : decode cX6_count 148 = .ok (.aload_n 0, 1) := dk_42 (dk_at dksX6_count_5 14 rfl rfl)
theorem dX6_count_149 : decode cX6_count 149 = .ok (.ldc 81, 2) := dk_18 81 (dk_at dksX6_count_5 15 rfl rfl)
theorem dX6_count_151 : decode cX6_count 151 = .ok (.invokevirtual 82, 3) := dk_182 0 82 (dk_at dksX6_count_5 17 rfl rfl)
theorem dX6_count_154 : decode cX6_count 154 = .ok (.ireturn, 1) := dk_172 (dk_at dksX6_count_5 20 rfl rfl)
abbrev cX6_told : ByteArray := prog_30_method_100_code
def yX6_told : MethodName := ⟨RX6, "told", "(I)I"⟩
def dkwX6_told_1 : List UInt8 := [172]
abbrev dktX6_told_1 : List UInt8 := dkwX6_told_1 ++ []
def dkwX6_told_0 : List UInt8 := [27, 4, 8, 184, 0, 77, 153, 0, 12, 42, 180, 0, 19, 27, 46, 167, 0, 9, 42, 18, 81, 182, 0, 82]
abbrev dktX6_told_0 : List UInt8 := dkwX6_told_0 ++ dktX6_told_1
theorem dksX6_told_0 : cX6_told.data.toList.drop 0 = dktX6_told_0 := by decide +kernel
theorem dksX6_told_1 : cX6_told.data.toList.drop 24 = dktX6_told_1 := dk_seg dksX6_told_0 24 rfl rfl
theorem dX6_told_0 : decode cX6_told 0 = .ok (.iload_n 1, 1) := dk_27 (dk_at dksX6_told_0 0 rfl rfl)
theorem dX6_told_1 : decode cX6_told 1 = .ok (.iconst 1, 1) := dk_4 (dk_at dksX6_told_0 1 rfl rfl)
theorem dX6_told_2 : decode cX6_told 2 = .ok (.iconst 5, 1) := dk_8 (dk_at dksX6_told_0 2 rfl rfl)
theorem dX6_told_3 : decode cX6_told 3 = .ok (.invokestatic 77, 3) := dk_184 0 77 (dk_at dksX6_told_0 3 rfl rfl)
theorem dX6_told_6 : decode cX6_told 6 = .ok (.ifCond .eq 12, 3) := dk_153 0 12 (dk_at dksX6_told_0 6 rfl rfl)
theorem dX6_told_9 : decode cX6_told 9 = .ok (.aload_n 0, 1) := dk_42 (dk_at dksX6_told_0 9 rfl rfl)
theorem dX6_told_10 : decode cX6_told 10 = .ok (.getfield 19, 3) := dk_180 0 19 (dk_at dksX6_told_0 10 rfl rfl)
theorem dX6_told_13 : decode cX6_told 13 = .ok (.iload_n 1, 1) := dk_27 (dk_at dksX6_told_0 13 rfl rfl)
theorem dX6_told_14 : decode cX6_told 14 = .ok (.iaload, 1) := dk_46 (dk_at dksX6_told_0 14 rfl rfl)
theorem dX6_told_15 : decode cX6_told 15 = .ok (.goto 9, 3) := dk_167 0 9 (dk_at dksX6_told_0 15 rfl rfl)
theorem dX6_told_18 : decode cX6_told 18 = .ok (.aload_n 0, 1) := dk_42 (dk_at dksX6_told_0 18 rfl rfl)
theorem dX6_told_19 : decode cX6_told 19 = .ok (.ldc 81, 2) := dk_18 81 (dk_at dksX6_told_0 19 rfl rfl)
theorem dX6_told_21 : decode cX6_told 21 = .ok (.invokevirtual 82, 3) := dk_182 0 82 (dk_at dksX6_told_0 21 rfl rfl)
theorem dX6_told_24 : decode cX6_told 24 = .ok (.ireturn, 1) := dk_172 (dk_at dksX6_told_1 0 rfl rfl)
theorem q83 : (Jvm.Cond.initialized "OldLightModel") ∈ lw_all := lw_g (lw_at lw_m1 10 rfl) rfl
theorem q1380 : (Jvm.Cond.instantiable "OldLightModel" (24 : Nat)) ∈ lw_all := lw_g (lw_at lw_m6 107 rfl) rfl
theorem q1382 : (Jvm.Cond.instanceMethod ({ cls := "OldLightModel", name := "<init>", desc := "()V" } : Jvm.MethodName)) ∈ lw_all := lw_g (lw_at lw_m6 109 rfl) rfl
theorem q1383 : (Jvm.Cond.code ({ cls := "OldLightModel", name := "<init>", desc := "()V" } : Jvm.MethodName) prog_30_method_1_code (1 : Nat) (Option.none : Option Jvm.ClassFile.FieldType)) ∈ lw_all := lw_g (lw_at lw_m6 110 rfl) rfl
theorem q1384 : (Jvm.Cond.methodLink "OldLightModel" (3 : Nat) ({ cls := "java/lang/Object", name := "<init>", desc := "()V" } : Jvm.MethodName)) ∈ lw_all := lw_g (lw_at lw_m6 111 rfl) rfl
theorem q1385 : (Jvm.Cond.classLink "OldLightModel" (25 : Nat) "java/lang/String") ∈ lw_all := lw_g (lw_at lw_m6 112 rfl) rfl
theorem q1387 : (Jvm.Cond.stringRef "OldLightModel" (27 : Nat) "cyb") ∈ lw_tbl := lw_at lw_m6 114 rfl
theorem q1388 : (Jvm.Cond.stringRef "OldLightModel" (29 : Nat) "dmh") ∈ lw_tbl := lw_at lw_m6 115 rfl
theorem q1389 : (Jvm.Cond.methodLink "OldLightModel" (59 : Nat) ({ cls := "OldLightModel", name := "flat", desc := "(I)I" } : Jvm.MethodName)) ∈ lw_all := lw_g (lw_at lw_m6 116 rfl) rfl
theorem q1390 : (Jvm.Cond.privateMethod ({ cls := "OldLightModel", name := "flat", desc := "(I)I" } : Jvm.MethodName)) ∈ lw_tbl := lw_at lw_m6 117 rfl
theorem q1391 : (Jvm.Cond.instanceMethod ({ cls := "OldLightModel", name := "flat", desc := "(I)I" } : Jvm.MethodName)) ∈ lw_all := lw_g (lw_at lw_m6 118 rfl) rfl
theorem q1392 : (Jvm.Cond.code ({ cls := "OldLightModel", name := "flat", desc := "(I)I" } : Jvm.MethodName) prog_30_method_36_code (3 : Nat) (Option.some Jvm.ClassFile.FieldType.int)) ∈ lw_all := lw_g (lw_at lw_m6 119 rfl) rfl
theorem q1393 : (Jvm.Cond.methodLink "OldLightModel" (165 : Nat) ({ cls := "OldLightModel", name := "cellAt", desc := "(II)I" } : Jvm.MethodName)) ∈ lw_all := lw_g (lw_at lw_m6 120 rfl) rfl
theorem q1394 : (Jvm.Cond.static ({ cls := "OldLightModel", name := "cellAt", desc := "(II)I" } : Jvm.MethodName)) ∈ lw_all := lw_g (lw_at lw_m6 121 rfl) rfl
theorem q1395 : (Jvm.Cond.code ({ cls := "OldLightModel", name := "cellAt", desc := "(II)I" } : Jvm.MethodName) prog_30_method_32_code (2 : Nat) (Option.some Jvm.ClassFile.FieldType.int)) ∈ lw_all := lw_g (lw_at lw_m6 122 rfl) rfl
theorem q1396 : (Jvm.Cond.methodLink "OldLightModel" (145 : Nat) ({ cls := "OldLightModel", name := "forgetDepths", desc := "()V" } : Jvm.MethodName)) ∈ lw_all := lw_g (lw_at lw_m6 123 rfl) rfl
theorem q1397 : (Jvm.Cond.privateMethod ({ cls := "OldLightModel", name := "forgetDepths", desc := "()V" } : Jvm.MethodName)) ∈ lw_tbl := lw_at lw_m6 124 rfl
theorem q1398 : (Jvm.Cond.instanceMethod ({ cls := "OldLightModel", name := "forgetDepths", desc := "()V" } : Jvm.MethodName)) ∈ lw_all := lw_g (lw_at lw_m6 125 rfl) rfl
theorem q1399 : (Jvm.Cond.code ({ cls := "OldLightModel", name := "forgetDepths", desc := "()V" } : Jvm.MethodName) prog_30_method_27_code (2 : Nat) (Option.none : Option Jvm.ClassFile.FieldType)) ∈ lw_all := lw_g (lw_at lw_m6 126 rfl) rfl
theorem q1400 : (Jvm.Cond.methodLink "OldLightModel" (171 : Nat) ({ cls := "OldLightModel", name := "turn", desc := "(II)I" } : Jvm.MethodName)) ∈ lw_all := lw_g (lw_at lw_m6 127 rfl) rfl
theorem q1401 : (Jvm.Cond.privateMethod ({ cls := "OldLightModel", name := "turn", desc := "(II)I" } : Jvm.MethodName)) ∈ lw_tbl := lw_at lw_m6 128 rfl
theorem q1402 : (Jvm.Cond.instanceMethod ({ cls := "OldLightModel", name := "turn", desc := "(II)I" } : Jvm.MethodName)) ∈ lw_all := lw_g (lw_at lw_m6 129 rfl) rfl
theorem q1403 : (Jvm.Cond.code ({ cls := "OldLightModel", name := "turn", desc := "(II)I" } : Jvm.MethodName) prog_30_method_6_code (4 : Nat) (Option.some Jvm.ClassFile.FieldType.int)) ∈ lw_all := lw_g (lw_at lw_m6 130 rfl) rfl
theorem q1404 : (Jvm.Cond.fieldLink "OldLightModel" (9 : Nat) "OldLightModel" "now" "[I") ∈ lw_all := lw_g (lw_at lw_m6 131 rfl) rfl
theorem q1405 : (Jvm.Cond.fieldLink "OldLightModel" (13 : Nat) "OldLightModel" "kept" "[I") ∈ lw_all := lw_g (lw_at lw_m6 132 rfl) rfl
theorem q1406 : (Jvm.Cond.fieldLink "OldLightModel" (16 : Nat) "OldLightModel" "aside" "[I") ∈ lw_all := lw_g (lw_at lw_m6 133 rfl) rfl
theorem q1407 : (Jvm.Cond.fieldLink "OldLightModel" (299 : Nat) "OldLightModel" "images" "I") ∈ lw_all := lw_g (lw_at lw_m6 134 rfl) rfl
theorem q1408 : (Jvm.Cond.fieldLink "OldLightModel" (19 : Nat) "OldLightModel" "errors" "[I") ∈ lw_all := lw_g (lw_at lw_m6 135 rfl) rfl
theorem q1409 : (Jvm.Cond.fieldLink "OldLightModel" (22 : Nat) "OldLightModel" "depthFound" "[I") ∈ lw_all := lw_g (lw_at lw_m6 136 rfl) rfl
theorem q1410 : (Jvm.Cond.fieldLink "OldLightModel" (31 : Nat) "OldLightModel" "NAMED" "[Ljava/lang/String;") ∈ lw_all := lw_g (lw_at lw_m6 137 rfl) rfl
theorem q1411 : (Jvm.Cond.fieldLink "OldLightModel" (92 : Nat) "OldLightModel" "at" "I") ∈ lw_all := lw_g (lw_at lw_m6 138 rfl) rfl
theorem q1412 : (Jvm.Cond.fieldLink "OldLightModel" (136 : Nat) "OldLightModel" "open" "I") ∈ lw_all := lw_g (lw_at lw_m6 139 rfl) rfl
theorem q1413 : (Jvm.Cond.fieldLink "OldLightModel" (126 : Nat) "OldLightModel" "use" "I") ∈ lw_all := lw_g (lw_at lw_m6 140 rfl) rfl
theorem q1414 : (Jvm.Cond.fieldLink "OldLightModel" (88 : Nat) "OldLightModel" "isWrong" "Z") ∈ lw_all := lw_g (lw_at lw_m6 141 rfl) rfl
theorem q1415 : (Jvm.Cond.fieldLink "OldLightModel" (35 : Nat) "OldLightModel" "code" "[I") ∈ lw_all := lw_g (lw_at lw_m6 142 rfl) rfl
theorem q1416 : (Jvm.Cond.fieldLink "OldLightModel" (100 : Nat) "OldLightModel" "coded" "I") ∈ lw_all := lw_g (lw_at lw_m6 143 rfl) rfl
theorem q1417 : (Jvm.Cond.fieldLink "OldLightModel" (38 : Nat) "OldLightModel" "named" "[I") ∈ lw_all := lw_g (lw_at lw_m6 144 rfl) rfl
theorem q1418 : (Jvm.Cond.fieldLink "OldLightModel" (41 : Nat) "OldLightModel" "pile" "[I") ∈ lw_all := lw_g (lw_at lw_m6 145 rfl) rfl
theorem q1419 : (Jvm.Cond.fieldLink "OldLightModel" (44 : Nat) "OldLightModel" "trace" "[I") ∈ lw_all := lw_g (lw_at lw_m6 146 rfl) rfl
theorem q1420 : (Jvm.Cond.fieldLink "OldLightModel" (269 : Nat) "OldLightModel" "traced" "I") ∈ lw_all := lw_g (lw_at lw_m6 147 rfl) rfl
theorem q1421 : (Jvm.Cond.fieldLink "OldLightModel" (272 : Nat) "OldLightModel" "kind" "I") ∈ lw_all := lw_g (lw_at lw_m6 148 rfl) rfl
theorem q1422 : (Jvm.Cond.fieldLink "OldLightModel" (278 : Nat) "OldLightModel" "number" "I") ∈ lw_all := lw_g (lw_at lw_m6 149 rfl) rfl
theorem q1423 : (Jvm.Cond.fieldLink "OldLightModel" (287 : Nat) "OldLightModel" "told" "I") ∈ lw_all := lw_g (lw_at lw_m6 150 rfl) rfl
theorem q1424 : (Jvm.Cond.fieldLink "OldLightModel" (47 : Nat) "OldLightModel" "widths" "[I") ∈ lw_all := lw_g (lw_at lw_m6 151 rfl) rfl
theorem q1425 : (Jvm.Cond.fieldLink "OldLightModel" (50 : Nat) "OldLightModel" "sizes" "[I") ∈ lw_all := lw_g (lw_at lw_m6 152 rfl) rfl
theorem q1426 : (Jvm.Cond.fieldLink "OldLightModel" (53 : Nat) "OldLightModel" "numbers" "[I") ∈ lw_all := lw_g (lw_at lw_m6 153 rfl) rfl
theorem q1427 : (Jvm.Cond.fieldLink "OldLightModel" (56 : Nat) "OldLightModel" "carried" "[I") ∈ lw_all := lw_g (lw_at lw_m6 154 rfl) rfl
theorem q1428 : (Jvm.Cond.laysFinal "OldLightModel" "OldLightModel" "now" "[I") ∈ lw_all := lw_g (lw_at lw_m6 155 rfl) rfl
theorem q1429 : (Jvm.Cond.soleField "OldLightModel" "now") ∈ lw_all := lw_g (lw_at lw_m6 156 rfl) rfl
theorem q1430 : (Jvm.Cond.laysFinal "OldLightModel" "OldLightModel" "kept" "[I") ∈ lw_all := lw_g (lw_at lw_m6 157 rfl) rfl
theorem q1431 : (Jvm.Cond.soleField "OldLightModel" "kept") ∈ lw_all := lw_g (lw_at lw_m6 158 rfl) rfl
theorem q1432 : (Jvm.Cond.laysFinal "OldLightModel" "OldLightModel" "aside" "[I") ∈ lw_all := lw_g (lw_at lw_m6 159 rfl) rfl
theorem q1433 : (Jvm.Cond.soleField "OldLightModel" "aside") ∈ lw_all := lw_g (lw_at lw_m6 160 rfl) rfl
theorem q1434 : (Jvm.Cond.lays "OldLightModel" "OldLightModel" "images" "I") ∈ lw_all := lw_g (lw_at lw_m6 161 rfl) rfl
theorem q1435 : (Jvm.Cond.soleField "OldLightModel" "images") ∈ lw_all := lw_g (lw_at lw_m6 162 rfl) rfl
theorem q1436 : (Jvm.Cond.laysFinal "OldLightModel" "OldLightModel" "errors" "[I") ∈ lw_all := lw_g (lw_at lw_m6 163 rfl) rfl
theorem q1437 : (Jvm.Cond.soleField "OldLightModel" "errors") ∈ lw_all := lw_g (lw_at lw_m6 164 rfl) rfl
theorem q1438 : (Jvm.Cond.laysFinal "OldLightModel" "OldLightModel" "depthFound" "[I") ∈ lw_all := lw_g (lw_at lw_m6 165 rfl) rfl
theorem q1439 : (Jvm.Cond.soleField "OldLightModel" "depthFound") ∈ lw_all := lw_g (lw_at lw_m6 166 rfl) rfl
theorem q1440 : (Jvm.Cond.laysFinal "OldLightModel" "OldLightModel" "NAMED" "[Ljava/lang/String;") ∈ lw_all := lw_g (lw_at lw_m6 167 rfl) rfl
theorem q1441 : (Jvm.Cond.soleField "OldLightModel" "NAMED") ∈ lw_all := lw_g (lw_at lw_m6 168 rfl) rfl
theorem q1442 : (Jvm.Cond.lays "OldLightModel" "OldLightModel" "at" "I") ∈ lw_all := lw_g (lw_at lw_m6 169 rfl) rfl
theorem q1443 : (Jvm.Cond.soleField "OldLightModel" "at") ∈ lw_all := lw_g (lw_at lw_m6 170 rfl) rfl
theorem q1444 : (Jvm.Cond.lays "OldLightModel" "OldLightModel" "open" "I") ∈ lw_all := lw_g (lw_at lw_m6 171 rfl) rfl
theorem q1445 : (Jvm.Cond.soleField "OldLightModel" "open") ∈ lw_all := lw_g (lw_at lw_m6 172 rfl) rfl
theorem q1446 : (Jvm.Cond.lays "OldLightModel" "OldLightModel" "use" "I") ∈ lw_all := lw_g (lw_at lw_m6 173 rfl) rfl
theorem q1447 : (Jvm.Cond.soleField "OldLightModel" "use") ∈ lw_all := lw_g (lw_at lw_m6 174 rfl) rfl
theorem q1448 : (Jvm.Cond.lays "OldLightModel" "OldLightModel" "isWrong" "Z") ∈ lw_all := lw_g (lw_at lw_m6 175 rfl) rfl
theorem q1449 : (Jvm.Cond.soleField "OldLightModel" "isWrong") ∈ lw_all := lw_g (lw_at lw_m6 176 rfl) rfl
theorem q1450 : (Jvm.Cond.laysFinal "OldLightModel" "OldLightModel" "code" "[I") ∈ lw_all := lw_g (lw_at lw_m6 177 rfl) rfl
theorem q1451 : (Jvm.Cond.soleField "OldLightModel" "code") ∈ lw_all := lw_g (lw_at lw_m6 178 rfl) rfl
theorem q1452 : (Jvm.Cond.lays "OldLightModel" "OldLightModel" "coded" "I") ∈ lw_all := lw_g (lw_at lw_m6 179 rfl) rfl
theorem q1453 : (Jvm.Cond.soleField "OldLightModel" "coded") ∈ lw_all := lw_g (lw_at lw_m6 180 rfl) rfl
theorem q1454 : (Jvm.Cond.laysFinal "OldLightModel" "OldLightModel" "named" "[I") ∈ lw_all := lw_g (lw_at lw_m6 181 rfl) rfl
theorem q1455 : (Jvm.Cond.soleField "OldLightModel" "named") ∈ lw_all := lw_g (lw_at lw_m6 182 rfl) rfl
theorem q1456 : (Jvm.Cond.laysFinal "OldLightModel" "OldLightModel" "pile" "[I") ∈ lw_all := lw_g (lw_at lw_m6 183 rfl) rfl
theorem q1457 : (Jvm.Cond.soleField "OldLightModel" "pile") ∈ lw_all := lw_g (lw_at lw_m6 184 rfl) rfl
theorem q1458 : (Jvm.Cond.laysFinal "OldLightModel" "OldLightModel" "trace" "[I") ∈ lw_all := lw_g (lw_at lw_m6 185 rfl) rfl
theorem q1459 : (Jvm.Cond.soleField "OldLightModel" "trace") ∈ lw_all := lw_g (lw_at lw_m6 186 rfl) rfl
theorem q1460 : (Jvm.Cond.lays "OldLightModel" "OldLightModel" "traced" "I") ∈ lw_all := lw_g (lw_at lw_m6 187 rfl) rfl
theorem q1461 : (Jvm.Cond.soleField "OldLightModel" "traced") ∈ lw_all := lw_g (lw_at lw_m6 188 rfl) rfl
theorem q1462 : (Jvm.Cond.lays "OldLightModel" "OldLightModel" "kind" "I") ∈ lw_all := lw_g (lw_at lw_m6 189 rfl) rfl
theorem q1463 : (Jvm.Cond.soleField "OldLightModel" "kind") ∈ lw_all := lw_g (lw_at lw_m6 190 rfl) rfl
theorem q1464 : (Jvm.Cond.lays "OldLightModel" "OldLightModel" "number" "I") ∈ lw_all := lw_g (lw_at lw_m6 191 rfl) rfl
theorem q1465 : (Jvm.Cond.soleField "OldLightModel" "number") ∈ lw_all := lw_g (lw_at lw_m6 192 rfl) rfl
theorem q1466 : (Jvm.Cond.lays "OldLightModel" "OldLightModel" "told" "I") ∈ lw_all := lw_g (lw_at lw_m6 193 rfl) rfl
theorem q1467 : (Jvm.Cond.soleField "OldLightModel" "told") ∈ lw_all := lw_g (lw_at lw_m6 194 rfl) rfl
theorem q1468 : (Jvm.Cond.laysFinal "OldLightModel" "OldLightModel" "widths" "[I") ∈ lw_all := lw_g (lw_at lw_m6 195 rfl) rfl
theorem q1469 : (Jvm.Cond.soleField "OldLightModel" "widths") ∈ lw_all := lw_g (lw_at lw_m6 196 rfl) rfl
theorem q1470 : (Jvm.Cond.laysFinal "OldLightModel" "OldLightModel" "sizes" "[I") ∈ lw_all := lw_g (lw_at lw_m6 197 rfl) rfl
theorem q1471 : (Jvm.Cond.soleField "OldLightModel" "sizes") ∈ lw_all := lw_g (lw_at lw_m6 198 rfl) rfl
theorem q1472 : (Jvm.Cond.laysFinal "OldLightModel" "OldLightModel" "numbers" "[I") ∈ lw_all := lw_g (lw_at lw_m6 199 rfl) rfl
theorem q1473 : (Jvm.Cond.soleField "OldLightModel" "numbers") ∈ lw_all := lw_g (lw_at lw_m6 200 rfl) rfl
theorem q1474 : (Jvm.Cond.laysFinal "OldLightModel" "OldLightModel" "carried" "[I") ∈ lw_all := lw_g (lw_at lw_m6 201 rfl) rfl
theorem q1475 : (Jvm.Cond.soleField "OldLightModel" "carried") ∈ lw_all := lw_g (lw_at lw_m6 202 rfl) rfl
theorem q1476 : (Jvm.Cond.superclass "OldLightModel" "java/lang/Object") ∈ lw_all := lw_g (lw_at lw_m6 203 rfl) rfl
theorem q1478 : (Jvm.Cond.instanceMethod ({ cls := "OldLightModel", name := "feed", desc := "(JI)I" } : Jvm.MethodName)) ∈ lw_all := lw_g (lw_at lw_m6 205 rfl) rfl
theorem q1479 : (Jvm.Cond.selects "OldLightModel" ({ cls := "OldLightModel", name := "feed", desc := "(JI)I" } : Jvm.MethodName) ({ cls := "OldLightModel", name := "feed", desc := "(JI)I" } : Jvm.MethodName)) ∈ lw_all := lw_g (lw_at lw_m6 206 rfl) rfl
theorem q1480 : (Jvm.Cond.code ({ cls := "OldLightModel", name := "feed", desc := "(JI)I" } : Jvm.MethodName) prog_30_method_8_code (5 : Nat) (Option.some Jvm.ClassFile.FieldType.int)) ∈ lw_all := lw_g (lw_at lw_m6 207 rfl) rfl
theorem q1481 : (Jvm.Cond.methodLink "OldLightModel" (77 : Nat) ({ cls := "OldLightModel", name := "within", desc := "(III)Z" } : Jvm.MethodName)) ∈ lw_all := lw_g (lw_at lw_m6 208 rfl) rfl
theorem q1482 : (Jvm.Cond.static ({ cls := "OldLightModel", name := "within", desc := "(III)Z" } : Jvm.MethodName)) ∈ lw_all := lw_g (lw_at lw_m6 209 rfl) rfl
theorem q1483 : (Jvm.Cond.code ({ cls := "OldLightModel", name := "within", desc := "(III)Z" } : Jvm.MethodName) prog_30_method_3_code (3 : Nat) (Option.some Jvm.ClassFile.FieldType.boolean)) ∈ lw_all := lw_g (lw_at lw_m6 210 rfl) rfl
theorem q1484 : (Jvm.Cond.constant "OldLightModel" (81 : Nat) (-1000000001 : Int32)) ∈ lw_all := lw_g (lw_at lw_m6 211 rfl) rfl
theorem q1485 : (Jvm.Cond.methodLink "OldLightModel" (82 : Nat) ({ cls := "OldLightModel", name := "finding", desc := "(I)I" } : Jvm.MethodName)) ∈ lw_all := lw_g (lw_at lw_m6 212 rfl) rfl
theorem q1486 : (Jvm.Cond.privateMethod ({ cls := "OldLightModel", name := "finding", desc := "(I)I" } : Jvm.MethodName)) ∈ lw_tbl := lw_at lw_m6 213 rfl
theorem q1487 : (Jvm.Cond.instanceMethod ({ cls := "OldLightModel", name := "finding", desc := "(I)I" } : Jvm.MethodName)) ∈ lw_all := lw_g (lw_at lw_m6 214 rfl) rfl
theorem q1488 : (Jvm.Cond.code ({ cls := "OldLightModel", name := "finding", desc := "(I)I" } : Jvm.MethodName) prog_30_method_2_code (2 : Nat) (Option.some Jvm.ClassFile.FieldType.int)) ∈ lw_all := lw_g (lw_at lw_m6 215 rfl) rfl
theorem q1489 : (Jvm.Cond.constant "OldLightModel" (63 : Nat) (-1000000000 : Int32)) ∈ lw_all := lw_g (lw_at lw_m6 216 rfl) rfl
theorem q1490 : (Jvm.Cond.constant "OldLightModel" (85 : Nat) (-1000000004 : Int32)) ∈ lw_all := lw_g (lw_at lw_m6 217 rfl) rfl
theorem q1491 : (Jvm.Cond.constantLong "OldLightModel" (86 : Nat) (255 : Int64)) ∈ lw_all := lw_g (lw_at lw_m6 218 rfl) rfl
theorem q1493 : (Jvm.Cond.instanceMethod ({ cls := "OldLightModel", name := "text", desc := "(I)I" } : Jvm.MethodName)) ∈ lw_all := lw_g (lw_at lw_m6 220 rfl) rfl
theorem q1494 : (Jvm.Cond.selects "OldLightModel" ({ cls := "OldLightModel", name := "text", desc := "(I)I" } : Jvm.MethodName) ({ cls := "OldLightModel", name := "text", desc := "(I)I" } : Jvm.MethodName)) ∈ lw_all := lw_g (lw_at lw_m6 221 rfl) rfl
theorem q1495 : (Jvm.Cond.code ({ cls := "OldLightModel", name := "text", desc := "(I)I" } : Jvm.MethodName) prog_30_method_19_code (3 : Nat) (Option.some Jvm.ClassFile.FieldType.int)) ∈ lw_all := lw_g (lw_at lw_m6 222 rfl) rfl
theorem q1496 : (Jvm.Cond.methodLink "OldLightModel" (139 : Nat) ({ cls := "OldLightModel", name := "either", desc := "()V" } : Jvm.MethodName)) ∈ lw_all := lw_g (lw_at lw_m6 223 rfl) rfl
theorem q1497 : (Jvm.Cond.privateMethod ({ cls := "OldLightModel", name := "either", desc := "()V" } : Jvm.MethodName)) ∈ lw_tbl := lw_at lw_m6 224 rfl
theorem q1498 : (Jvm.Cond.instanceMethod ({ cls := "OldLightModel", name := "either", desc := "()V" } : Jvm.MethodName)) ∈ lw_all := lw_g (lw_at lw_m6 225 rfl) rfl
theorem q1499 : (Jvm.Cond.code ({ cls := "OldLightModel", name := "either", desc := "()V" } : Jvm.MethodName) prog_30_method_12_code (1 : Nat) (Option.none : Option Jvm.ClassFile.FieldType)) ∈ lw_all := lw_g (lw_at lw_m6 226 rfl) rfl
theorem q1500 : (Jvm.Cond.methodLink "OldLightModel" (103 : Nat) ({ cls := "OldLightModel", name := "both", desc := "()V" } : Jvm.MethodName)) ∈ lw_all := lw_g (lw_at lw_m6 227 rfl) rfl
theorem q1501 : (Jvm.Cond.privateMethod ({ cls := "OldLightModel", name := "both", desc := "()V" } : Jvm.MethodName)) ∈ lw_tbl := lw_at lw_m6 228 rfl
theorem q1502 : (Jvm.Cond.instanceMethod ({ cls := "OldLightModel", name := "both", desc := "()V" } : Jvm.MethodName)) ∈ lw_all := lw_g (lw_at lw_m6 229 rfl) rfl
theorem q1503 : (Jvm.Cond.code ({ cls := "OldLightModel", name := "both", desc := "()V" } : Jvm.MethodName) prog_30_method_13_code (1 : Nat) (Option.none : Option Jvm.ClassFile.FieldType)) ∈ lw_all := lw_g (lw_at lw_m6 230 rfl) rfl
theorem q1504 : (Jvm.Cond.methodLink "OldLightModel" (114 : Nat) ({ cls := "OldLightModel", name := "compared", desc := "()V" } : Jvm.MethodName)) ∈ lw_all := lw_g (lw_at lw_m6 231 rfl) rfl
theorem q1505 : (Jvm.Cond.privateMethod ({ cls := "OldLightModel", name := "compared", desc := "()V" } : Jvm.MethodName)) ∈ lw_tbl := lw_at lw_m6 232 rfl
theorem q1506 : (Jvm.Cond.instanceMethod ({ cls := "OldLightModel", name := "compared", desc := "()V" } : Jvm.MethodName)) ∈ lw_all := lw_g (lw_at lw_m6 233 rfl) rfl
theorem q1507 : (Jvm.Cond.code ({ cls := "OldLightModel", name := "compared", desc := "()V" } : Jvm.MethodName) prog_30_method_14_code (2 : Nat) (Option.none : Option Jvm.ClassFile.FieldType)) ∈ lw_all := lw_g (lw_at lw_m6 234 rfl) rfl
theorem q1508 : (Jvm.Cond.methodLink "OldLightModel" (117 : Nat) ({ cls := "OldLightModel", name := "sum", desc := "()V" } : Jvm.MethodName)) ∈ lw_all := lw_g (lw_at lw_m6 235 rfl) rfl
theorem q1509 : (Jvm.Cond.privateMethod ({ cls := "OldLightModel", name := "sum", desc := "()V" } : Jvm.MethodName)) ∈ lw_tbl := lw_at lw_m6 236 rfl
theorem q1510 : (Jvm.Cond.instanceMethod ({ cls := "OldLightModel", name := "sum", desc := "()V" } : Jvm.MethodName)) ∈ lw_all := lw_g (lw_at lw_m6 237 rfl) rfl
theorem q1511 : (Jvm.Cond.code ({ cls := "OldLightModel", name := "sum", desc := "()V" } : Jvm.MethodName) prog_30_method_15_code (2 : Nat) (Option.none : Option Jvm.ClassFile.FieldType)) ∈ lw_all := lw_g (lw_at lw_m6 238 rfl) rfl
theorem q1512 : (Jvm.Cond.methodLink "OldLightModel" (120 : Nat) ({ cls := "OldLightModel", name := "product", desc := "()V" } : Jvm.MethodName)) ∈ lw_all := lw_g (lw_at lw_m6 239 rfl) rfl
theorem q1513 : (Jvm.Cond.privateMethod ({ cls := "OldLightModel", name := "product", desc := "()V" } : Jvm.MethodName)) ∈ lw_tbl := lw_at lw_m7 0 rfl
theorem q1514 : (Jvm.Cond.instanceMethod ({ cls := "OldLightModel", name := "product", desc := "()V" } : Jvm.MethodName)) ∈ lw_all := lw_g (lw_at lw_m7 1 rfl) rfl
theorem q1515 : (Jvm.Cond.code ({ cls := "OldLightModel", name := "product", desc := "()V" } : Jvm.MethodName) prog_30_method_16_code (2 : Nat) (Option.none : Option Jvm.ClassFile.FieldType)) ∈ lw_all := lw_g (lw_at lw_m7 2 rfl) rfl
theorem q1516 : (Jvm.Cond.methodLink "OldLightModel" (123 : Nat) ({ cls := "OldLightModel", name := "one", desc := "()V" } : Jvm.MethodName)) ∈ lw_all := lw_g (lw_at lw_m7 3 rfl) rfl
theorem q1517 : (Jvm.Cond.privateMethod ({ cls := "OldLightModel", name := "one", desc := "()V" } : Jvm.MethodName)) ∈ lw_tbl := lw_at lw_m7 4 rfl
theorem q1518 : (Jvm.Cond.instanceMethod ({ cls := "OldLightModel", name := "one", desc := "()V" } : Jvm.MethodName)) ∈ lw_all := lw_g (lw_at lw_m7 5 rfl) rfl
theorem q1519 : (Jvm.Cond.code ({ cls := "OldLightModel", name := "one", desc := "()V" } : Jvm.MethodName) prog_30_method_18_code (4 : Nat) (Option.none : Option Jvm.ClassFile.FieldType)) ∈ lw_all := lw_g (lw_at lw_m7 6 rfl) rfl
theorem q1520 : (Jvm.Cond.methodLink "OldLightModel" (96 : Nat) ({ cls := "OldLightModel", name := "here", desc := "()I" } : Jvm.MethodName)) ∈ lw_all := lw_g (lw_at lw_m7 7 rfl) rfl
theorem q1521 : (Jvm.Cond.privateMethod ({ cls := "OldLightModel", name := "here", desc := "()I" } : Jvm.MethodName)) ∈ lw_tbl := lw_at lw_m7 8 rfl
theorem q1522 : (Jvm.Cond.instanceMethod ({ cls := "OldLightModel", name := "here", desc := "()I" } : Jvm.MethodName)) ∈ lw_all := lw_g (lw_at lw_m7 9 rfl) rfl
theorem q1523 : (Jvm.Cond.code ({ cls := "OldLightModel", name := "here", desc := "()I" } : Jvm.MethodName) prog_30_method_9_code (1 : Nat) (Option.some Jvm.ClassFile.FieldType.int)) ∈ lw_all := lw_g (lw_at lw_m7 10 rfl) rfl
theorem q1524 : (Jvm.Cond.methodLink "OldLightModel" (110 : Nat) ({ cls := "OldLightModel", name := "codes", desc := "(I)V" } : Jvm.MethodName)) ∈ lw_all := lw_g (lw_at lw_m7 11 rfl) rfl
theorem q1525 : (Jvm.Cond.privateMethod ({ cls := "OldLightModel", name := "codes", desc := "(I)V" } : Jvm.MethodName)) ∈ lw_tbl := lw_at lw_m7 12 rfl
theorem q1526 : (Jvm.Cond.instanceMethod ({ cls := "OldLightModel", name := "codes", desc := "(I)V" } : Jvm.MethodName)) ∈ lw_all := lw_g (lw_at lw_m7 13 rfl) rfl
theorem q1527 : (Jvm.Cond.code ({ cls := "OldLightModel", name := "codes", desc := "(I)V" } : Jvm.MethodName) prog_30_method_11_code (2 : Nat) (Option.none : Option Jvm.ClassFile.FieldType)) ∈ lw_all := lw_g (lw_at lw_m7 14 rfl) rfl
theorem q1528 : (Jvm.Cond.methodLink "OldLightModel" (106 : Nat) ({ cls := "OldLightModel", name := "takes", desc := "(I)Z" } : Jvm.MethodName)) ∈ lw_all := lw_g (lw_at lw_m7 15 rfl) rfl
theorem q1529 : (Jvm.Cond.privateMethod ({ cls := "OldLightModel", name := "takes", desc := "(I)Z" } : Jvm.MethodName)) ∈ lw_tbl := lw_at lw_m7 16 rfl
theorem q1530 : (Jvm.Cond.instanceMethod ({ cls := "OldLightModel", name := "takes", desc := "(I)Z" } : Jvm.MethodName)) ∈ lw_all := lw_g (lw_at lw_m7 17 rfl) rfl
theorem q1531 : (Jvm.Cond.code ({ cls := "OldLightModel", name := "takes", desc := "(I)Z" } : Jvm.MethodName) prog_30_method_10_code (3 : Nat) (Option.some Jvm.ClassFile.FieldType.boolean)) ∈ lw_all := lw_g (lw_at lw_m7 18 rfl) rfl
theorem q1532 : (Jvm.Cond.methodLink "OldLightModel" (142 : Nat) ({ cls := "OldLightModel", name := "nameOf", desc := "(I)I" } : Jvm.MethodName)) ∈ lw_all := lw_g (lw_at lw_m7 19 rfl) rfl
theorem q1533 : (Jvm.Cond.privateMethod ({ cls := "OldLightModel", name := "nameOf", desc := "(I)I" } : Jvm.MethodName)) ∈ lw_tbl := lw_at lw_m7 20 rfl
theorem q1534 : (Jvm.Cond.instanceMethod ({ cls := "OldLightModel", name := "nameOf", desc := "(I)I" } : Jvm.MethodName)) ∈ lw_all := lw_g (lw_at lw_m7 21 rfl) rfl
theorem q1535 : (Jvm.Cond.code ({ cls := "OldLightModel", name := "nameOf", desc := "(I)I" } : Jvm.MethodName) prog_30_method_17_code (4 : Nat) (Option.some Jvm.ClassFile.FieldType.int)) ∈ lw_all := lw_g (lw_at lw_m7 22 rfl) rfl
theorem q1536 : (Jvm.Cond.methodLink "OldLightModel" (129 : Nat) ({ cls := "java/lang/String", name := "length", desc := "()I" } : Jvm.MethodName)) ∈ lw_all := lw_g (lw_at lw_m7 23 rfl) rfl
theorem q1537 : (Jvm.Cond.methodLink "OldLightModel" (132 : Nat) ({ cls := "java/lang/String", name := "charAt", desc := "(I)C" } : Jvm.MethodName)) ∈ lw_all := lw_g (lw_at lw_m7 24 rfl) rfl
theorem q1558 : (Jvm.Cond.instanceMethod ({ cls := "OldLightModel", name := "law", desc := "(IIII)I" } : Jvm.MethodName)) ∈ lw_all := lw_g (lw_at lw_m7 45 rfl) rfl
theorem q1559 : (Jvm.Cond.selects "OldLightModel" ({ cls := "OldLightModel", name := "law", desc := "(IIII)I" } : Jvm.MethodName) ({ cls := "OldLightModel", name := "law", desc := "(IIII)I" } : Jvm.MethodName)) ∈ lw_all := lw_g (lw_at lw_m7 46 rfl) rfl
theorem q1560 : (Jvm.Cond.code ({ cls := "OldLightModel", name := "law", desc := "(IIII)I" } : Jvm.MethodName) prog_30_method_24_code (5 : Nat) (Option.some Jvm.ClassFile.FieldType.int)) ∈ lw_all := lw_g (lw_at lw_m7 47 rfl) rfl
theorem q1561 : (Jvm.Cond.methodLink "OldLightModel" (161 : Nat) ({ cls := "OldLightModel", name := "given", desc := "(IIII)I" } : Jvm.MethodName)) ∈ lw_all := lw_g (lw_at lw_m7 48 rfl) rfl
theorem q1562 : (Jvm.Cond.privateMethod ({ cls := "OldLightModel", name := "given", desc := "(IIII)I" } : Jvm.MethodName)) ∈ lw_tbl := lw_at lw_m7 49 rfl
theorem q1563 : (Jvm.Cond.instanceMethod ({ cls := "OldLightModel", name := "given", desc := "(IIII)I" } : Jvm.MethodName)) ∈ lw_all := lw_g (lw_at lw_m7 50 rfl) rfl
theorem q1564 : (Jvm.Cond.code ({ cls := "OldLightModel", name := "given", desc := "(IIII)I" } : Jvm.MethodName) prog_30_method_23_code (6 : Nat) (Option.some Jvm.ClassFile.FieldType.int)) ∈ lw_all := lw_g (lw_at lw_m7 51 rfl) rfl
theorem q1565 : (Jvm.Cond.methodLink "OldLightModel" (152 : Nat) ({ cls := "OldLightModel", name := "hasText", desc := "(I)Z" } : Jvm.MethodName)) ∈ lw_all := lw_g (lw_at lw_m7 52 rfl) rfl
theorem q1566 : (Jvm.Cond.privateMethod ({ cls := "OldLightModel", name := "hasText", desc := "(I)Z" } : Jvm.MethodName)) ∈ lw_tbl := lw_at lw_m7 53 rfl
theorem q1567 : (Jvm.Cond.instanceMethod ({ cls := "OldLightModel", name := "hasText", desc := "(I)Z" } : Jvm.MethodName)) ∈ lw_all := lw_g (lw_at lw_m7 54 rfl) rfl
theorem q1568 : (Jvm.Cond.code ({ cls := "OldLightModel", name := "hasText", desc := "(I)Z" } : Jvm.MethodName) prog_30_method_22_code (2 : Nat) (Option.some Jvm.ClassFile.FieldType.boolean)) ∈ lw_all := lw_g (lw_at lw_m7 55 rfl) rfl
theorem q1569 : (Jvm.Cond.methodLink "OldLightModel" (155 : Nat) ({ cls := "OldLightModel", name := "worked", desc := "(I)I" } : Jvm.MethodName)) ∈ lw_all := lw_g (lw_at lw_m7 56 rfl) rfl
theorem q1570 : (Jvm.Cond.privateMethod ({ cls := "OldLightModel", name := "worked", desc := "(I)I" } : Jvm.MethodName)) ∈ lw_tbl := lw_at lw_m7 57 rfl
theorem q1571 : (Jvm.Cond.instanceMethod ({ cls := "OldLightModel", name := "worked", desc := "(I)I" } : Jvm.MethodName)) ∈ lw_all := lw_g (lw_at lw_m7 58 rfl) rfl
theorem q1572 : (Jvm.Cond.code ({ cls := "OldLightModel", name := "worked", desc := "(I)I" } : Jvm.MethodName) prog_30_method_21_code (5 : Nat) (Option.some Jvm.ClassFile.FieldType.int)) ∈ lw_all := lw_g (lw_at lw_m7 59 rfl) rfl
theorem q1573 : (Jvm.Cond.methodLink "OldLightModel" (148 : Nat) ({ cls := "OldLightModel", name := "done", desc := "(III)I" } : Jvm.MethodName)) ∈ lw_all := lw_g (lw_at lw_m7 60 rfl) rfl
theorem q1574 : (Jvm.Cond.static ({ cls := "OldLightModel", name := "done", desc := "(III)I" } : Jvm.MethodName)) ∈ lw_all := lw_g (lw_at lw_m7 61 rfl) rfl
theorem q1575 : (Jvm.Cond.code ({ cls := "OldLightModel", name := "done", desc := "(III)I" } : Jvm.MethodName) prog_30_method_20_code (3 : Nat) (Option.some Jvm.ClassFile.FieldType.int)) ∈ lw_all := lw_g (lw_at lw_m7 62 rfl) rfl
theorem q1576 : (Jvm.Cond.methodLink "OldLightModel" (158 : Nat) ({ cls := "OldLightModel", name := "held", desc := "(III)I" } : Jvm.MethodName)) ∈ lw_all := lw_g (lw_at lw_m7 63 rfl) rfl
theorem q1577 : (Jvm.Cond.static ({ cls := "OldLightModel", name := "held", desc := "(III)I" } : Jvm.MethodName)) ∈ lw_all := lw_g (lw_at lw_m7 64 rfl) rfl
theorem q1578 : (Jvm.Cond.code ({ cls := "OldLightModel", name := "held", desc := "(III)I" } : Jvm.MethodName) prog_30_method_4_code (3 : Nat) (Option.some Jvm.ClassFile.FieldType.int)) ∈ lw_all := lw_g (lw_at lw_m7 65 rfl) rfl
theorem q1579 : (Jvm.Cond.methodLink "OldLightModel" (64 : Nat) ({ cls := "java/lang/Math", name := "min", desc := "(II)I" } : Jvm.MethodName)) ∈ lw_all := lw_g (lw_at lw_m7 66 rfl) rfl
theorem q1580 : (Jvm.Cond.methodLink "OldLightModel" (70 : Nat) ({ cls := "java/lang/Math", name := "max", desc := "(II)I" } : Jvm.MethodName)) ∈ lw_all := lw_g (lw_at lw_m7 67 rfl) rfl
theorem q1582 : (Jvm.Cond.instanceMethod ({ cls := "OldLightModel", name := "bay", desc := "(I)I" } : Jvm.MethodName)) ∈ lw_all := lw_g (lw_at lw_m7 69 rfl) rfl
theorem q1583 : (Jvm.Cond.selects "OldLightModel" ({ cls := "OldLightModel", name := "bay", desc := "(I)I" } : Jvm.MethodName) ({ cls := "OldLightModel", name := "bay", desc := "(I)I" } : Jvm.MethodName)) ∈ lw_all := lw_g (lw_at lw_m7 70 rfl) rfl
theorem q1584 : (Jvm.Cond.code ({ cls := "OldLightModel", name := "bay", desc := "(I)I" } : Jvm.MethodName) prog_30_method_37_code (2 : Nat) (Option.some Jvm.ClassFile.FieldType.int)) ∈ lw_all := lw_g (lw_at lw_m7 71 rfl) rfl
theorem q1585 : (Jvm.Cond.constant "OldLightModel" (174 : Nat) (-1000000003 : Int32)) ∈ lw_all := lw_g (lw_at lw_m7 72 rfl) rfl
theorem q1587 : (Jvm.Cond.instanceMethod ({ cls := "OldLightModel", name := "lay", desc := "(III)I" } : Jvm.MethodName)) ∈ lw_all := lw_g (lw_at lw_m7 74 rfl) rfl
theorem q1588 : (Jvm.Cond.selects "OldLightModel" ({ cls := "OldLightModel", name := "lay", desc := "(III)I" } : Jvm.MethodName) ({ cls := "OldLightModel", name := "lay", desc := "(III)I" } : Jvm.MethodName)) ∈ lw_all := lw_g (lw_at lw_m7 75 rfl) rfl
theorem q1589 : (Jvm.Cond.code ({ cls := "OldLightModel", name := "lay", desc := "(III)I" } : Jvm.MethodName) prog_30_method_38_code (4 : Nat) (Option.some Jvm.ClassFile.FieldType.int)) ∈ lw_all := lw_g (lw_at lw_m7 76 rfl) rfl
theorem q1590 : (Jvm.Cond.methodLink "OldLightModel" (175 : Nat) ({ cls := "OldLightModel", name := "isCell", desc := "(I)Z" } : Jvm.MethodName)) ∈ lw_all := lw_g (lw_at lw_m7 77 rfl) rfl
theorem q1591 : (Jvm.Cond.privateMethod ({ cls := "OldLightModel", name := "isCell", desc := "(I)Z" } : Jvm.MethodName)) ∈ lw_tbl := lw_at lw_m7 78 rfl
theorem q1592 : (Jvm.Cond.instanceMethod ({ cls := "OldLightModel", name := "isCell", desc := "(I)Z" } : Jvm.MethodName)) ∈ lw_all := lw_g (lw_at lw_m7 79 rfl) rfl
theorem q1593 : (Jvm.Cond.code ({ cls := "OldLightModel", name := "isCell", desc := "(I)Z" } : Jvm.MethodName) prog_30_method_28_code (2 : Nat) (Option.some Jvm.ClassFile.FieldType.boolean)) ∈ lw_all := lw_g (lw_at lw_m7 80 rfl) rfl
theorem q1595 : (Jvm.Cond.instanceMethod ({ cls := "OldLightModel", name := "ofCell", desc := "(II)I" } : Jvm.MethodName)) ∈ lw_all := lw_g (lw_at lw_m7 82 rfl) rfl
theorem q1596 : (Jvm.Cond.selects "OldLightModel" ({ cls := "OldLightModel", name := "ofCell", desc := "(II)I" } : Jvm.MethodName) ({ cls := "OldLightModel", name := "ofCell", desc := "(II)I" } : Jvm.MethodName)) ∈ lw_all := lw_g (lw_at lw_m7 83 rfl) rfl
theorem q1597 : (Jvm.Cond.code ({ cls := "OldLightModel", name := "ofCell", desc := "(II)I" } : Jvm.MethodName) prog_30_method_44_code (3 : Nat) (Option.some Jvm.ClassFile.FieldType.int)) ∈ lw_all := lw_g (lw_at lw_m7 84 rfl) rfl
theorem q1598 : (Jvm.Cond.methodLink "OldLightModel" (178 : Nat) ({ cls := "OldLightModel", name := "cellIs", desc := "(II)I" } : Jvm.MethodName)) ∈ lw_all := lw_g (lw_at lw_m7 85 rfl) rfl
theorem q1599 : (Jvm.Cond.privateMethod ({ cls := "OldLightModel", name := "cellIs", desc := "(II)I" } : Jvm.MethodName)) ∈ lw_tbl := lw_at lw_m7 86 rfl
theorem q1600 : (Jvm.Cond.instanceMethod ({ cls := "OldLightModel", name := "cellIs", desc := "(II)I" } : Jvm.MethodName)) ∈ lw_all := lw_g (lw_at lw_m7 87 rfl) rfl
theorem q1601 : (Jvm.Cond.code ({ cls := "OldLightModel", name := "cellIs", desc := "(II)I" } : Jvm.MethodName) prog_30_method_33_code (3 : Nat) (Option.some Jvm.ClassFile.FieldType.int)) ∈ lw_all := lw_g (lw_at lw_m7 88 rfl) rfl
theorem q1602 : (Jvm.Cond.methodLink "OldLightModel" (194 : Nat) ({ cls := "OldLightModel", name := "trueDepth", desc := "(I)I" } : Jvm.MethodName)) ∈ lw_all := lw_g (lw_at lw_m7 89 rfl) rfl
theorem q1603 : (Jvm.Cond.privateMethod ({ cls := "OldLightModel", name := "trueDepth", desc := "(I)I" } : Jvm.MethodName)) ∈ lw_tbl := lw_at lw_m7 90 rfl
theorem q1604 : (Jvm.Cond.instanceMethod ({ cls := "OldLightModel", name := "trueDepth", desc := "(I)I" } : Jvm.MethodName)) ∈ lw_all := lw_g (lw_at lw_m7 91 rfl) rfl
theorem q1605 : (Jvm.Cond.code ({ cls := "OldLightModel", name := "trueDepth", desc := "(I)I" } : Jvm.MethodName) prog_30_method_41_code (2 : Nat) (Option.some Jvm.ClassFile.FieldType.int)) ∈ lw_all := lw_g (lw_at lw_m7 92 rfl) rfl
theorem q1606 : (Jvm.Cond.methodLink "OldLightModel" (184 : Nat) ({ cls := "OldLightModel", name := "depthIn", desc := "(II)I" } : Jvm.MethodName)) ∈ lw_all := lw_g (lw_at lw_m7 93 rfl) rfl
theorem q1607 : (Jvm.Cond.privateMethod ({ cls := "OldLightModel", name := "depthIn", desc := "(II)I" } : Jvm.MethodName)) ∈ lw_tbl := lw_at lw_m7 94 rfl
theorem q1608 : (Jvm.Cond.instanceMethod ({ cls := "OldLightModel", name := "depthIn", desc := "(II)I" } : Jvm.MethodName)) ∈ lw_all := lw_g (lw_at lw_m7 95 rfl) rfl
theorem q1609 : (Jvm.Cond.code ({ cls := "OldLightModel", name := "depthIn", desc := "(II)I" } : Jvm.MethodName) prog_30_method_40_code (5 : Nat) (Option.some Jvm.ClassFile.FieldType.int)) ∈ lw_all := lw_g (lw_at lw_m7 96 rfl) rfl
theorem q1610 : (Jvm.Cond.methodLink "OldLightModel" (181 : Nat) ({ cls := "OldLightModel", name := "depthFor", desc := "(II)I" } : Jvm.MethodName)) ∈ lw_all := lw_g (lw_at lw_m7 97 rfl) rfl
theorem q1611 : (Jvm.Cond.privateMethod ({ cls := "OldLightModel", name := "depthFor", desc := "(II)I" } : Jvm.MethodName)) ∈ lw_tbl := lw_at lw_m7 98 rfl
theorem q1612 : (Jvm.Cond.instanceMethod ({ cls := "OldLightModel", name := "depthFor", desc := "(II)I" } : Jvm.MethodName)) ∈ lw_all := lw_g (lw_at lw_m7 99 rfl) rfl
theorem q1613 : (Jvm.Cond.code ({ cls := "OldLightModel", name := "depthFor", desc := "(II)I" } : Jvm.MethodName) prog_30_method_39_code (4 : Nat) (Option.some Jvm.ClassFile.FieldType.int)) ∈ lw_all := lw_g (lw_at lw_m7 100 rfl) rfl
theorem q1614 : (Jvm.Cond.methodLink "OldLightModel" (197 : Nat) ({ cls := "OldLightModel", name := "shown", desc := "(II)I" } : Jvm.MethodName)) ∈ lw_all := lw_g (lw_at lw_m7 101 rfl) rfl
theorem q1615 : (Jvm.Cond.privateMethod ({ cls := "OldLightModel", name := "shown", desc := "(II)I" } : Jvm.MethodName)) ∈ lw_tbl := lw_at lw_m7 102 rfl
theorem q1616 : (Jvm.Cond.instanceMethod ({ cls := "OldLightModel", name := "shown", desc := "(II)I" } : Jvm.MethodName)) ∈ lw_all := lw_g (lw_at lw_m7 103 rfl) rfl
theorem q1617 : (Jvm.Cond.code ({ cls := "OldLightModel", name := "shown", desc := "(II)I" } : Jvm.MethodName) prog_30_method_42_code (3 : Nat) (Option.some Jvm.ClassFile.FieldType.int)) ∈ lw_all := lw_g (lw_at lw_m7 104 rfl) rfl
theorem q1618 : (Jvm.Cond.methodLink "OldLightModel" (187 : Nat) ({ cls := "OldLightModel", name := "hasBit", desc := "(II)Z" } : Jvm.MethodName)) ∈ lw_all := lw_g (lw_at lw_m7 105 rfl) rfl
theorem q1619 : (Jvm.Cond.static ({ cls := "OldLightModel", name := "hasBit", desc := "(II)Z" } : Jvm.MethodName)) ∈ lw_all := lw_g (lw_at lw_m7 106 rfl) rfl
theorem q1620 : (Jvm.Cond.code ({ cls := "OldLightModel", name := "hasBit", desc := "(II)Z" } : Jvm.MethodName) prog_30_method_25_code (2 : Nat) (Option.some Jvm.ClassFile.FieldType.boolean)) ∈ lw_all := lw_g (lw_at lw_m7 107 rfl) rfl
theorem q1621 : (Jvm.Cond.methodLink "OldLightModel" (200 : Nat) ({ cls := "OldLightModel", name := "shipsAt", desc := "(I)I" } : Jvm.MethodName)) ∈ lw_all := lw_g (lw_at lw_m7 108 rfl) rfl
theorem q1622 : (Jvm.Cond.privateMethod ({ cls := "OldLightModel", name := "shipsAt", desc := "(I)I" } : Jvm.MethodName)) ∈ lw_tbl := lw_at lw_m7 109 rfl
theorem q1623 : (Jvm.Cond.instanceMethod ({ cls := "OldLightModel", name := "shipsAt", desc := "(I)I" } : Jvm.MethodName)) ∈ lw_all := lw_g (lw_at lw_m7 110 rfl) rfl
theorem q1624 : (Jvm.Cond.code ({ cls := "OldLightModel", name := "shipsAt", desc := "(I)I" } : Jvm.MethodName) prog_30_method_43_code (4 : Nat) (Option.some Jvm.ClassFile.FieldType.int)) ∈ lw_all := lw_g (lw_at lw_m7 111 rfl) rfl
theorem q1625 : (Jvm.Cond.methodLink "OldLightModel" (191 : Nat) ({ cls := "OldLightModel", name := "shipIs", desc := "(II)I" } : Jvm.MethodName)) ∈ lw_all := lw_g (lw_at lw_m7 112 rfl) rfl
theorem q1626 : (Jvm.Cond.privateMethod ({ cls := "OldLightModel", name := "shipIs", desc := "(II)I" } : Jvm.MethodName)) ∈ lw_tbl := lw_at lw_m7 113 rfl
theorem q1627 : (Jvm.Cond.instanceMethod ({ cls := "OldLightModel", name := "shipIs", desc := "(II)I" } : Jvm.MethodName)) ∈ lw_all := lw_g (lw_at lw_m7 114 rfl) rfl
theorem q1628 : (Jvm.Cond.code ({ cls := "OldLightModel", name := "shipIs", desc := "(II)I" } : Jvm.MethodName) prog_30_method_35_code (3 : Nat) (Option.some Jvm.ClassFile.FieldType.int)) ∈ lw_all := lw_g (lw_at lw_m7 115 rfl) rfl
theorem q1629 : (Jvm.Cond.methodLink "OldLightModel" (168 : Nat) ({ cls := "OldLightModel", name := "shipAt", desc := "(II)I" } : Jvm.MethodName)) ∈ lw_all := lw_g (lw_at lw_m7 116 rfl) rfl
theorem q1630 : (Jvm.Cond.static ({ cls := "OldLightModel", name := "shipAt", desc := "(II)I" } : Jvm.MethodName)) ∈ lw_all := lw_g (lw_at lw_m7 117 rfl) rfl
theorem q1631 : (Jvm.Cond.code ({ cls := "OldLightModel", name := "shipAt", desc := "(II)I" } : Jvm.MethodName) prog_30_method_34_code (2 : Nat) (Option.some Jvm.ClassFile.FieldType.int)) ∈ lw_all := lw_g (lw_at lw_m7 118 rfl) rfl
theorem q1633 : (Jvm.Cond.instanceMethod ({ cls := "OldLightModel", name := "set", desc := "(II)I" } : Jvm.MethodName)) ∈ lw_all := lw_g (lw_at lw_m7 120 rfl) rfl
theorem q1634 : (Jvm.Cond.selects "OldLightModel" ({ cls := "OldLightModel", name := "set", desc := "(II)I" } : Jvm.MethodName) ({ cls := "OldLightModel", name := "set", desc := "(II)I" } : Jvm.MethodName)) ∈ lw_all := lw_g (lw_at lw_m7 121 rfl) rfl
theorem q1635 : (Jvm.Cond.code ({ cls := "OldLightModel", name := "set", desc := "(II)I" } : Jvm.MethodName) prog_30_method_45_code (4 : Nat) (Option.some Jvm.ClassFile.FieldType.int)) ∈ lw_all := lw_g (lw_at lw_m7 122 rfl) rfl
theorem q1636 : (Jvm.Cond.methodLink "OldLightModel" (203 : Nat) ({ cls := "OldLightModel", name := "isYear", desc := "(I)Z" } : Jvm.MethodName)) ∈ lw_all := lw_g (lw_at lw_m7 123 rfl) rfl
theorem q1637 : (Jvm.Cond.static ({ cls := "OldLightModel", name := "isYear", desc := "(I)Z" } : Jvm.MethodName)) ∈ lw_all := lw_g (lw_at lw_m7 124 rfl) rfl
theorem q1638 : (Jvm.Cond.code ({ cls := "OldLightModel", name := "isYear", desc := "(I)Z" } : Jvm.MethodName) prog_30_method_31_code (1 : Nat) (Option.some Jvm.ClassFile.FieldType.boolean)) ∈ lw_all := lw_g (lw_at lw_m7 125 rfl) rfl
theorem q1640 : (Jvm.Cond.instanceMethod ({ cls := "OldLightModel", name := "depth", desc := "(II)I" } : Jvm.MethodName)) ∈ lw_all := lw_g (lw_at lw_m7 127 rfl) rfl
theorem q1641 : (Jvm.Cond.selects "OldLightModel" ({ cls := "OldLightModel", name := "depth", desc := "(II)I" } : Jvm.MethodName) ({ cls := "OldLightModel", name := "depth", desc := "(II)I" } : Jvm.MethodName)) ∈ lw_all := lw_g (lw_at lw_m7 128 rfl) rfl
theorem q1642 : (Jvm.Cond.code ({ cls := "OldLightModel", name := "depth", desc := "(II)I" } : Jvm.MethodName) prog_30_method_46_code (3 : Nat) (Option.some Jvm.ClassFile.FieldType.int)) ∈ lw_all := lw_g (lw_at lw_m7 129 rfl) rfl
theorem q1644 : (Jvm.Cond.instanceMethod ({ cls := "OldLightModel", name := "ship", desc := "(III)I" } : Jvm.MethodName)) ∈ lw_all := lw_g (lw_at lw_m7 131 rfl) rfl
theorem q1645 : (Jvm.Cond.selects "OldLightModel" ({ cls := "OldLightModel", name := "ship", desc := "(III)I" } : Jvm.MethodName) ({ cls := "OldLightModel", name := "ship", desc := "(III)I" } : Jvm.MethodName)) ∈ lw_all := lw_g (lw_at lw_m7 132 rfl) rfl
theorem q1646 : (Jvm.Cond.code ({ cls := "OldLightModel", name := "ship", desc := "(III)I" } : Jvm.MethodName) prog_30_method_49_code (4 : Nat) (Option.some Jvm.ClassFile.FieldType.int)) ∈ lw_all := lw_g (lw_at lw_m7 133 rfl) rfl
theorem q1647 : (Jvm.Cond.methodLink "OldLightModel" (206 : Nat) ({ cls := "OldLightModel", name := "isKindM", desc := "(I)Z" } : Jvm.MethodName)) ∈ lw_all := lw_g (lw_at lw_m7 134 rfl) rfl
theorem q1648 : (Jvm.Cond.static ({ cls := "OldLightModel", name := "isKindM", desc := "(I)Z" } : Jvm.MethodName)) ∈ lw_all := lw_g (lw_at lw_m7 135 rfl) rfl
theorem q1649 : (Jvm.Cond.code ({ cls := "OldLightModel", name := "isKindM", desc := "(I)Z" } : Jvm.MethodName) prog_30_method_47_code (1 : Nat) (Option.some Jvm.ClassFile.FieldType.boolean)) ∈ lw_all := lw_g (lw_at lw_m7 136 rfl) rfl
theorem q1650 : (Jvm.Cond.methodLink "OldLightModel" (209 : Nat) ({ cls := "OldLightModel", name := "isDigit", desc := "(I)Z" } : Jvm.MethodName)) ∈ lw_all := lw_g (lw_at lw_m7 137 rfl) rfl
theorem q1651 : (Jvm.Cond.static ({ cls := "OldLightModel", name := "isDigit", desc := "(I)Z" } : Jvm.MethodName)) ∈ lw_all := lw_g (lw_at lw_m7 138 rfl) rfl
theorem q1652 : (Jvm.Cond.code ({ cls := "OldLightModel", name := "isDigit", desc := "(I)Z" } : Jvm.MethodName) prog_30_method_30_code (1 : Nat) (Option.some Jvm.ClassFile.FieldType.boolean)) ∈ lw_all := lw_g (lw_at lw_m7 139 rfl) rfl
theorem q1653 : (Jvm.Cond.methodLink "OldLightModel" (212 : Nat) ({ cls := "OldLightModel", name := "shipComes", desc := "(III)I" } : Jvm.MethodName)) ∈ lw_all := lw_g (lw_at lw_m7 140 rfl) rfl
theorem q1654 : (Jvm.Cond.privateMethod ({ cls := "OldLightModel", name := "shipComes", desc := "(III)I" } : Jvm.MethodName)) ∈ lw_tbl := lw_at lw_m7 141 rfl
theorem q1655 : (Jvm.Cond.instanceMethod ({ cls := "OldLightModel", name := "shipComes", desc := "(III)I" } : Jvm.MethodName)) ∈ lw_all := lw_g (lw_at lw_m7 142 rfl) rfl
theorem q1656 : (Jvm.Cond.code ({ cls := "OldLightModel", name := "shipComes", desc := "(III)I" } : Jvm.MethodName) prog_30_method_48_code (5 : Nat) (Option.some Jvm.ClassFile.FieldType.int)) ∈ lw_all := lw_g (lw_at lw_m7 143 rfl) rfl
theorem q1658 : (Jvm.Cond.instanceMethod ({ cls := "OldLightModel", name := "ofShip", desc := "(II)I" } : Jvm.MethodName)) ∈ lw_all := lw_g (lw_at lw_m7 145 rfl) rfl
theorem q1659 : (Jvm.Cond.selects "OldLightModel" ({ cls := "OldLightModel", name := "ofShip", desc := "(II)I" } : Jvm.MethodName) ({ cls := "OldLightModel", name := "ofShip", desc := "(II)I" } : Jvm.MethodName)) ∈ lw_all := lw_g (lw_at lw_m7 146 rfl) rfl
theorem q1660 : (Jvm.Cond.code ({ cls := "OldLightModel", name := "ofShip", desc := "(II)I" } : Jvm.MethodName) prog_30_method_53_code (4 : Nat) (Option.some Jvm.ClassFile.FieldType.int)) ∈ lw_all := lw_g (lw_at lw_m7 147 rfl) rfl
theorem q1661 : (Jvm.Cond.methodLink "OldLightModel" (218 : Nat) ({ cls := "OldLightModel", name := "isShip", desc := "(I)Z" } : Jvm.MethodName)) ∈ lw_all := lw_g (lw_at lw_m7 148 rfl) rfl
theorem q1662 : (Jvm.Cond.privateMethod ({ cls := "OldLightModel", name := "isShip", desc := "(I)Z" } : Jvm.MethodName)) ∈ lw_tbl := lw_at lw_m7 149 rfl
theorem q1663 : (Jvm.Cond.instanceMethod ({ cls := "OldLightModel", name := "isShip", desc := "(I)Z" } : Jvm.MethodName)) ∈ lw_all := lw_g (lw_at lw_m7 150 rfl) rfl
theorem q1664 : (Jvm.Cond.code ({ cls := "OldLightModel", name := "isShip", desc := "(I)Z" } : Jvm.MethodName) prog_30_method_29_code (2 : Nat) (Option.some Jvm.ClassFile.FieldType.boolean)) ∈ lw_all := lw_g (lw_at lw_m7 151 rfl) rfl
theorem q1665 : (Jvm.Cond.methodLink "OldLightModel" (221 : Nat) ({ cls := "OldLightModel", name := "believes", desc := "(II)I" } : Jvm.MethodName)) ∈ lw_all := lw_g (lw_at lw_m7 152 rfl) rfl
theorem q1666 : (Jvm.Cond.privateMethod ({ cls := "OldLightModel", name := "believes", desc := "(II)I" } : Jvm.MethodName)) ∈ lw_tbl := lw_at lw_m7 153 rfl
theorem q1667 : (Jvm.Cond.instanceMethod ({ cls := "OldLightModel", name := "believes", desc := "(II)I" } : Jvm.MethodName)) ∈ lw_all := lw_g (lw_at lw_m7 154 rfl) rfl
theorem q1668 : (Jvm.Cond.code ({ cls := "OldLightModel", name := "believes", desc := "(II)I" } : Jvm.MethodName) prog_30_method_52_code (5 : Nat) (Option.some Jvm.ClassFile.FieldType.int)) ∈ lw_all := lw_g (lw_at lw_m7 155 rfl) rfl
theorem q1670 : (Jvm.Cond.instanceMethod ({ cls := "OldLightModel", name := "change", desc := "(III)I" } : Jvm.MethodName)) ∈ lw_all := lw_g (lw_at lw_m7 157 rfl) rfl
theorem q1671 : (Jvm.Cond.selects "OldLightModel" ({ cls := "OldLightModel", name := "change", desc := "(III)I" } : Jvm.MethodName) ({ cls := "OldLightModel", name := "change", desc := "(III)I" } : Jvm.MethodName)) ∈ lw_all := lw_g (lw_at lw_m7 158 rfl) rfl
theorem q1672 : (Jvm.Cond.code ({ cls := "OldLightModel", name := "change", desc := "(III)I" } : Jvm.MethodName) prog_30_method_54_code (5 : Nat) (Option.some Jvm.ClassFile.FieldType.int)) ∈ lw_all := lw_g (lw_at lw_m7 159 rfl) rfl
theorem q1674 : (Jvm.Cond.instanceMethod ({ cls := "OldLightModel", name := "become", desc := "(II)I" } : Jvm.MethodName)) ∈ lw_all := lw_g (lw_at lw_m7 161 rfl) rfl
theorem q1675 : (Jvm.Cond.selects "OldLightModel" ({ cls := "OldLightModel", name := "become", desc := "(II)I" } : Jvm.MethodName) ({ cls := "OldLightModel", name := "become", desc := "(II)I" } : Jvm.MethodName)) ∈ lw_all := lw_g (lw_at lw_m7 162 rfl) rfl
theorem q1676 : (Jvm.Cond.code ({ cls := "OldLightModel", name := "become", desc := "(II)I" } : Jvm.MethodName) prog_30_method_55_code (3 : Nat) (Option.some Jvm.ClassFile.FieldType.int)) ∈ lw_all := lw_g (lw_at lw_m7 163 rfl) rfl
theorem q1678 : (Jvm.Cond.instanceMethod ({ cls := "OldLightModel", name := "as", desc := "(II)I" } : Jvm.MethodName)) ∈ lw_all := lw_g (lw_at lw_m7 165 rfl) rfl
theorem q1679 : (Jvm.Cond.selects "OldLightModel" ({ cls := "OldLightModel", name := "as", desc := "(II)I" } : Jvm.MethodName) ({ cls := "OldLightModel", name := "as", desc := "(II)I" } : Jvm.MethodName)) ∈ lw_all := lw_g (lw_at lw_m7 166 rfl) rfl
theorem q1680 : (Jvm.Cond.code ({ cls := "OldLightModel", name := "as", desc := "(II)I" } : Jvm.MethodName) prog_30_method_56_code (3 : Nat) (Option.some Jvm.ClassFile.FieldType.int)) ∈ lw_all := lw_g (lw_at lw_m7 167 rfl) rfl
theorem q1681 : (Jvm.Cond.methodLink "OldLightModel" (224 : Nat) ({ cls := "OldLightModel", name := "isUnder", desc := "(II)Z" } : Jvm.MethodName)) ∈ lw_all := lw_g (lw_at lw_m7 168 rfl) rfl
theorem q1682 : (Jvm.Cond.static ({ cls := "OldLightModel", name := "isUnder", desc := "(II)Z" } : Jvm.MethodName)) ∈ lw_all := lw_g (lw_at lw_m7 169 rfl) rfl
theorem q1683 : (Jvm.Cond.code ({ cls := "OldLightModel", name := "isUnder", desc := "(II)Z" } : Jvm.MethodName) prog_30_method_51_code (3 : Nat) (Option.some Jvm.ClassFile.FieldType.boolean)) ∈ lw_all := lw_g (lw_at lw_m7 170 rfl) rfl
theorem q1684 : (Jvm.Cond.methodLink "OldLightModel" (215 : Nat) ({ cls := "OldLightModel", name := "above", desc := "(I)I" } : Jvm.MethodName)) ∈ lw_all := lw_g (lw_at lw_m7 171 rfl) rfl
theorem q1685 : (Jvm.Cond.static ({ cls := "OldLightModel", name := "above", desc := "(I)I" } : Jvm.MethodName)) ∈ lw_all := lw_g (lw_at lw_m7 172 rfl) rfl
theorem q1686 : (Jvm.Cond.code ({ cls := "OldLightModel", name := "above", desc := "(I)I" } : Jvm.MethodName) prog_30_method_50_code (1 : Nat) (Option.some Jvm.ClassFile.FieldType.int)) ∈ lw_all := lw_g (lw_at lw_m7 173 rfl) rfl
theorem q1687 : (Jvm.Cond.constant "OldLightModel" (227 : Nat) (-1000000005 : Int32)) ∈ lw_all := lw_g (lw_at lw_m7 174 rfl) rfl
theorem q1689 : (Jvm.Cond.instanceMethod ({ cls := "OldLightModel", name := "hours", desc := "(I)I" } : Jvm.MethodName)) ∈ lw_all := lw_g (lw_at lw_m7 176 rfl) rfl
theorem q1690 : (Jvm.Cond.selects "OldLightModel" ({ cls := "OldLightModel", name := "hours", desc := "(I)I" } : Jvm.MethodName) ({ cls := "OldLightModel", name := "hours", desc := "(I)I" } : Jvm.MethodName)) ∈ lw_all := lw_g (lw_at lw_m7 177 rfl) rfl
theorem q1691 : (Jvm.Cond.code ({ cls := "OldLightModel", name := "hours", desc := "(I)I" } : Jvm.MethodName) prog_30_method_61_code (2 : Nat) (Option.some Jvm.ClassFile.FieldType.int)) ∈ lw_all := lw_g (lw_at lw_m7 178 rfl) rfl
theorem q1692 : (Jvm.Cond.methodLink "OldLightModel" (237 : Nat) ({ cls := "OldLightModel", name := "hoursGo", desc := "(I)V" } : Jvm.MethodName)) ∈ lw_all := lw_g (lw_at lw_m7 179 rfl) rfl
theorem q1693 : (Jvm.Cond.privateMethod ({ cls := "OldLightModel", name := "hoursGo", desc := "(I)V" } : Jvm.MethodName)) ∈ lw_tbl := lw_at lw_m7 180 rfl
theorem q1694 : (Jvm.Cond.instanceMethod ({ cls := "OldLightModel", name := "hoursGo", desc := "(I)V" } : Jvm.MethodName)) ∈ lw_all := lw_g (lw_at lw_m7 181 rfl) rfl
theorem q1695 : (Jvm.Cond.code ({ cls := "OldLightModel", name := "hoursGo", desc := "(I)V" } : Jvm.MethodName) prog_30_method_59_code (3 : Nat) (Option.none : Option Jvm.ClassFile.FieldType)) ∈ lw_all := lw_g (lw_at lw_m7 182 rfl) rfl
theorem q1696 : (Jvm.Cond.methodLink "OldLightModel" (231 : Nat) ({ cls := "OldLightModel", name := "hour", desc := "()V" } : Jvm.MethodName)) ∈ lw_all := lw_g (lw_at lw_m7 183 rfl) rfl
theorem q1697 : (Jvm.Cond.privateMethod ({ cls := "OldLightModel", name := "hour", desc := "()V" } : Jvm.MethodName)) ∈ lw_tbl := lw_at lw_m7 184 rfl
theorem q1698 : (Jvm.Cond.instanceMethod ({ cls := "OldLightModel", name := "hour", desc := "()V" } : Jvm.MethodName)) ∈ lw_all := lw_g (lw_at lw_m7 185 rfl) rfl
theorem q1699 : (Jvm.Cond.code ({ cls := "OldLightModel", name := "hour", desc := "()V" } : Jvm.MethodName) prog_30_method_58_code (2 : Nat) (Option.none : Option Jvm.ClassFile.FieldType)) ∈ lw_all := lw_g (lw_at lw_m7 186 rfl) rfl
theorem q1700 : (Jvm.Cond.methodLink "OldLightModel" (228 : Nat) ({ cls := "OldLightModel", name := "sails", desc := "(I)V" } : Jvm.MethodName)) ∈ lw_all := lw_g (lw_at lw_m7 187 rfl) rfl
theorem q1701 : (Jvm.Cond.privateMethod ({ cls := "OldLightModel", name := "sails", desc := "(I)V" } : Jvm.MethodName)) ∈ lw_tbl := lw_at lw_m7 188 rfl
theorem q1702 : (Jvm.Cond.instanceMethod ({ cls := "OldLightModel", name := "sails", desc := "(I)V" } : Jvm.MethodName)) ∈ lw_all := lw_g (lw_at lw_m7 189 rfl) rfl
theorem q1703 : (Jvm.Cond.code ({ cls := "OldLightModel", name := "sails", desc := "(I)V" } : Jvm.MethodName) prog_30_method_57_code (3 : Nat) (Option.none : Option Jvm.ClassFile.FieldType)) ∈ lw_all := lw_g (lw_at lw_m7 190 rfl) rfl
theorem q1704 : (Jvm.Cond.methodLink "OldLightModel" (240 : Nat) ({ cls := "OldLightModel", name := "manyIn", desc := "()I" } : Jvm.MethodName)) ∈ lw_all := lw_g (lw_at lw_m7 191 rfl) rfl
theorem q1705 : (Jvm.Cond.privateMethod ({ cls := "OldLightModel", name := "manyIn", desc := "()I" } : Jvm.MethodName)) ∈ lw_tbl := lw_at lw_m7 192 rfl
theorem q1706 : (Jvm.Cond.instanceMethod ({ cls := "OldLightModel", name := "manyIn", desc := "()I" } : Jvm.MethodName)) ∈ lw_all := lw_g (lw_at lw_m7 193 rfl) rfl
theorem q1707 : (Jvm.Cond.code ({ cls := "OldLightModel", name := "manyIn", desc := "()I" } : Jvm.MethodName) prog_30_method_60_code (1 : Nat) (Option.some Jvm.ClassFile.FieldType.int)) ∈ lw_all := lw_g (lw_at lw_m7 194 rfl) rfl
theorem q1708 : (Jvm.Cond.methodLink "OldLightModel" (234 : Nat) ({ cls := "OldLightModel", name := "bits", desc := "(I)I" } : Jvm.MethodName)) ∈ lw_all := lw_g (lw_at lw_m7 195 rfl) rfl
theorem q1709 : (Jvm.Cond.static ({ cls := "OldLightModel", name := "bits", desc := "(I)I" } : Jvm.MethodName)) ∈ lw_all := lw_g (lw_at lw_m7 196 rfl) rfl
theorem q1710 : (Jvm.Cond.code ({ cls := "OldLightModel", name := "bits", desc := "(I)I" } : Jvm.MethodName) prog_30_method_26_code (3 : Nat) (Option.some Jvm.ClassFile.FieldType.int)) ∈ lw_all := lw_g (lw_at lw_m7 197 rfl) rfl
theorem q1712 : (Jvm.Cond.instanceMethod ({ cls := "OldLightModel", name := "loose", desc := "(I)I" } : Jvm.MethodName)) ∈ lw_all := lw_g (lw_at lw_m7 199 rfl) rfl
theorem q1713 : (Jvm.Cond.selects "OldLightModel" ({ cls := "OldLightModel", name := "loose", desc := "(I)I" } : Jvm.MethodName) ({ cls := "OldLightModel", name := "loose", desc := "(I)I" } : Jvm.MethodName)) ∈ lw_all := lw_g (lw_at lw_m7 200 rfl) rfl
theorem q1714 : (Jvm.Cond.code ({ cls := "OldLightModel", name := "loose", desc := "(I)I" } : Jvm.MethodName) prog_30_method_63_code (3 : Nat) (Option.some Jvm.ClassFile.FieldType.int)) ∈ lw_all := lw_g (lw_at lw_m7 201 rfl) rfl
theorem q1715 : (Jvm.Cond.methodLink "OldLightModel" (244 : Nat) ({ cls := "OldLightModel", name := "drawn", desc := "()I" } : Jvm.MethodName)) ∈ lw_all := lw_g (lw_at lw_m7 202 rfl) rfl
theorem q1716 : (Jvm.Cond.privateMethod ({ cls := "OldLightModel", name := "drawn", desc := "()I" } : Jvm.MethodName)) ∈ lw_tbl := lw_at lw_m7 203 rfl
theorem q1717 : (Jvm.Cond.instanceMethod ({ cls := "OldLightModel", name := "drawn", desc := "()I" } : Jvm.MethodName)) ∈ lw_all := lw_g (lw_at lw_m7 204 rfl) rfl
theorem q1718 : (Jvm.Cond.code ({ cls := "OldLightModel", name := "drawn", desc := "()I" } : Jvm.MethodName) prog_30_method_62_code (1 : Nat) (Option.some Jvm.ClassFile.FieldType.int)) ∈ lw_all := lw_g (lw_at lw_m7 205 rfl) rfl
theorem q1719 : (Jvm.Cond.constant "OldLightModel" (243 : Nat) (1103515245 : Int32)) ∈ lw_all := lw_g (lw_at lw_m7 206 rfl) rfl
theorem q1721 : (Jvm.Cond.instanceMethod ({ cls := "OldLightModel", name := "then", desc := "(III)I" } : Jvm.MethodName)) ∈ lw_all := lw_g (lw_at lw_m7 208 rfl) rfl
theorem q1722 : (Jvm.Cond.selects "OldLightModel" ({ cls := "OldLightModel", name := "then", desc := "(III)I" } : Jvm.MethodName) ({ cls := "OldLightModel", name := "then", desc := "(III)I" } : Jvm.MethodName)) ∈ lw_all := lw_g (lw_at lw_m7 209 rfl) rfl
theorem q1723 : (Jvm.Cond.code ({ cls := "OldLightModel", name := "then", desc := "(III)I" } : Jvm.MethodName) prog_30_method_65_code (4 : Nat) (Option.some Jvm.ClassFile.FieldType.int)) ∈ lw_all := lw_g (lw_at lw_m7 210 rfl) rfl
theorem q1724 : (Jvm.Cond.methodLink "OldLightModel" (247 : Nat) ({ cls := "OldLightModel", name := "isBehind", desc := "(I)Z" } : Jvm.MethodName)) ∈ lw_all := lw_g (lw_at lw_m7 211 rfl) rfl
theorem q1725 : (Jvm.Cond.static ({ cls := "OldLightModel", name := "isBehind", desc := "(I)Z" } : Jvm.MethodName)) ∈ lw_all := lw_g (lw_at lw_m7 212 rfl) rfl
theorem q1726 : (Jvm.Cond.code ({ cls := "OldLightModel", name := "isBehind", desc := "(I)Z" } : Jvm.MethodName) prog_30_method_64_code (1 : Nat) (Option.some Jvm.ClassFile.FieldType.boolean)) ∈ lw_all := lw_g (lw_at lw_m7 213 rfl) rfl
theorem q1727 : (Jvm.Cond.methodLink "OldLightModel" (73 : Nat) ({ cls := "OldLightModel", name := "copy", desc := "([I[I)V" } : Jvm.MethodName)) ∈ lw_all := lw_g (lw_at lw_m7 214 rfl) rfl
theorem q1728 : (Jvm.Cond.static ({ cls := "OldLightModel", name := "copy", desc := "([I[I)V" } : Jvm.MethodName)) ∈ lw_all := lw_g (lw_at lw_m7 215 rfl) rfl
theorem q1729 : (Jvm.Cond.code ({ cls := "OldLightModel", name := "copy", desc := "([I[I)V" } : Jvm.MethodName) prog_30_method_5_code (3 : Nat) (Option.none : Option Jvm.ClassFile.FieldType)) ∈ lw_all := lw_g (lw_at lw_m7 216 rfl) rfl
theorem q1730 : (Jvm.Cond.methodLink "OldLightModel" (250 : Nat) ({ cls := "OldLightModel", name := "putBack", desc := "(I)I" } : Jvm.MethodName)) ∈ lw_all := lw_g (lw_at lw_m7 217 rfl) rfl
theorem q1731 : (Jvm.Cond.privateMethod ({ cls := "OldLightModel", name := "putBack", desc := "(I)I" } : Jvm.MethodName)) ∈ lw_tbl := lw_at lw_m7 218 rfl
theorem q1732 : (Jvm.Cond.instanceMethod ({ cls := "OldLightModel", name := "putBack", desc := "(I)I" } : Jvm.MethodName)) ∈ lw_all := lw_g (lw_at lw_m7 219 rfl) rfl
theorem q1733 : (Jvm.Cond.code ({ cls := "OldLightModel", name := "putBack", desc := "(I)I" } : Jvm.MethodName) prog_30_method_7_code (2 : Nat) (Option.some Jvm.ClassFile.FieldType.int)) ∈ lw_all := lw_g (lw_at lw_m7 220 rfl) rfl
theorem q1735 : (Jvm.Cond.instanceMethod ({ cls := "OldLightModel", name := "lost", desc := "(I)I" } : Jvm.MethodName)) ∈ lw_all := lw_g (lw_at lw_m7 222 rfl) rfl
theorem q1736 : (Jvm.Cond.selects "OldLightModel" ({ cls := "OldLightModel", name := "lost", desc := "(I)I" } : Jvm.MethodName) ({ cls := "OldLightModel", name := "lost", desc := "(I)I" } : Jvm.MethodName)) ∈ lw_all := lw_g (lw_at lw_m7 223 rfl) rfl
theorem q1737 : (Jvm.Cond.code ({ cls := "OldLightModel", name := "lost", desc := "(I)I" } : Jvm.MethodName) prog_30_method_67_code (5 : Nat) (Option.some Jvm.ClassFile.FieldType.int)) ∈ lw_all := lw_g (lw_at lw_m7 224 rfl) rfl
theorem q1738 : (Jvm.Cond.methodLink "OldLightModel" (253 : Nat) ({ cls := "OldLightModel", name := "lostNow", desc := "()I" } : Jvm.MethodName)) ∈ lw_all := lw_g (lw_at lw_m7 225 rfl) rfl
theorem q1739 : (Jvm.Cond.privateMethod ({ cls := "OldLightModel", name := "lostNow", desc := "()I" } : Jvm.MethodName)) ∈ lw_tbl := lw_at lw_m7 226 rfl
theorem q1740 : (Jvm.Cond.instanceMethod ({ cls := "OldLightModel", name := "lostNow", desc := "()I" } : Jvm.MethodName)) ∈ lw_all := lw_g (lw_at lw_m7 227 rfl) rfl
theorem q1741 : (Jvm.Cond.code ({ cls := "OldLightModel", name := "lostNow", desc := "()I" } : Jvm.MethodName) prog_30_method_66_code (3 : Nat) (Option.some Jvm.ClassFile.FieldType.int)) ∈ lw_all := lw_g (lw_at lw_m7 228 rfl) rfl
theorem q1742 : (Jvm.Cond.constant "OldLightModel" (256 : Nat) (-1000000002 : Int32)) ∈ lw_all := lw_g (lw_at lw_m7 229 rfl) rfl
theorem q1744 : (Jvm.Cond.instanceMethod ({ cls := "OldLightModel", name := "setting", desc := "(II)I" } : Jvm.MethodName)) ∈ lw_all := lw_g (lw_at lw_m7 231 rfl) rfl
theorem q1745 : (Jvm.Cond.selects "OldLightModel" ({ cls := "OldLightModel", name := "setting", desc := "(II)I" } : Jvm.MethodName) ({ cls := "OldLightModel", name := "setting", desc := "(II)I" } : Jvm.MethodName)) ∈ lw_all := lw_g (lw_at lw_m7 232 rfl) rfl
theorem q1746 : (Jvm.Cond.code ({ cls := "OldLightModel", name := "setting", desc := "(II)I" } : Jvm.MethodName) prog_30_method_69_code (5 : Nat) (Option.some Jvm.ClassFile.FieldType.int)) ∈ lw_all := lw_g (lw_at lw_m7 233 rfl) rfl
theorem q1747 : (Jvm.Cond.methodLink "OldLightModel" (257 : Nat) ({ cls := "OldLightModel", name := "inBehind", desc := "(I)I" } : Jvm.MethodName)) ∈ lw_all := lw_g (lw_at lw_m7 234 rfl) rfl
theorem q1748 : (Jvm.Cond.privateMethod ({ cls := "OldLightModel", name := "inBehind", desc := "(I)I" } : Jvm.MethodName)) ∈ lw_tbl := lw_at lw_m7 235 rfl
theorem q1749 : (Jvm.Cond.instanceMethod ({ cls := "OldLightModel", name := "inBehind", desc := "(I)I" } : Jvm.MethodName)) ∈ lw_all := lw_g (lw_at lw_m7 236 rfl) rfl
theorem q1750 : (Jvm.Cond.code ({ cls := "OldLightModel", name := "inBehind", desc := "(I)I" } : Jvm.MethodName) prog_30_method_68_code (2 : Nat) (Option.some Jvm.ClassFile.FieldType.int)) ∈ lw_all := lw_g (lw_at lw_m7 237 rfl) rfl
theorem q1752 : (Jvm.Cond.instanceMethod ({ cls := "OldLightModel", name := "leastFalse", desc := "(I)I" } : Jvm.MethodName)) ∈ lw_all := lw_g (lw_at lw_m7 239 rfl) rfl
theorem q1753 : (Jvm.Cond.selects "OldLightModel" ({ cls := "OldLightModel", name := "leastFalse", desc := "(I)I" } : Jvm.MethodName) ({ cls := "OldLightModel", name := "leastFalse", desc := "(I)I" } : Jvm.MethodName)) ∈ lw_all := lw_g (lw_at lw_m8 0 rfl) rfl
theorem q1754 : (Jvm.Cond.code ({ cls := "OldLightModel", name := "leastFalse", desc := "(I)I" } : Jvm.MethodName) prog_30_method_71_code (4 : Nat) (Option.some Jvm.ClassFile.FieldType.int)) ∈ lw_all := lw_g (lw_at lw_m8 1 rfl) rfl
theorem q1755 : (Jvm.Cond.methodLink "OldLightModel" (260 : Nat) ({ cls := "OldLightModel", name := "falseBy", desc := "(I)I" } : Jvm.MethodName)) ∈ lw_all := lw_g (lw_at lw_m8 2 rfl) rfl
theorem q1756 : (Jvm.Cond.privateMethod ({ cls := "OldLightModel", name := "falseBy", desc := "(I)I" } : Jvm.MethodName)) ∈ lw_tbl := lw_at lw_m8 3 rfl
theorem q1757 : (Jvm.Cond.instanceMethod ({ cls := "OldLightModel", name := "falseBy", desc := "(I)I" } : Jvm.MethodName)) ∈ lw_all := lw_g (lw_at lw_m8 4 rfl) rfl
theorem q1758 : (Jvm.Cond.code ({ cls := "OldLightModel", name := "falseBy", desc := "(I)I" } : Jvm.MethodName) prog_30_method_70_code (4 : Nat) (Option.some Jvm.ClassFile.FieldType.int)) ∈ lw_all := lw_g (lw_at lw_m8 5 rfl) rfl
theorem q1760 : (Jvm.Cond.instanceMethod ({ cls := "OldLightModel", name := "which", desc := "(II)I" } : Jvm.MethodName)) ∈ lw_all := lw_g (lw_at lw_m8 7 rfl) rfl
theorem q1761 : (Jvm.Cond.selects "OldLightModel" ({ cls := "OldLightModel", name := "which", desc := "(II)I" } : Jvm.MethodName) ({ cls := "OldLightModel", name := "which", desc := "(II)I" } : Jvm.MethodName)) ∈ lw_all := lw_g (lw_at lw_m8 8 rfl) rfl
theorem q1762 : (Jvm.Cond.code ({ cls := "OldLightModel", name := "which", desc := "(II)I" } : Jvm.MethodName) prog_30_method_73_code (7 : Nat) (Option.some Jvm.ClassFile.FieldType.int)) ∈ lw_all := lw_g (lw_at lw_m8 9 rfl) rfl
theorem q1763 : (Jvm.Cond.methodLink "OldLightModel" (263 : Nat) ({ cls := "OldLightModel", name := "isSheet", desc := "(I)Z" } : Jvm.MethodName)) ∈ lw_all := lw_g (lw_at lw_m8 10 rfl) rfl
theorem q1764 : (Jvm.Cond.static ({ cls := "OldLightModel", name := "isSheet", desc := "(I)Z" } : Jvm.MethodName)) ∈ lw_all := lw_g (lw_at lw_m8 11 rfl) rfl
theorem q1765 : (Jvm.Cond.code ({ cls := "OldLightModel", name := "isSheet", desc := "(I)Z" } : Jvm.MethodName) prog_30_method_89_code (1 : Nat) (Option.some Jvm.ClassFile.FieldType.boolean)) ∈ lw_all := lw_g (lw_at lw_m8 12 rfl) rfl
theorem q1766 : (Jvm.Cond.methodLink "OldLightModel" (266 : Nat) ({ cls := "OldLightModel", name := "isShownSo", desc := "(II)Z" } : Jvm.MethodName)) ∈ lw_all := lw_g (lw_at lw_m8 13 rfl) rfl
theorem q1767 : (Jvm.Cond.privateMethod ({ cls := "OldLightModel", name := "isShownSo", desc := "(II)Z" } : Jvm.MethodName)) ∈ lw_tbl := lw_at lw_m8 14 rfl
theorem q1768 : (Jvm.Cond.instanceMethod ({ cls := "OldLightModel", name := "isShownSo", desc := "(II)Z" } : Jvm.MethodName)) ∈ lw_all := lw_g (lw_at lw_m8 15 rfl) rfl
theorem q1769 : (Jvm.Cond.code ({ cls := "OldLightModel", name := "isShownSo", desc := "(II)Z" } : Jvm.MethodName) prog_30_method_72_code (6 : Nat) (Option.some Jvm.ClassFile.FieldType.boolean)) ∈ lw_all := lw_g (lw_at lw_m8 16 rfl) rfl
theorem q1771 : (Jvm.Cond.instanceMethod ({ cls := "OldLightModel", name := "struck", desc := "(I)I" } : Jvm.MethodName)) ∈ lw_all := lw_g (lw_at lw_m8 18 rfl) rfl
theorem q1772 : (Jvm.Cond.selects "OldLightModel" ({ cls := "OldLightModel", name := "struck", desc := "(I)I" } : Jvm.MethodName) ({ cls := "OldLightModel", name := "struck", desc := "(I)I" } : Jvm.MethodName)) ∈ lw_all := lw_g (lw_at lw_m8 19 rfl) rfl
theorem q1773 : (Jvm.Cond.code ({ cls := "OldLightModel", name := "struck", desc := "(I)I" } : Jvm.MethodName) prog_30_method_74_code (2 : Nat) (Option.some Jvm.ClassFile.FieldType.int)) ∈ lw_all := lw_g (lw_at lw_m8 20 rfl) rfl
theorem q1775 : (Jvm.Cond.instanceMethod ({ cls := "OldLightModel", name := "dark", desc := "(I)I" } : Jvm.MethodName)) ∈ lw_all := lw_g (lw_at lw_m8 22 rfl) rfl
theorem q1776 : (Jvm.Cond.selects "OldLightModel" ({ cls := "OldLightModel", name := "dark", desc := "(I)I" } : Jvm.MethodName) ({ cls := "OldLightModel", name := "dark", desc := "(I)I" } : Jvm.MethodName)) ∈ lw_all := lw_g (lw_at lw_m8 23 rfl) rfl
theorem q1777 : (Jvm.Cond.code ({ cls := "OldLightModel", name := "dark", desc := "(I)I" } : Jvm.MethodName) prog_30_method_75_code (5 : Nat) (Option.some Jvm.ClassFile.FieldType.int)) ∈ lw_all := lw_g (lw_at lw_m8 24 rfl) rfl
theorem q1779 : (Jvm.Cond.instanceMethod ({ cls := "OldLightModel", name := "deep", desc := "(II)I" } : Jvm.MethodName)) ∈ lw_all := lw_g (lw_at lw_m8 26 rfl) rfl
theorem q1780 : (Jvm.Cond.selects "OldLightModel" ({ cls := "OldLightModel", name := "deep", desc := "(II)I" } : Jvm.MethodName) ({ cls := "OldLightModel", name := "deep", desc := "(II)I" } : Jvm.MethodName)) ∈ lw_all := lw_g (lw_at lw_m8 27 rfl) rfl
theorem q1781 : (Jvm.Cond.code ({ cls := "OldLightModel", name := "deep", desc := "(II)I" } : Jvm.MethodName) prog_30_method_76_code (4 : Nat) (Option.some Jvm.ClassFile.FieldType.int)) ∈ lw_all := lw_g (lw_at lw_m8 28 rfl) rfl
theorem q1783 : (Jvm.Cond.instanceMethod ({ cls := "OldLightModel", name := "draws", desc := "(I)I" } : Jvm.MethodName)) ∈ lw_all := lw_g (lw_at lw_m8 30 rfl) rfl
theorem q1784 : (Jvm.Cond.selects "OldLightModel" ({ cls := "OldLightModel", name := "draws", desc := "(I)I" } : Jvm.MethodName) ({ cls := "OldLightModel", name := "draws", desc := "(I)I" } : Jvm.MethodName)) ∈ lw_all := lw_g (lw_at lw_m8 31 rfl) rfl
theorem q1785 : (Jvm.Cond.code ({ cls := "OldLightModel", name := "draws", desc := "(I)I" } : Jvm.MethodName) prog_30_method_77_code (4 : Nat) (Option.some Jvm.ClassFile.FieldType.int)) ∈ lw_all := lw_g (lw_at lw_m8 32 rfl) rfl
theorem q1787 : (Jvm.Cond.instanceMethod ({ cls := "OldLightModel", name := "traffic", desc := "(II)I" } : Jvm.MethodName)) ∈ lw_all := lw_g (lw_at lw_m8 34 rfl) rfl
theorem q1788 : (Jvm.Cond.selects "OldLightModel" ({ cls := "OldLightModel", name := "traffic", desc := "(II)I" } : Jvm.MethodName) ({ cls := "OldLightModel", name := "traffic", desc := "(II)I" } : Jvm.MethodName)) ∈ lw_all := lw_g (lw_at lw_m8 35 rfl) rfl
theorem q1789 : (Jvm.Cond.code ({ cls := "OldLightModel", name := "traffic", desc := "(II)I" } : Jvm.MethodName) prog_30_method_78_code (7 : Nat) (Option.some Jvm.ClassFile.FieldType.int)) ∈ lw_all := lw_g (lw_at lw_m8 36 rfl) rfl
theorem q1791 : (Jvm.Cond.instanceMethod ({ cls := "OldLightModel", name := "odds", desc := "(III)I" } : Jvm.MethodName)) ∈ lw_all := lw_g (lw_at lw_m8 38 rfl) rfl
theorem q1792 : (Jvm.Cond.selects "OldLightModel" ({ cls := "OldLightModel", name := "odds", desc := "(III)I" } : Jvm.MethodName) ({ cls := "OldLightModel", name := "odds", desc := "(III)I" } : Jvm.MethodName)) ∈ lw_all := lw_g (lw_at lw_m8 39 rfl) rfl
theorem q1793 : (Jvm.Cond.code ({ cls := "OldLightModel", name := "odds", desc := "(III)I" } : Jvm.MethodName) prog_30_method_79_code (8 : Nat) (Option.some Jvm.ClassFile.FieldType.int)) ∈ lw_all := lw_g (lw_at lw_m8 40 rfl) rfl
theorem q1795 : (Jvm.Cond.instanceMethod ({ cls := "OldLightModel", name := "seed", desc := "(I)I" } : Jvm.MethodName)) ∈ lw_all := lw_g (lw_at lw_m8 42 rfl) rfl
theorem q1796 : (Jvm.Cond.selects "OldLightModel" ({ cls := "OldLightModel", name := "seed", desc := "(I)I" } : Jvm.MethodName) ({ cls := "OldLightModel", name := "seed", desc := "(I)I" } : Jvm.MethodName)) ∈ lw_all := lw_g (lw_at lw_m8 43 rfl) rfl
theorem q1797 : (Jvm.Cond.code ({ cls := "OldLightModel", name := "seed", desc := "(I)I" } : Jvm.MethodName) prog_30_method_80_code (2 : Nat) (Option.some Jvm.ClassFile.FieldType.int)) ∈ lw_all := lw_g (lw_at lw_m8 44 rfl) rfl
theorem q1799 : (Jvm.Cond.instanceMethod ({ cls := "OldLightModel", name := "voice", desc := "(III)I" } : Jvm.MethodName)) ∈ lw_all := lw_g (lw_at lw_m8 46 rfl) rfl
theorem q1800 : (Jvm.Cond.selects "OldLightModel" ({ cls := "OldLightModel", name := "voice", desc := "(III)I" } : Jvm.MethodName) ({ cls := "OldLightModel", name := "voice", desc := "(III)I" } : Jvm.MethodName)) ∈ lw_all := lw_g (lw_at lw_m8 47 rfl) rfl
theorem q1801 : (Jvm.Cond.code ({ cls := "OldLightModel", name := "voice", desc := "(III)I" } : Jvm.MethodName) prog_30_method_87_code (4 : Nat) (Option.some Jvm.ClassFile.FieldType.int)) ∈ lw_all := lw_g (lw_at lw_m8 48 rfl) rfl
theorem q1802 : (Jvm.Cond.methodLink "OldLightModel" (281 : Nat) ({ cls := "OldLightModel", name := "sailsOf", desc := "(I)I" } : Jvm.MethodName)) ∈ lw_all := lw_g (lw_at lw_m8 49 rfl) rfl
theorem q1803 : (Jvm.Cond.privateMethod ({ cls := "OldLightModel", name := "sailsOf", desc := "(I)I" } : Jvm.MethodName)) ∈ lw_tbl := lw_at lw_m8 50 rfl
theorem q1804 : (Jvm.Cond.instanceMethod ({ cls := "OldLightModel", name := "sailsOf", desc := "(I)I" } : Jvm.MethodName)) ∈ lw_all := lw_g (lw_at lw_m8 51 rfl) rfl
theorem q1805 : (Jvm.Cond.code ({ cls := "OldLightModel", name := "sailsOf", desc := "(I)I" } : Jvm.MethodName) prog_30_method_82_code (3 : Nat) (Option.some Jvm.ClassFile.FieldType.int)) ∈ lw_all := lw_g (lw_at lw_m8 52 rfl) rfl
theorem q1806 : (Jvm.Cond.methodLink "OldLightModel" (275 : Nat) ({ cls := "OldLightModel", name := "ran", desc := "(I)V" } : Jvm.MethodName)) ∈ lw_all := lw_g (lw_at lw_m8 53 rfl) rfl
theorem q1807 : (Jvm.Cond.privateMethod ({ cls := "OldLightModel", name := "ran", desc := "(I)V" } : Jvm.MethodName)) ∈ lw_tbl := lw_at lw_m8 54 rfl
theorem q1808 : (Jvm.Cond.instanceMethod ({ cls := "OldLightModel", name := "ran", desc := "(I)V" } : Jvm.MethodName)) ∈ lw_all := lw_g (lw_at lw_m8 55 rfl) rfl
theorem q1809 : (Jvm.Cond.code ({ cls := "OldLightModel", name := "ran", desc := "(I)V" } : Jvm.MethodName) prog_30_method_81_code (2 : Nat) (Option.none : Option Jvm.ClassFile.FieldType)) ∈ lw_all := lw_g (lw_at lw_m8 56 rfl) rfl
theorem q1810 : (Jvm.Cond.methodLink "OldLightModel" (290 : Nat) ({ cls := "OldLightModel", name := "steersOf", desc := "(I)I" } : Jvm.MethodName)) ∈ lw_all := lw_g (lw_at lw_m8 57 rfl) rfl
theorem q1811 : (Jvm.Cond.privateMethod ({ cls := "OldLightModel", name := "steersOf", desc := "(I)I" } : Jvm.MethodName)) ∈ lw_tbl := lw_at lw_m8 58 rfl
theorem q1812 : (Jvm.Cond.instanceMethod ({ cls := "OldLightModel", name := "steersOf", desc := "(I)I" } : Jvm.MethodName)) ∈ lw_all := lw_g (lw_at lw_m8 59 rfl) rfl
theorem q1813 : (Jvm.Cond.code ({ cls := "OldLightModel", name := "steersOf", desc := "(I)I" } : Jvm.MethodName) prog_30_method_83_code (5 : Nat) (Option.some Jvm.ClassFile.FieldType.int)) ∈ lw_all := lw_g (lw_at lw_m8 60 rfl) rfl
theorem q1814 : (Jvm.Cond.methodLink "OldLightModel" (284 : Nat) ({ cls := "OldLightModel", name := "soundsOf", desc := "(I)I" } : Jvm.MethodName)) ∈ lw_all := lw_g (lw_at lw_m8 61 rfl) rfl
theorem q1815 : (Jvm.Cond.privateMethod ({ cls := "OldLightModel", name := "soundsOf", desc := "(I)I" } : Jvm.MethodName)) ∈ lw_tbl := lw_at lw_m8 62 rfl
theorem q1816 : (Jvm.Cond.instanceMethod ({ cls := "OldLightModel", name := "soundsOf", desc := "(I)I" } : Jvm.MethodName)) ∈ lw_all := lw_g (lw_at lw_m8 63 rfl) rfl
theorem q1817 : (Jvm.Cond.code ({ cls := "OldLightModel", name := "soundsOf", desc := "(I)I" } : Jvm.MethodName) prog_30_method_84_code (4 : Nat) (Option.some Jvm.ClassFile.FieldType.int)) ∈ lw_all := lw_g (lw_at lw_m8 64 rfl) rfl
theorem q1818 : (Jvm.Cond.methodLink "OldLightModel" (296 : Nat) ({ cls := "OldLightModel", name := "logsOf", desc := "(I)I" } : Jvm.MethodName)) ∈ lw_all := lw_g (lw_at lw_m8 65 rfl) rfl
theorem q1819 : (Jvm.Cond.privateMethod ({ cls := "OldLightModel", name := "logsOf", desc := "(I)I" } : Jvm.MethodName)) ∈ lw_tbl := lw_at lw_m8 66 rfl
theorem q1820 : (Jvm.Cond.instanceMethod ({ cls := "OldLightModel", name := "logsOf", desc := "(I)I" } : Jvm.MethodName)) ∈ lw_all := lw_g (lw_at lw_m8 67 rfl) rfl
theorem q1821 : (Jvm.Cond.code ({ cls := "OldLightModel", name := "logsOf", desc := "(I)I" } : Jvm.MethodName) prog_30_method_86_code (3 : Nat) (Option.some Jvm.ClassFile.FieldType.int)) ∈ lw_all := lw_g (lw_at lw_m8 68 rfl) rfl
theorem q1822 : (Jvm.Cond.methodLink "OldLightModel" (293 : Nat) ({ cls := "OldLightModel", name := "plainLogs", desc := "(I)I" } : Jvm.MethodName)) ∈ lw_all := lw_g (lw_at lw_m8 69 rfl) rfl
theorem q1823 : (Jvm.Cond.privateMethod ({ cls := "OldLightModel", name := "plainLogs", desc := "(I)I" } : Jvm.MethodName)) ∈ lw_tbl := lw_at lw_m8 70 rfl
theorem q1824 : (Jvm.Cond.instanceMethod ({ cls := "OldLightModel", name := "plainLogs", desc := "(I)I" } : Jvm.MethodName)) ∈ lw_all := lw_g (lw_at lw_m8 71 rfl) rfl
theorem q1825 : (Jvm.Cond.code ({ cls := "OldLightModel", name := "plainLogs", desc := "(I)I" } : Jvm.MethodName) prog_30_method_85_code (3 : Nat) (Option.some Jvm.ClassFile.FieldType.int)) ∈ lw_all := lw_g (lw_at lw_m8 72 rfl) rfl
theorem q1827 : (Jvm.Cond.instanceMethod ({ cls := "OldLightModel", name := "trace", desc := "(I)I" } : Jvm.MethodName)) ∈ lw_all := lw_g (lw_at lw_m8 74 rfl) rfl
theorem q1828 : (Jvm.Cond.selects "OldLightModel" ({ cls := "OldLightModel", name := "trace", desc := "(I)I" } : Jvm.MethodName) ({ cls := "OldLightModel", name := "trace", desc := "(I)I" } : Jvm.MethodName)) ∈ lw_all := lw_g (lw_at lw_m8 75 rfl) rfl
theorem q1829 : (Jvm.Cond.code ({ cls := "OldLightModel", name := "trace", desc := "(I)I" } : Jvm.MethodName) prog_30_method_88_code (2 : Nat) (Option.some Jvm.ClassFile.FieldType.int)) ∈ lw_all := lw_g (lw_at lw_m8 76 rfl) rfl
theorem q1831 : (Jvm.Cond.instanceMethod ({ cls := "OldLightModel", name := "sheet", desc := "(III)I" } : Jvm.MethodName)) ∈ lw_all := lw_g (lw_at lw_m8 78 rfl) rfl
theorem q1832 : (Jvm.Cond.selects "OldLightModel" ({ cls := "OldLightModel", name := "sheet", desc := "(III)I" } : Jvm.MethodName) ({ cls := "OldLightModel", name := "sheet", desc := "(III)I" } : Jvm.MethodName)) ∈ lw_all := lw_g (lw_at lw_m8 79 rfl) rfl
theorem q1833 : (Jvm.Cond.code ({ cls := "OldLightModel", name := "sheet", desc := "(III)I" } : Jvm.MethodName) prog_30_method_90_code (5 : Nat) (Option.some Jvm.ClassFile.FieldType.int)) ∈ lw_all := lw_g (lw_at lw_m8 80 rfl) rfl
theorem q1835 : (Jvm.Cond.instanceMethod ({ cls := "OldLightModel", name := "put", desc := "(III)I" } : Jvm.MethodName)) ∈ lw_all := lw_g (lw_at lw_m8 82 rfl) rfl
theorem q1836 : (Jvm.Cond.selects "OldLightModel" ({ cls := "OldLightModel", name := "put", desc := "(III)I" } : Jvm.MethodName) ({ cls := "OldLightModel", name := "put", desc := "(III)I" } : Jvm.MethodName)) ∈ lw_all := lw_g (lw_at lw_m8 83 rfl) rfl
theorem q1837 : (Jvm.Cond.code ({ cls := "OldLightModel", name := "put", desc := "(III)I" } : Jvm.MethodName) prog_30_method_91_code (4 : Nat) (Option.some Jvm.ClassFile.FieldType.int)) ∈ lw_all := lw_g (lw_at lw_m8 84 rfl) rfl
theorem q1839 : (Jvm.Cond.instanceMethod ({ cls := "OldLightModel", name := "move", desc := "(IIIII)I" } : Jvm.MethodName)) ∈ lw_all := lw_g (lw_at lw_m8 86 rfl) rfl
theorem q1840 : (Jvm.Cond.selects "OldLightModel" ({ cls := "OldLightModel", name := "move", desc := "(IIIII)I" } : Jvm.MethodName) ({ cls := "OldLightModel", name := "move", desc := "(IIIII)I" } : Jvm.MethodName)) ∈ lw_all := lw_g (lw_at lw_m8 87 rfl) rfl
theorem q1841 : (Jvm.Cond.code ({ cls := "OldLightModel", name := "move", desc := "(IIIII)I" } : Jvm.MethodName) prog_30_method_92_code (7 : Nat) (Option.some Jvm.ClassFile.FieldType.int)) ∈ lw_all := lw_g (lw_at lw_m8 88 rfl) rfl
theorem q1843 : (Jvm.Cond.instanceMethod ({ cls := "OldLightModel", name := "beds", desc := "(I)I" } : Jvm.MethodName)) ∈ lw_all := lw_g (lw_at lw_m8 90 rfl) rfl
theorem q1844 : (Jvm.Cond.selects "OldLightModel" ({ cls := "OldLightModel", name := "beds", desc := "(I)I" } : Jvm.MethodName) ({ cls := "OldLightModel", name := "beds", desc := "(I)I" } : Jvm.MethodName)) ∈ lw_all := lw_g (lw_at lw_m8 91 rfl) rfl
theorem q1845 : (Jvm.Cond.code ({ cls := "OldLightModel", name := "beds", desc := "(I)I" } : Jvm.MethodName) prog_30_method_93_code (3 : Nat) (Option.some Jvm.ClassFile.FieldType.int)) ∈ lw_all := lw_g (lw_at lw_m8 92 rfl) rfl
theorem q1847 : (Jvm.Cond.instanceMethod ({ cls := "OldLightModel", name := "judge", desc := "(I)I" } : Jvm.MethodName)) ∈ lw_all := lw_g (lw_at lw_m8 94 rfl) rfl
theorem q1848 : (Jvm.Cond.selects "OldLightModel" ({ cls := "OldLightModel", name := "judge", desc := "(I)I" } : Jvm.MethodName) ({ cls := "OldLightModel", name := "judge", desc := "(I)I" } : Jvm.MethodName)) ∈ lw_all := lw_g (lw_at lw_m8 95 rfl) rfl
theorem q1849 : (Jvm.Cond.code ({ cls := "OldLightModel", name := "judge", desc := "(I)I" } : Jvm.MethodName) prog_30_method_94_code (3 : Nat) (Option.some Jvm.ClassFile.FieldType.int)) ∈ lw_all := lw_g (lw_at lw_m8 96 rfl) rfl
theorem q1851 : (Jvm.Cond.instanceMethod ({ cls := "OldLightModel", name := "image", desc := "()I" } : Jvm.MethodName)) ∈ lw_all := lw_g (lw_at lw_m8 98 rfl) rfl
theorem q1852 : (Jvm.Cond.selects "OldLightModel" ({ cls := "OldLightModel", name := "image", desc := "()I" } : Jvm.MethodName) ({ cls := "OldLightModel", name := "image", desc := "()I" } : Jvm.MethodName)) ∈ lw_all := lw_g (lw_at lw_m8 99 rfl) rfl
theorem q1853 : (Jvm.Cond.code ({ cls := "OldLightModel", name := "image", desc := "()I" } : Jvm.MethodName) prog_30_method_95_code (1 : Nat) (Option.some Jvm.ClassFile.FieldType.int)) ∈ lw_all := lw_g (lw_at lw_m8 100 rfl) rfl
theorem q1855 : (Jvm.Cond.instanceMethod ({ cls := "OldLightModel", name := "restore", desc := "()I" } : Jvm.MethodName)) ∈ lw_all := lw_g (lw_at lw_m8 102 rfl) rfl
theorem q1856 : (Jvm.Cond.selects "OldLightModel" ({ cls := "OldLightModel", name := "restore", desc := "()I" } : Jvm.MethodName) ({ cls := "OldLightModel", name := "restore", desc := "()I" } : Jvm.MethodName)) ∈ lw_all := lw_g (lw_at lw_m8 103 rfl) rfl
theorem q1857 : (Jvm.Cond.code ({ cls := "OldLightModel", name := "restore", desc := "()I" } : Jvm.MethodName) prog_30_method_96_code (1 : Nat) (Option.some Jvm.ClassFile.FieldType.int)) ∈ lw_all := lw_g (lw_at lw_m8 104 rfl) rfl
theorem q1859 : (Jvm.Cond.instanceMethod ({ cls := "OldLightModel", name := "tell", desc := "(I)I" } : Jvm.MethodName)) ∈ lw_all := lw_g (lw_at lw_m8 106 rfl) rfl
theorem q1860 : (Jvm.Cond.selects "OldLightModel" ({ cls := "OldLightModel", name := "tell", desc := "(I)I" } : Jvm.MethodName) ({ cls := "OldLightModel", name := "tell", desc := "(I)I" } : Jvm.MethodName)) ∈ lw_all := lw_g (lw_at lw_m8 107 rfl) rfl
theorem q1861 : (Jvm.Cond.code ({ cls := "OldLightModel", name := "tell", desc := "(I)I" } : Jvm.MethodName) prog_30_method_97_code (2 : Nat) (Option.some Jvm.ClassFile.FieldType.int)) ∈ lw_all := lw_g (lw_at lw_m8 108 rfl) rfl
theorem q1863 : (Jvm.Cond.instanceMethod ({ cls := "OldLightModel", name := "check", desc := "()I" } : Jvm.MethodName)) ∈ lw_all := lw_g (lw_at lw_m8 110 rfl) rfl
theorem q1864 : (Jvm.Cond.selects "OldLightModel" ({ cls := "OldLightModel", name := "check", desc := "()I" } : Jvm.MethodName) ({ cls := "OldLightModel", name := "check", desc := "()I" } : Jvm.MethodName)) ∈ lw_all := lw_g (lw_at lw_m8 111 rfl) rfl
theorem q1865 : (Jvm.Cond.code ({ cls := "OldLightModel", name := "check", desc := "()I" } : Jvm.MethodName) prog_30_method_98_code (4 : Nat) (Option.some Jvm.ClassFile.FieldType.int)) ∈ lw_all := lw_g (lw_at lw_m8 112 rfl) rfl
theorem q1867 : (Jvm.Cond.instanceMethod ({ cls := "OldLightModel", name := "count", desc := "(I)I" } : Jvm.MethodName)) ∈ lw_all := lw_g (lw_at lw_m8 114 rfl) rfl
theorem q1868 : (Jvm.Cond.selects "OldLightModel" ({ cls := "OldLightModel", name := "count", desc := "(I)I" } : Jvm.MethodName) ({ cls := "OldLightModel", name := "count", desc := "(I)I" } : Jvm.MethodName)) ∈ lw_all := lw_g (lw_at lw_m8 115 rfl) rfl
theorem q1869 : (Jvm.Cond.code ({ cls := "OldLightModel", name := "count", desc := "(I)I" } : Jvm.MethodName) prog_30_method_99_code (2 : Nat) (Option.some Jvm.ClassFile.FieldType.int)) ∈ lw_all := lw_g (lw_at lw_m8 116 rfl) rfl
theorem q1871 : (Jvm.Cond.instanceMethod ({ cls := "OldLightModel", name := "told", desc := "(I)I" } : Jvm.MethodName)) ∈ lw_all := lw_g (lw_at lw_m8 118 rfl) rfl
theorem q1872 : (Jvm.Cond.selects "OldLightModel" ({ cls := "OldLightModel", name := "told", desc := "(I)I" } : Jvm.MethodName) ({ cls := "OldLightModel", name := "told", desc := "(I)I" } : Jvm.MethodName)) ∈ lw_all := lw_g (lw_at lw_m8 119 rfl) rfl
theorem q1873 : (Jvm.Cond.code ({ cls := "OldLightModel", name := "told", desc := "(I)I" } : Jvm.MethodName) prog_30_method_100_code (2 : Nat) (Option.some Jvm.ClassFile.FieldType.int)) ∈ lw_all := lw_g (lw_at lw_m8 120 rfl) rfl
theorem in_X6 : ∀ w ∈ wsX60, w ∈ lw_all := lw_in wsX60 [1428, 1430, 1432, 1434, 1436, 1438, 1440, 1442, 1444, 1446, 1448, 1450, 1452, 1454, 1456, 1458, 1460, 1462, 1464, 1466, 1468, 1470, 1472, 1474] (by decide +kernel) (by decide +kernel)
