set_option maxRecDepth 100000
/-! OldLight$Bay -/
set_option maxRecDepth 100000
def RX2 : String := "OldLight$Bay"
def TX2 : u_T := fun k => match k with
  | 0 => ("OldLight$Bay", "cells", "I", false)
  | 1 => ("OldLight$Bay", "bed", "[I", true)
  | 2 => ("OldLight$Bay", "since", "[I", true)
  | 3 => ("OldLight$Bay", "till", "[I", true)
  | 4 => ("OldLight$Bay", "year", "I", false)
  | 5 => ("OldLight$Bay", "back", "I", false)
  | 6 => ("OldLight$Bay", "beam", "I", false)
  | 7 => ("OldLight$Bay", "hour", "I", false)
  | 8 => ("OldLight$Bay", "ships", "I", false)
  | 9 => ("OldLight$Bay", "ship", "[LOldLight$Ship;", true)
  | 10 => ("OldLight$Bay", "draft", "[I", true)
  | 11 => ("OldLight$Bay", "at", "[I", true)
  | 12 => ("OldLight$Bay", "lost", "[I", true)
  | 13 => ("OldLight$Bay", "text", "[LOldLight$Term;", true)
  | 14 => ("OldLight$Bay", "z", "I", false)
  | 15 => ("OldLight$Bay", "tape", "[B", true)
  | 16 => ("OldLight$Bay", "taped", "I", false)
  | 17 => ("OldLight$Bay", "waiting", "[I", true)
  | 18 => ("OldLight$Bay", "waits", "I", false)
  | _ => ("OldLight$Bay", "facts", "LOldLight$Facts;", true)
def tyX2 : Nat → FieldType := fun k => match k with
  | 0 => .int
  | 1 => .array .int
  | 2 => .array .int
  | 3 => .array .int
  | 4 => .int
  | 5 => .int
  | 6 => .int
  | 7 => .int
  | 8 => .int
  | 9 => .array (.object "OldLight$Ship")
  | 10 => .array .int
  | 11 => .array .int
  | 12 => .array .int
  | 13 => .array (.object "OldLight$Term")
  | 14 => .int
  | 15 => .array .byte
  | 16 => .int
  | 17 => .array .int
  | 18 => .int
  | _ => .object "OldLight$Facts"
abbrev wsX20 : List Cond := u_ws RX2 TX2 20
set_option maxRecDepth 100000 in
theorem nmX2 : ∀ a, a < 20 → ∀ b, b < 20 → a ≠ b → (TX2 a).2.1 ≠ (TX2 b).2.1 := by decide +kernel
set_option maxRecDepth 100000 in
theorem tyX2_ok : ∀ k, k < 20 → parseFieldDescriptor (TX2 k).2.2.1 = some (tyX2 k) := by decide +kernel
abbrev cX2_init : ByteArray := prog_2_method_1_code
def yX2_init : MethodName := ⟨RX2, "<init>", "()V"⟩
def dkwX2_init_7 : List UInt8 := [188, 10, 181, 0, 56, 42, 187, 0, 59, 89, 183, 0, 61, 181, 0, 62, 177]
abbrev dktX2_init_7 : List UInt8 := dkwX2_init_7 ++ []
def dkwX2_init_6 : List UInt8 := [5, 189, 0, 43, 181, 0, 45, 42, 4, 181, 0, 49, 42, 16, 50, 188, 8, 181, 0, 52, 42, 16, 20]
abbrev dktX2_init_6 : List UInt8 := dkwX2_init_6 ++ dktX2_init_7
def dkwX2_init_5 : List UInt8 := [16, 7, 188, 10, 181, 0, 34, 42, 16, 7, 188, 10, 181, 0, 37, 42, 16, 7, 188, 10, 181, 0, 40, 42]
abbrev dktX2_init_5 : List UInt8 := dkwX2_init_5 ++ dktX2_init_6
def dkwX2_init_4 : List UInt8 := [16, 8, 188, 10, 181, 0, 22, 42, 17, 0, 200, 181, 0, 25, 42, 16, 7, 189, 0, 28, 181, 0, 30, 42]
abbrev dktX2_init_4 : List UInt8 := dkwX2_init_4 ++ dktX2_init_5
def dkwX2_init_3 : List UInt8 := [79, 89, 7, 4, 79, 89, 8, 4, 79, 89, 16, 6, 4, 79, 89, 16, 7, 4, 79, 181, 0, 19, 42]
abbrev dktX2_init_3 : List UInt8 := dkwX2_init_3 ++ dktX2_init_4
def dkwX2_init_2 : List UInt8 := [79, 181, 0, 15, 42, 16, 8, 188, 10, 89, 3, 4, 79, 89, 4, 4, 79, 89, 5, 4, 79, 89, 6, 4]
abbrev dktX2_init_2 : List UInt8 := dkwX2_init_2 ++ dktX2_init_3
def dkwX2_init_1 : List UInt8 := [5, 8, 79, 89, 6, 8, 79, 89, 7, 8, 79, 89, 8, 8, 79, 89, 16, 6, 8, 79, 89, 16, 7, 8]
abbrev dktX2_init_1 : List UInt8 := dkwX2_init_1 ++ dktX2_init_2
def dkwX2_init_0 : List UInt8 := [42, 183, 0, 3, 42, 16, 8, 181, 0, 9, 42, 16, 8, 188, 10, 89, 3, 8, 79, 89, 4, 8, 79, 89]
abbrev dktX2_init_0 : List UInt8 := dkwX2_init_0 ++ dktX2_init_1
theorem dksX2_init_0 : cX2_init.data.toList.drop 0 = dktX2_init_0 := by decide +kernel
theorem dksX2_init_1 : cX2_init.data.toList.drop 24 = dktX2_init_1 := dk_seg dksX2_init_0 24 rfl rfl
theorem dksX2_init_2 : cX2_init.data.toList.drop 48 = dktX2_init_2 := dk_seg dksX2_init_1 24 rfl rfl
theorem dksX2_init_3 : cX2_init.data.toList.drop 72 = dktX2_init_3 := dk_seg dksX2_init_2 24 rfl rfl
theorem dksX2_init_4 : cX2_init.data.toList.drop 95 = dktX2_init_4 := dk_seg dksX2_init_3 23 rfl rfl
theorem dksX2_init_5 : cX2_init.data.toList.drop 119 = dktX2_init_5 := dk_seg dksX2_init_4 24 rfl rfl
theorem dksX2_init_6 : cX2_init.data.toList.drop 143 = dktX2_init_6 := dk_seg dksX2_init_5 24 rfl rfl
theorem dksX2_init_7 : cX2_init.data.toList.drop 166 = dktX2_init_7 := dk_seg dksX2_init_6 23 rfl rfl
theorem dX2_init_0 : decode cX2_init 0 = .ok (.aload_n 0, 1) := dk_42 (dk_at dksX2_init_0 0 rfl rfl)
theorem dX2_init_1 : decode cX2_init 1 = .ok (.invokespecial 3, 3) := dk_183 0 3 (dk_at dksX2_init_0 1 rfl rfl)
theorem dX2_init_4 : decode cX2_init 4 = .ok (.aload_n 0, 1) := dk_42 (dk_at dksX2_init_0 4 rfl rfl)
theorem dX2_init_5 : decode cX2_init 5 = .ok (.bipush 8, 2) := dk_16 8 (dk_at dksX2_init_0 5 rfl rfl)
theorem dX2_init_7 : decode cX2_init 7 = .ok (.putfield 9, 3) := dk_181 0 9 (dk_at dksX2_init_0 7 rfl rfl)
theorem dX2_init_10 : decode cX2_init 10 = .ok (.aload_n 0, 1) := dk_42 (dk_at dksX2_init_0 10 rfl rfl)
theorem dX2_init_11 : decode cX2_init 11 = .ok (.bipush 8, 2) := dk_16 8 (dk_at dksX2_init_0 11 rfl rfl)
theorem dX2_init_13 : decode cX2_init 13 = .ok (.newarray .int, 2) := dk_188_10 (dk_at dksX2_init_0 13 rfl rfl)
theorem dX2_init_15 : decode cX2_init 15 = .ok (.dup, 1) := dk_89 (dk_at dksX2_init_0 15 rfl rfl)
theorem dX2_init_16 : decode cX2_init 16 = .ok (.iconst 0, 1) := dk_3 (dk_at dksX2_init_0 16 rfl rfl)
theorem dX2_init_17 : decode cX2_init 17 = .ok (.iconst 5, 1) := dk_8 (dk_at dksX2_init_0 17 rfl rfl)
theorem dX2_init_18 : decode cX2_init 18 = .ok (.iastore, 1) := dk_79 (dk_at dksX2_init_0 18 rfl rfl)
theorem dX2_init_19 : decode cX2_init 19 = .ok (.dup, 1) := dk_89 (dk_at dksX2_init_0 19 rfl rfl)
theorem dX2_init_20 : decode cX2_init 20 = .ok (.iconst 1, 1) := dk_4 (dk_at dksX2_init_0 20 rfl rfl)
theorem dX2_init_21 : decode cX2_init 21 = .ok (.iconst 5, 1) := dk_8 (dk_at dksX2_init_0 21 rfl rfl)
theorem dX2_init_22 : decode cX2_init 22 = .ok (.iastore, 1) := dk_79 (dk_at dksX2_init_0 22 rfl rfl)
theorem dX2_init_23 : decode cX2_init 23 = .ok (.dup, 1) := dk_89 (dk_at dksX2_init_0 23 rfl rfl)
theorem dX2_init_24 : decode cX2_init 24 = .ok (.iconst 2, 1) := dk_5 (dk_at dksX2_init_1 0 rfl rfl)
theorem dX2_init_25 : decode cX2_init 25 = .ok (.iconst 5, 1) := dk_8 (dk_at dksX2_init_1 1 rfl rfl)
theorem dX2_init_26 : decode cX2_init 26 = .ok (.iastore, 1) := dk_79 (dk_at dksX2_init_1 2 rfl rfl)
theorem dX2_init_27 : decode cX2_init 27 = .ok (.dup, 1) := dk_89 (dk_at dksX2_init_1 3 rfl rfl)
theorem dX2_init_28 : decode cX2_init 28 = .ok (.iconst 3, 1) := dk_6 (dk_at dksX2_init_1 4 rfl rfl)
theorem dX2_init_29 : decode cX2_init 29 = .ok (.iconst 5, 1) := dk_8 (dk_at dksX2_init_1 5 rfl rfl)
theorem dX2_init_30 : decode cX2_init 30 = .ok (.iastore, 1) := dk_79 (dk_at dksX2_init_1 6 rfl rfl)
theorem dX2_init_31 : decode cX2_init 31 = .ok (.dup, 1) := dk_89 (dk_at dksX2_init_1 7 rfl rfl)
theorem dX2_init_32 : decode cX2_init 32 = .ok (.iconst 4, 1) := dk_7 (dk_at dksX2_init_1 8 rfl rfl)
theorem dX2_init_33 : decode cX2_init 33 = .ok (.iconst 5, 1) := dk_8 (dk_at dksX2_init_1 9 rfl rfl)
theorem dX2_init_34 : decode cX2_init 34 = .ok (.iastore, 1) := dk_79 (dk_at dksX2_init_1 10 rfl rfl)
theorem dX2_init_35 : decode cX2_init 35 = .ok (.dup, 1) := dk_89 (dk_at dksX2_init_1 11 rfl rfl)
theorem dX2_init_36 : decode cX2_init 36 = .ok (.iconst 5, 1) := dk_8 (dk_at dksX2_init_1 12 rfl rfl)
theorem dX2_init_37 : decode cX2_init 37 = .ok (.iconst 5, 1) := dk_8 (dk_at dksX2_init_1 13 rfl rfl)
theorem dX2_init_38 : decode cX2_init 38 = .ok (.iastore, 1) := dk_79 (dk_at dksX2_init_1 14 rfl rfl)
theorem dX2_init_39 : decode cX2_init 39 = .ok (.dup, 1) := dk_89 (dk_at dksX2_init_1 15 rfl rfl)
theorem dX2_init_40 : decode cX2_init 40 = .ok (.bipush 6, 2) := dk_16 6 (dk_at dksX2_init_1 16 rfl rfl)
theorem dX2_init_42 : decode cX2_init 42 = .ok (.iconst 5, 1) := dk_8 (dk_at dksX2_init_1 18 rfl rfl)
theorem dX2_init_43 : decode cX2_init 43 = .ok (.iastore, 1) := dk_79 (dk_at dksX2_init_1 19 rfl rfl)
theorem dX2_init_44 : decode cX2_init 44 = .ok (.dup, 1) := dk_89 (dk_at dksX2_init_1 20 rfl rfl)
theorem dX2_init_45 : decode cX2_init 45 = .ok (.bipush 7, 2) := dk_16 7 (dk_at dksX2_init_1 21 rfl rfl)
theorem dX2_init_47 : decode cX2_init 47 = .ok (.iconst 5, 1) := dk_8 (dk_at dksX2_init_1 23 rfl rfl)
theorem dX2_init_48 : decode cX2_init 48 = .ok (.iastore, 1) := dk_79 (dk_at dksX2_init_2 0 rfl rfl)
theorem dX2_init_49 : decode cX2_init 49 = .ok (.putfield 15, 3) := dk_181 0 15 (dk_at dksX2_init_2 1 rfl rfl)
theorem dX2_init_52 : decode cX2_init 52 = .ok (.aload_n 0, 1) := dk_42 (dk_at dksX2_init_2 4 rfl rfl)
theorem dX2_init_53 : decode cX2_init 53 = .ok (.bipush 8, 2) := dk_16 8 (dk_at dksX2_init_2 5 rfl rfl)
theorem dX2_init_55 : decode cX2_init 55 = .ok (.newarray .int, 2) := dk_188_10 (dk_at dksX2_init_2 7 rfl rfl)
theorem dX2_init_57 : decode cX2_init 57 = .ok (.dup, 1) := dk_89 (dk_at dksX2_init_2 9 rfl rfl)
theorem dX2_init_58 : decode cX2_init 58 = .ok (.iconst 0, 1) := dk_3 (dk_at dksX2_init_2 10 rfl rfl)
theorem dX2_init_59 : decode cX2_init 59 = .ok (.iconst 1, 1) := dk_4 (dk_at dksX2_init_2 11 rfl rfl)
theorem dX2_init_60 : decode cX2_init 60 = .ok (.iastore, 1) := dk_79 (dk_at dksX2_init_2 12 rfl rfl)
theorem dX2_init_61 : decode cX2_init 61 = .ok (.dup, 1) := dk_89 (dk_at dksX2_init_2 13 rfl rfl)
theorem dX2_init_62 : decode cX2_init 62 = .ok (.iconst 1, 1) := dk_4 (dk_at dksX2_init_2 14 rfl rfl)
theorem dX2_init_63 : decode cX2_init 63 = .ok (.iconst 1, 1) := dk_4 (dk_at dksX2_init_2 15 rfl rfl)
theorem dX2_init_64 : decode cX2_init 64 = .ok (.iastore, 1) := dk_79 (dk_at dksX2_init_2 16 rfl rfl)
theorem dX2_init_65 : decode cX2_init 65 = .ok (.dup, 1) := dk_89 (dk_at dksX2_init_2 17 rfl rfl)
theorem dX2_init_66 : decode cX2_init 66 = .ok (.iconst 2, 1) := dk_5 (dk_at dksX2_init_2 18 rfl rfl)
theorem dX2_init_67 : decode cX2_init 67 = .ok (.iconst 1, 1) := dk_4 (dk_at dksX2_init_2 19 rfl rfl)
theorem dX2_init_68 : decode cX2_init 68 = .ok (.iastore, 1) := dk_79 (dk_at dksX2_init_2 20 rfl rfl)
theorem dX2_init_69 : decode cX2_init 69 = .ok (.dup, 1) := dk_89 (dk_at dksX2_init_2 21 rfl rfl)
theorem dX2_init_70 : decode cX2_init 70 = .ok (.iconst 3, 1) := dk_6 (dk_at dksX2_init_2 22 rfl rfl)
theorem dX2_init_71 : decode cX2_init 71 = .ok (.iconst 1, 1) := dk_4 (dk_at dksX2_init_2 23 rfl rfl)
theorem dX2_init_72 : decode cX2_init 72 = .ok (.iastore, 1) := dk_79 (dk_at dksX2_init_3 0 rfl rfl)
theorem dX2_init_73 : decode cX2_init 73 = .ok (.dup, 1) := dk_89 (dk_at dksX2_init_3 1 rfl rfl)
theorem dX2_init_74 : decode cX2_init 74 = .ok (.iconst 4, 1) := dk_7 (dk_at dksX2_init_3 2 rfl rfl)
theorem dX2_init_75 : decode cX2_init 75 = .ok (.iconst 1, 1) := dk_4 (dk_at dksX2_init_3 3 rfl rfl)
theorem dX2_init_76 : decode cX2_init 76 = .ok (.iastore, 1) := dk_79 (dk_at dksX2_init_3 4 rfl rfl)
theorem dX2_init_77 : decode cX2_init 77 = .ok (.dup, 1) := dk_89 (dk_at dksX2_init_3 5 rfl rfl)
theorem dX2_init_78 : decode cX2_init 78 = .ok (.iconst 5, 1) := dk_8 (dk_at dksX2_init_3 6 rfl rfl)
theorem dX2_init_79 : decode cX2_init 79 = .ok (.iconst 1, 1) := dk_4 (dk_at dksX2_init_3 7 rfl rfl)
theorem dX2_init_80 : decode cX2_init 80 = .ok (.iastore, 1) := dk_79 (dk_at dksX2_init_3 8 rfl rfl)
theorem dX2_init_81 : decode cX2_init 81 = .ok (.dup, 1) := dk_89 (dk_at dksX2_init_3 9 rfl rfl)
theorem dX2_init_82 : decode cX2_init 82 = .ok (.bipush 6, 2) := dk_16 6 (dk_at dksX2_init_3 10 rfl rfl)
theorem dX2_init_84 : decode cX2_init 84 = .ok (.iconst 1, 1) := dk_4 (dk_at dksX2_init_3 12 rfl rfl)
theorem dX2_init_85 : decode cX2_init 85 = .ok (.iastore, 1) := dk_79 (dk_at dksX2_init_3 13 rfl rfl)
theorem dX2_init_86 : decode cX2_init 86 = .ok (.dup, 1) := dk_89 (dk_at dksX2_init_3 14 rfl rfl)
theorem dX2_init_87 : decode cX2_init 87 = .ok (.bipush 7, 2) := dk_16 7 (dk_at dksX2_init_3 15 rfl rfl)
theorem dX2_init_89 : decode cX2_init 89 = .ok (.iconst 1, 1) := dk_4 (dk_at dksX2_init_3 17 rfl rfl)
theorem dX2_init_90 : decode cX2_init 90 = .ok (.iastore, 1) := dk_79 (dk_at dksX2_init_3 18 rfl rfl)
theorem dX2_init_91 : decode cX2_init 91 = .ok (.putfield 19, 3) := dk_181 0 19 (dk_at dksX2_init_3 19 rfl rfl)
theorem dX2_init_94 : decode cX2_init 94 = .ok (.aload_n 0, 1) := dk_42 (dk_at dksX2_init_3 22 rfl rfl)
theorem dX2_init_95 : decode cX2_init 95 = .ok (.bipush 8, 2) := dk_16 8 (dk_at dksX2_init_4 0 rfl rfl)
theorem dX2_init_97 : decode cX2_init 97 = .ok (.newarray .int, 2) := dk_188_10 (dk_at dksX2_init_4 2 rfl rfl)
theorem dX2_init_99 : decode cX2_init 99 = .ok (.putfield 22, 3) := dk_181 0 22 (dk_at dksX2_init_4 4 rfl rfl)
theorem dX2_init_102 : decode cX2_init 102 = .ok (.aload_n 0, 1) := dk_42 (dk_at dksX2_init_4 7 rfl rfl)
theorem dX2_init_103 : decode cX2_init 103 = .ok (.sipush 200, 3) := dk_17 0 200 (dk_at dksX2_init_4 8 rfl rfl)
theorem dX2_init_106 : decode cX2_init 106 = .ok (.putfield 25, 3) := dk_181 0 25 (dk_at dksX2_init_4 11 rfl rfl)
theorem dX2_init_109 : decode cX2_init 109 = .ok (.aload_n 0, 1) := dk_42 (dk_at dksX2_init_4 14 rfl rfl)
theorem dX2_init_110 : decode cX2_init 110 = .ok (.bipush 7, 2) := dk_16 7 (dk_at dksX2_init_4 15 rfl rfl)
theorem dX2_init_112 : decode cX2_init 112 = .ok (.anewarray 28, 3) := dk_189 0 28 (dk_at dksX2_init_4 17 rfl rfl)
theorem dX2_init_115 : decode cX2_init 115 = .ok (.putfield 30, 3) := dk_181 0 30 (dk_at dksX2_init_4 20 rfl rfl)
theorem dX2_init_118 : decode cX2_init 118 = .ok (.aload_n 0, 1) := dk_42 (dk_at dksX2_init_4 23 rfl rfl)
theorem dX2_init_119 : decode cX2_init 119 = .ok (.bipush 7, 2) := dk_16 7 (dk_at dksX2_init_5 0 rfl rfl)
theorem dX2_init_121 : decode cX2_init 121 = .ok (.newarray .int, 2) := dk_188_10 (dk_at dksX2_init_5 2 rfl rfl)
theorem dX2_init_123 : decode cX2_init 123 = .ok (.putfield 34, 3) := dk_181 0 34 (dk_at dksX2_init_5 4 rfl rfl)
theorem dX2_init_126 : decode cX2_init 126 = .ok (.aload_n 0, 1) := dk_42 (dk_at dksX2_init_5 7 rfl rfl)
theorem dX2_init_127 : decode cX2_init 127 = .ok (.bipush 7, 2) := dk_16 7 (dk_at dksX2_init_5 8 rfl rfl)
theorem dX2_init_129 : decode cX2_init 129 = .ok (.newarray .int, 2) := dk_188_10 (dk_at dksX2_init_5 10 rfl rfl)
theorem dX2_init_131 : decode cX2_init 131 = .ok (.putfield 37, 3) := dk_181 0 37 (dk_at dksX2_init_5 12 rfl rfl)
theorem dX2_init_134 : decode cX2_init 134 = .ok (.aload_n 0, 1) := dk_42 (dk_at dksX2_init_5 15 rfl rfl)
theorem dX2_init_135 : decode cX2_init 135 = .ok (.bipush 7, 2) := dk_16 7 (dk_at dksX2_init_5 16 rfl rfl)
theorem dX2_init_137 : decode cX2_init 137 = .ok (.newarray .int, 2) := dk_188_10 (dk_at dksX2_init_5 18 rfl rfl)
theorem dX2_init_139 : decode cX2_init 139 = .ok (.putfield 40, 3) := dk_181 0 40 (dk_at dksX2_init_5 20 rfl rfl)
theorem dX2_init_142 : decode cX2_init 142 = .ok (.aload_n 0, 1) := dk_42 (dk_at dksX2_init_5 23 rfl rfl)
theorem dX2_init_143 : decode cX2_init 143 = .ok (.iconst 2, 1) := dk_5 (dk_at dksX2_init_6 0 rfl rfl)
theorem dX2_init_144 : decode cX2_init 144 = .ok (.anewarray 43, 3) := dk_189 0 43 (dk_at dksX2_init_6 1 rfl rfl)
theorem dX2_init_147 : decode cX2_init 147 = .ok (.putfield 45, 3) := dk_181 0 45 (dk_at dksX2_init_6 4 rfl rfl)
theorem dX2_init_150 : decode cX2_init 150 = .ok (.aload_n 0, 1) := dk_42 (dk_at dksX2_init_6 7 rfl rfl)
theorem dX2_init_151 : decode cX2_init 151 = .ok (.iconst 1, 1) := dk_4 (dk_at dksX2_init_6 8 rfl rfl)
theorem dX2_init_152 : decode cX2_init 152 = .ok (.putfield 49, 3) := dk_181 0 49 (dk_at dksX2_init_6 9 rfl rfl)
theorem dX2_init_155 : decode cX2_init 155 = .ok (.aload_n 0, 1) := dk_42 (dk_at dksX2_init_6 12 rfl rfl)
theorem dX2_init_156 : decode cX2_init 156 = .ok (.bipush 50, 2) := dk_16 50 (dk_at dksX2_init_6 13 rfl rfl)
theorem dX2_init_158 : decode cX2_init 158 = .ok (.newarray .byte, 2) := dk_188_8 (dk_at dksX2_init_6 15 rfl rfl)
theorem dX2_init_160 : decode cX2_init 160 = .ok (.putfield 52, 3) := dk_181 0 52 (dk_at dksX2_init_6 17 rfl rfl)
theorem dX2_init_163 : decode cX2_init 163 = .ok (.aload_n 0, 1) := dk_42 (dk_at dksX2_init_6 20 rfl rfl)
theorem dX2_init_164 : decode cX2_init 164 = .ok (.bipush 20, 2) := dk_16 20 (dk_at dksX2_init_6 21 rfl rfl)
theorem dX2_init_166 : decode cX2_init 166 = .ok (.newarray .int, 2) := dk_188_10 (dk_at dksX2_init_7 0 rfl rfl)
theorem dX2_init_168 : decode cX2_init 168 = .ok (.putfield 56, 3) := dk_181 0 56 (dk_at dksX2_init_7 2 rfl rfl)
theorem dX2_init_171 : decode cX2_init 171 = .ok (.aload_n 0, 1) := dk_42 (dk_at dksX2_init_7 5 rfl rfl)
theorem dX2_init_172 : decode cX2_init 172 = .ok (.new 59, 3) := dk_187 0 59 (dk_at dksX2_init_7 6 rfl rfl)
theorem dX2_init_175 : decode cX2_init 175 = .ok (.dup, 1) := dk_89 (dk_at dksX2_init_7 9 rfl rfl)
theorem dX2_init_176 : decode cX2_init 176 = .ok (.invokespecial 61, 3) := dk_183 0 61 (dk_at dksX2_init_7 10 rfl rfl)
theorem dX2_init_179 : decode cX2_init 179 = .ok (.putfield 62, 3) := dk_181 0 62 (dk_at dksX2_init_7 13 rfl rfl)
theorem dX2_init_182 : decode cX2_init 182 = .ok (.return_, 1) := dk_177 (dk_at dksX2_init_7 16 rfl rfl)
abbrev cX2_trueDepth : ByteArray := prog_2_method_7_code
def yX2_trueDepth : MethodName := ⟨RX2, "trueDepth", "(I)I"⟩
def dkwX2_trueDepth_0 : List UInt8 := [42, 27, 42, 180, 0, 25, 182, 0, 114, 172]
abbrev dktX2_trueDepth_0 : List UInt8 := dkwX2_trueDepth_0 ++ []
theorem dksX2_trueDepth_0 : cX2_trueDepth.data.toList.drop 0 = dktX2_trueDepth_0 := by decide +kernel
theorem dX2_trueDepth_0 : decode cX2_trueDepth 0 = .ok (.aload_n 0, 1) := dk_42 (dk_at dksX2_trueDepth_0 0 rfl rfl)
theorem dX2_trueDepth_1 : decode cX2_trueDepth 1 = .ok (.iload_n 1, 1) := dk_27 (dk_at dksX2_trueDepth_0 1 rfl rfl)
theorem dX2_trueDepth_2 : decode cX2_trueDepth 2 = .ok (.aload_n 0, 1) := dk_42 (dk_at dksX2_trueDepth_0 2 rfl rfl)
theorem dX2_trueDepth_3 : decode cX2_trueDepth 3 = .ok (.getfield 25, 3) := dk_180 0 25 (dk_at dksX2_trueDepth_0 3 rfl rfl)
theorem dX2_trueDepth_6 : decode cX2_trueDepth 6 = .ok (.invokevirtual 114, 3) := dk_182 0 114 (dk_at dksX2_trueDepth_0 6 rfl rfl)
theorem dX2_trueDepth_9 : decode cX2_trueDepth 9 = .ok (.ireturn, 1) := dk_172 (dk_at dksX2_trueDepth_0 9 rfl rfl)
abbrev cX2_depthIn : ByteArray := prog_2_method_6_code
def yX2_depthIn : MethodName := ⟨RX2, "depthIn", "(II)I"⟩
def dkwX2_depthIn_1 : List UInt8 := [163, 0, 7, 3, 167, 0, 15, 42, 27, 29, 42, 180, 0, 15, 27, 46, 182, 0, 111, 172]
abbrev dktX2_depthIn_1 : List UInt8 := dkwX2_depthIn_1 ++ []
def dkwX2_depthIn_0 : List UInt8 := [3, 28, 184, 0, 96, 62, 29, 42, 180, 0, 19, 27, 46, 161, 0, 17, 29, 42, 180, 0, 22, 27, 46]
abbrev dktX2_depthIn_0 : List UInt8 := dkwX2_depthIn_0 ++ dktX2_depthIn_1
theorem dksX2_depthIn_0 : cX2_depthIn.data.toList.drop 0 = dktX2_depthIn_0 := by decide +kernel
theorem dksX2_depthIn_1 : cX2_depthIn.data.toList.drop 23 = dktX2_depthIn_1 := dk_seg dksX2_depthIn_0 23 rfl rfl
theorem dX2_depthIn_0 : decode cX2_depthIn 0 = .ok (.iconst 0, 1) := dk_3 (dk_at dksX2_depthIn_0 0 rfl rfl)
theorem dX2_depthIn_1 : decode cX2_depthIn 1 = .ok (.iload_n 2, 1) := dk_28 (dk_at dksX2_depthIn_0 1 rfl rfl)
theorem dX2_depthIn_2 : decode cX2_depthIn 2 = .ok (.invokestatic 96, 3) := dk_184 0 96 (dk_at dksX2_depthIn_0 2 rfl rfl)
theorem dX2_depthIn_5 : decode cX2_depthIn 5 = .ok (.istore_n 3, 1) := dk_62 (dk_at dksX2_depthIn_0 5 rfl rfl)
theorem dX2_depthIn_6 : decode cX2_depthIn 6 = .ok (.iload_n 3, 1) := dk_29 (dk_at dksX2_depthIn_0 6 rfl rfl)
theorem dX2_depthIn_7 : decode cX2_depthIn 7 = .ok (.aload_n 0, 1) := dk_42 (dk_at dksX2_depthIn_0 7 rfl rfl)
theorem dX2_depthIn_8 : decode cX2_depthIn 8 = .ok (.getfield 19, 3) := dk_180 0 19 (dk_at dksX2_depthIn_0 8 rfl rfl)
theorem dX2_depthIn_11 : decode cX2_depthIn 11 = .ok (.iload_n 1, 1) := dk_27 (dk_at dksX2_depthIn_0 11 rfl rfl)
theorem dX2_depthIn_12 : decode cX2_depthIn 12 = .ok (.iaload, 1) := dk_46 (dk_at dksX2_depthIn_0 12 rfl rfl)
theorem dX2_depthIn_13 : decode cX2_depthIn 13 = .ok (.if_icmp .lt 17, 3) := dk_161 0 17 (dk_at dksX2_depthIn_0 13 rfl rfl)
theorem dX2_depthIn_16 : decode cX2_depthIn 16 = .ok (.iload_n 3, 1) := dk_29 (dk_at dksX2_depthIn_0 16 rfl rfl)
theorem dX2_depthIn_17 : decode cX2_depthIn 17 = .ok (.aload_n 0, 1) := dk_42 (dk_at dksX2_depthIn_0 17 rfl rfl)
theorem dX2_depthIn_18 : decode cX2_depthIn 18 = .ok (.getfield 22, 3) := dk_180 0 22 (dk_at dksX2_depthIn_0 18 rfl rfl)
theorem dX2_depthIn_21 : decode cX2_depthIn 21 = .ok (.iload_n 1, 1) := dk_27 (dk_at dksX2_depthIn_0 21 rfl rfl)
theorem dX2_depthIn_22 : decode cX2_depthIn 22 = .ok (.iaload, 1) := dk_46 (dk_at dksX2_depthIn_0 22 rfl rfl)
theorem dX2_depthIn_23 : decode cX2_depthIn 23 = .ok (.if_icmp .gt 7, 3) := dk_163 0 7 (dk_at dksX2_depthIn_1 0 rfl rfl)
theorem dX2_depthIn_26 : decode cX2_depthIn 26 = .ok (.iconst 0, 1) := dk_3 (dk_at dksX2_depthIn_1 3 rfl rfl)
theorem dX2_depthIn_27 : decode cX2_depthIn 27 = .ok (.goto 15, 3) := dk_167 0 15 (dk_at dksX2_depthIn_1 4 rfl rfl)
theorem dX2_depthIn_30 : decode cX2_depthIn 30 = .ok (.aload_n 0, 1) := dk_42 (dk_at dksX2_depthIn_1 7 rfl rfl)
theorem dX2_depthIn_31 : decode cX2_depthIn 31 = .ok (.iload_n 1, 1) := dk_27 (dk_at dksX2_depthIn_1 8 rfl rfl)
theorem dX2_depthIn_32 : decode cX2_depthIn 32 = .ok (.iload_n 3, 1) := dk_29 (dk_at dksX2_depthIn_1 9 rfl rfl)
theorem dX2_depthIn_33 : decode cX2_depthIn 33 = .ok (.aload_n 0, 1) := dk_42 (dk_at dksX2_depthIn_1 10 rfl rfl)
theorem dX2_depthIn_34 : decode cX2_depthIn 34 = .ok (.getfield 15, 3) := dk_180 0 15 (dk_at dksX2_depthIn_1 11 rfl rfl)
theorem dX2_depthIn_37 : decode cX2_depthIn 37 = .ok (.iload_n 1, 1) := dk_27 (dk_at dksX2_depthIn_1 14 rfl rfl)
theorem dX2_depthIn_38 : decode cX2_depthIn 38 = .ok (.iaload, 1) := dk_46 (dk_at dksX2_depthIn_1 15 rfl rfl)
theorem dX2_depthIn_39 : decode cX2_depthIn 39 = .ok (.invokevirtual 111, 3) := dk_182 0 111 (dk_at dksX2_depthIn_1 16 rfl rfl)
theorem dX2_depthIn_42 : decode cX2_depthIn 42 = .ok (.ireturn, 1) := dk_172 (dk_at dksX2_depthIn_1 19 rfl rfl)
abbrev cX2_depthBy : ByteArray := prog_2_method_4_code
def yX2_depthBy : MethodName := ⟨RX2, "depthBy", "(III)I"⟩
def dkwX2_depthBy_2 : List UInt8 := [21, 4, 3, 16, 19, 184, 0, 107, 172]
abbrev dktX2_depthBy_2 : List UInt8 := dkwX2_depthBy_2 ++ []
def dkwX2_depthBy_1 : List UInt8 := [16, 99, 27, 182, 0, 99, 16, 121, 28, 182, 0, 99, 16, 98, 29, 182, 0, 99, 182, 0, 103, 54, 4]
abbrev dktX2_depthBy_1 : List UInt8 := dkwX2_depthBy_1 ++ dktX2_depthBy_2
def dkwX2_depthBy_0 : List UInt8 := [42, 180, 0, 45, 3, 50, 199, 0, 7, 29, 167, 0, 34, 42, 180, 0, 45, 3, 50, 42, 180, 0, 62]
abbrev dktX2_depthBy_0 : List UInt8 := dkwX2_depthBy_0 ++ dktX2_depthBy_1
theorem dksX2_depthBy_0 : cX2_depthBy.data.toList.drop 0 = dktX2_depthBy_0 := by decide +kernel
theorem dksX2_depthBy_1 : cX2_depthBy.data.toList.drop 23 = dktX2_depthBy_1 := dk_seg dksX2_depthBy_0 23 rfl rfl
theorem dksX2_depthBy_2 : cX2_depthBy.data.toList.drop 46 = dktX2_depthBy_2 := dk_seg dksX2_depthBy_1 23 rfl rfl
theorem dX2_depthBy_0 : decode cX2_depthBy 0 = .ok (.aload_n 0, 1) := dk_42 (dk_at dksX2_depthBy_0 0 rfl rfl)
theorem dX2_depthBy_1 : decode cX2_depthBy 1 = .ok (.getfield 45, 3) := dk_180 0 45 (dk_at dksX2_depthBy_0 1 rfl rfl)
theorem dX2_depthBy_4 : decode cX2_depthBy 4 = .ok (.iconst 0, 1) := dk_3 (dk_at dksX2_depthBy_0 4 rfl rfl)
theorem dX2_depthBy_5 : decode cX2_depthBy 5 = .ok (.aaload, 1) := dk_50 (dk_at dksX2_depthBy_0 5 rfl rfl)
theorem dX2_depthBy_6 : decode cX2_depthBy 6 = .ok (.ifnonnull 7, 3) := dk_199 0 7 (dk_at dksX2_depthBy_0 6 rfl rfl)
theorem dX2_depthBy_9 : decode cX2_depthBy 9 = .ok (.iload_n 3, 1) := dk_29 (dk_at dksX2_depthBy_0 9 rfl rfl)
theorem dX2_depthBy_10 : decode cX2_depthBy 10 = .ok (.goto 34, 3) := dk_167 0 34 (dk_at dksX2_depthBy_0 10 rfl rfl)
theorem dX2_depthBy_13 : decode cX2_depthBy 13 = .ok (.aload_n 0, 1) := dk_42 (dk_at dksX2_depthBy_0 13 rfl rfl)
theorem dX2_depthBy_14 : decode cX2_depthBy 14 = .ok (.getfield 45, 3) := dk_180 0 45 (dk_at dksX2_depthBy_0 14 rfl rfl)
theorem dX2_depthBy_17 : decode cX2_depthBy 17 = .ok (.iconst 0, 1) := dk_3 (dk_at dksX2_depthBy_0 17 rfl rfl)
theorem dX2_depthBy_18 : decode cX2_depthBy 18 = .ok (.aaload, 1) := dk_50 (dk_at dksX2_depthBy_0 18 rfl rfl)
theorem dX2_depthBy_19 : decode cX2_depthBy 19 = .ok (.aload_n 0, 1) := dk_42 (dk_at dksX2_depthBy_0 19 rfl rfl)
theorem dX2_depthBy_20 : decode cX2_depthBy 20 = .ok (.getfield 62, 3) := dk_180 0 62 (dk_at dksX2_depthBy_0 20 rfl rfl)
theorem dX2_depthBy_23 : decode cX2_depthBy 23 = .ok (.bipush 99, 2) := dk_16 99 (dk_at dksX2_depthBy_1 0 rfl rfl)
theorem dX2_depthBy_25 : decode cX2_depthBy 25 = .ok (.iload_n 1, 1) := dk_27 (dk_at dksX2_depthBy_1 2 rfl rfl)
theorem dX2_depthBy_26 : decode cX2_depthBy 26 = .ok (.invokevirtual 99, 3) := dk_182 0 99 (dk_at dksX2_depthBy_1 3 rfl rfl)
theorem dX2_depthBy_29 : decode cX2_depthBy 29 = .ok (.bipush 121, 2) := dk_16 121 (dk_at dksX2_depthBy_1 6 rfl rfl)
theorem dX2_depthBy_31 : decode cX2_depthBy 31 = .ok (.iload_n 2, 1) := dk_28 (dk_at dksX2_depthBy_1 8 rfl rfl)
theorem dX2_depthBy_32 : decode cX2_depthBy 32 = .ok (.invokevirtual 99, 3) := dk_182 0 99 (dk_at dksX2_depthBy_1 9 rfl rfl)
theorem dX2_depthBy_35 : decode cX2_depthBy 35 = .ok (.bipush 98, 2) := dk_16 98 (dk_at dksX2_depthBy_1 12 rfl rfl)
theorem dX2_depthBy_37 : decode cX2_depthBy 37 = .ok (.iload_n 3, 1) := dk_29 (dk_at dksX2_depthBy_1 14 rfl rfl)
theorem dX2_depthBy_38 : decode cX2_depthBy 38 = .ok (.invokevirtual 99, 3) := dk_182 0 99 (dk_at dksX2_depthBy_1 15 rfl rfl)
theorem dX2_depthBy_41 : decode cX2_depthBy 41 = .ok (.invokevirtual 103, 3) := dk_182 0 103 (dk_at dksX2_depthBy_1 18 rfl rfl)
theorem dX2_depthBy_44 : decode cX2_depthBy 44 = .ok (.istore 4, 2) := dk_54 4 (dk_at dksX2_depthBy_1 21 rfl rfl)
theorem dX2_depthBy_46 : decode cX2_depthBy 46 = .ok (.iload 4, 2) := dk_21 4 (dk_at dksX2_depthBy_2 0 rfl rfl)
theorem dX2_depthBy_48 : decode cX2_depthBy 48 = .ok (.iconst 0, 1) := dk_3 (dk_at dksX2_depthBy_2 2 rfl rfl)
theorem dX2_depthBy_49 : decode cX2_depthBy 49 = .ok (.bipush 19, 2) := dk_16 19 (dk_at dksX2_depthBy_2 3 rfl rfl)
theorem dX2_depthBy_51 : decode cX2_depthBy 51 = .ok (.invokestatic 107, 3) := dk_184 0 107 (dk_at dksX2_depthBy_2 5 rfl rfl)
theorem dX2_depthBy_54 : decode cX2_depthBy 54 = .ok (.ireturn, 1) := dk_172 (dk_at dksX2_depthBy_2 8 rfl rfl)
abbrev cX2_held : ByteArray := prog_2_method_3_code
def yX2_held : MethodName := ⟨RX2, "held", "(III)I"⟩
def dkwX2_held_0 : List UInt8 := [27, 28, 26, 184, 0, 90, 184, 0, 96, 172]
abbrev dktX2_held_0 : List UInt8 := dkwX2_held_0 ++ []
theorem dksX2_held_0 : cX2_held.data.toList.drop 0 = dktX2_held_0 := by decide +kernel
theorem dX2_held_0 : decode cX2_held 0 = .ok (.iload_n 1, 1) := dk_27 (dk_at dksX2_held_0 0 rfl rfl)
theorem dX2_held_1 : decode cX2_held 1 = .ok (.iload_n 2, 1) := dk_28 (dk_at dksX2_held_0 1 rfl rfl)
theorem dX2_held_2 : decode cX2_held 2 = .ok (.iload_n 0, 1) := dk_26 (dk_at dksX2_held_0 2 rfl rfl)
theorem dX2_held_3 : decode cX2_held 3 = .ok (.invokestatic 90, 3) := dk_184 0 90 (dk_at dksX2_held_0 3 rfl rfl)
theorem dX2_held_6 : decode cX2_held 6 = .ok (.invokestatic 96, 3) := dk_184 0 96 (dk_at dksX2_held_0 6 rfl rfl)
theorem dX2_held_9 : decode cX2_held 9 = .ok (.ireturn, 1) := dk_172 (dk_at dksX2_held_0 9 rfl rfl)
abbrev cX2_shown : ByteArray := prog_2_method_8_code
def yX2_shown : MethodName := ⟨RX2, "shown", "(II)I"⟩
def dkwX2_shown_1 : List UInt8 := [167, 0, 8, 42, 27, 182, 0, 121, 172]
abbrev dktX2_shown_1 : List UInt8 := dkwX2_shown_1 ++ []
def dkwX2_shown_0 : List UInt8 := [42, 180, 0, 75, 27, 184, 0, 117, 153, 0, 17, 42, 27, 42, 180, 0, 25, 28, 100, 182, 0, 114]
abbrev dktX2_shown_0 : List UInt8 := dkwX2_shown_0 ++ dktX2_shown_1
theorem dksX2_shown_0 : cX2_shown.data.toList.drop 0 = dktX2_shown_0 := by decide +kernel
theorem dksX2_shown_1 : cX2_shown.data.toList.drop 22 = dktX2_shown_1 := dk_seg dksX2_shown_0 22 rfl rfl
theorem dX2_shown_0 : decode cX2_shown 0 = .ok (.aload_n 0, 1) := dk_42 (dk_at dksX2_shown_0 0 rfl rfl)
theorem dX2_shown_1 : decode cX2_shown 1 = .ok (.getfield 75, 3) := dk_180 0 75 (dk_at dksX2_shown_0 1 rfl rfl)
theorem dX2_shown_4 : decode cX2_shown 4 = .ok (.iload_n 1, 1) := dk_27 (dk_at dksX2_shown_0 4 rfl rfl)
theorem dX2_shown_5 : decode cX2_shown 5 = .ok (.invokestatic 117, 3) := dk_184 0 117 (dk_at dksX2_shown_0 5 rfl rfl)
theorem dX2_shown_8 : decode cX2_shown 8 = .ok (.ifCond .eq 17, 3) := dk_153 0 17 (dk_at dksX2_shown_0 8 rfl rfl)
theorem dX2_shown_11 : decode cX2_shown 11 = .ok (.aload_n 0, 1) := dk_42 (dk_at dksX2_shown_0 11 rfl rfl)
theorem dX2_shown_12 : decode cX2_shown 12 = .ok (.iload_n 1, 1) := dk_27 (dk_at dksX2_shown_0 12 rfl rfl)
theorem dX2_shown_13 : decode cX2_shown 13 = .ok (.aload_n 0, 1) := dk_42 (dk_at dksX2_shown_0 13 rfl rfl)
theorem dX2_shown_14 : decode cX2_shown 14 = .ok (.getfield 25, 3) := dk_180 0 25 (dk_at dksX2_shown_0 14 rfl rfl)
theorem dX2_shown_17 : decode cX2_shown 17 = .ok (.iload_n 2, 1) := dk_28 (dk_at dksX2_shown_0 17 rfl rfl)
theorem dX2_shown_18 : decode cX2_shown 18 = .ok (.isub, 1) := dk_100 (dk_at dksX2_shown_0 18 rfl rfl)
theorem dX2_shown_19 : decode cX2_shown 19 = .ok (.invokevirtual 114, 3) := dk_182 0 114 (dk_at dksX2_shown_0 19 rfl rfl)
theorem dX2_shown_22 : decode cX2_shown 22 = .ok (.goto 8, 3) := dk_167 0 8 (dk_at dksX2_shown_1 0 rfl rfl)
theorem dX2_shown_25 : decode cX2_shown 25 = .ok (.aload_n 0, 1) := dk_42 (dk_at dksX2_shown_1 3 rfl rfl)
theorem dX2_shown_26 : decode cX2_shown 26 = .ok (.iload_n 1, 1) := dk_27 (dk_at dksX2_shown_1 4 rfl rfl)
theorem dX2_shown_27 : decode cX2_shown 27 = .ok (.invokevirtual 121, 3) := dk_182 0 121 (dk_at dksX2_shown_1 5 rfl rfl)
theorem dX2_shown_30 : decode cX2_shown 30 = .ok (.ireturn, 1) := dk_172 (dk_at dksX2_shown_1 8 rfl rfl)
abbrev cX2_whoAreAt : ByteArray := prog_2_method_17_code
def yX2_whoAreAt : MethodName := ⟨RX2, "whoAreAt", "(I)I"⟩
def dkwX2_whoAreAt_1 : List UInt8 := [29, 120, 167, 0, 4, 3, 128, 61, 132, 3, 1, 167, 255, 225, 28, 172]
abbrev dktX2_whoAreAt_1 : List UInt8 := dkwX2_whoAreAt_1 ++ []
def dkwX2_whoAreAt_0 : List UInt8 := [3, 61, 3, 62, 29, 42, 180, 0, 81, 162, 0, 29, 28, 42, 180, 0, 37, 29, 46, 27, 160, 0, 9, 4]
abbrev dktX2_whoAreAt_0 : List UInt8 := dkwX2_whoAreAt_0 ++ dktX2_whoAreAt_1
theorem dksX2_whoAreAt_0 : cX2_whoAreAt.data.toList.drop 0 = dktX2_whoAreAt_0 := by decide +kernel
theorem dksX2_whoAreAt_1 : cX2_whoAreAt.data.toList.drop 24 = dktX2_whoAreAt_1 := dk_seg dksX2_whoAreAt_0 24 rfl rfl
theorem dX2_whoAreAt_0 : decode cX2_whoAreAt 0 = .ok (.iconst 0, 1) := dk_3 (dk_at dksX2_whoAreAt_0 0 rfl rfl)
theorem dX2_whoAreAt_1 : decode cX2_whoAreAt 1 = .ok (.istore_n 2, 1) := dk_61 (dk_at dksX2_whoAreAt_0 1 rfl rfl)
theorem dX2_whoAreAt_2 : decode cX2_whoAreAt 2 = .ok (.iconst 0, 1) := dk_3 (dk_at dksX2_whoAreAt_0 2 rfl rfl)
theorem dX2_whoAreAt_3 : decode cX2_whoAreAt 3 = .ok (.istore_n 3, 1) := dk_62 (dk_at dksX2_whoAreAt_0 3 rfl rfl)
theorem dX2_whoAreAt_4 : decode cX2_whoAreAt 4 = .ok (.iload_n 3, 1) := dk_29 (dk_at dksX2_whoAreAt_0 4 rfl rfl)
theorem dX2_whoAreAt_5 : decode cX2_whoAreAt 5 = .ok (.aload_n 0, 1) := dk_42 (dk_at dksX2_whoAreAt_0 5 rfl rfl)
theorem dX2_whoAreAt_6 : decode cX2_whoAreAt 6 = .ok (.getfield 81, 3) := dk_180 0 81 (dk_at dksX2_whoAreAt_0 6 rfl rfl)
theorem dX2_whoAreAt_9 : decode cX2_whoAreAt 9 = .ok (.if_icmp .ge 29, 3) := dk_162 0 29 (dk_at dksX2_whoAreAt_0 9 rfl rfl)
theorem dX2_whoAreAt_12 : decode cX2_whoAreAt 12 = .ok (.iload_n 2, 1) := dk_28 (dk_at dksX2_whoAreAt_0 12 rfl rfl)
theorem dX2_whoAreAt_13 : decode cX2_whoAreAt 13 = .ok (.aload_n 0, 1) := dk_42 (dk_at dksX2_whoAreAt_0 13 rfl rfl)
theorem dX2_whoAreAt_14 : decode cX2_whoAreAt 14 = .ok (.getfield 37, 3) := dk_180 0 37 (dk_at dksX2_whoAreAt_0 14 rfl rfl)
theorem dX2_whoAreAt_17 : decode cX2_whoAreAt 17 = .ok (.iload_n 3, 1) := dk_29 (dk_at dksX2_whoAreAt_0 17 rfl rfl)
theorem dX2_whoAreAt_18 : decode cX2_whoAreAt 18 = .ok (.iaload, 1) := dk_46 (dk_at dksX2_whoAreAt_0 18 rfl rfl)
theorem dX2_whoAreAt_19 : decode cX2_whoAreAt 19 = .ok (.iload_n 1, 1) := dk_27 (dk_at dksX2_whoAreAt_0 19 rfl rfl)
theorem dX2_whoAreAt_20 : decode cX2_whoAreAt 20 = .ok (.if_icmp .ne 9, 3) := dk_160 0 9 (dk_at dksX2_whoAreAt_0 20 rfl rfl)
theorem dX2_whoAreAt_23 : decode cX2_whoAreAt 23 = .ok (.iconst 1, 1) := dk_4 (dk_at dksX2_whoAreAt_0 23 rfl rfl)
theorem dX2_whoAreAt_24 : decode cX2_whoAreAt 24 = .ok (.iload_n 3, 1) := dk_29 (dk_at dksX2_whoAreAt_1 0 rfl rfl)
theorem dX2_whoAreAt_25 : decode cX2_whoAreAt 25 = .ok (.ishl, 1) := dk_120 (dk_at dksX2_whoAreAt_1 1 rfl rfl)
theorem dX2_whoAreAt_26 : decode cX2_whoAreAt 26 = .ok (.goto 4, 3) := dk_167 0 4 (dk_at dksX2_whoAreAt_1 2 rfl rfl)
theorem dX2_whoAreAt_29 : decode cX2_whoAreAt 29 = .ok (.iconst 0, 1) := dk_3 (dk_at dksX2_whoAreAt_1 5 rfl rfl)
theorem dX2_whoAreAt_30 : decode cX2_whoAreAt 30 = .ok (.ior, 1) := dk_128 (dk_at dksX2_whoAreAt_1 6 rfl rfl)
theorem dX2_whoAreAt_31 : decode cX2_whoAreAt 31 = .ok (.istore_n 2, 1) := dk_61 (dk_at dksX2_whoAreAt_1 7 rfl rfl)
theorem dX2_whoAreAt_32 : decode cX2_whoAreAt 32 = .ok (.iinc 3 1, 3) := dk_132 3 1 (dk_at dksX2_whoAreAt_1 8 rfl rfl)
theorem dX2_whoAreAt_35 : decode cX2_whoAreAt 35 = .ok (.goto (-31), 3) := dk_167 255 225 (dk_at dksX2_whoAreAt_1 11 rfl rfl)
theorem dX2_whoAreAt_38 : decode cX2_whoAreAt 38 = .ok (.iload_n 2, 1) := dk_28 (dk_at dksX2_whoAreAt_1 14 rfl rfl)
theorem dX2_whoAreAt_39 : decode cX2_whoAreAt 39 = .ok (.ireturn, 1) := dk_172 (dk_at dksX2_whoAreAt_1 15 rfl rfl)
abbrev cX2_elseBy : ByteArray := prog_2_method_5_code
def yX2_elseBy : MethodName := ⟨RX2, "elseBy", "(III)I"⟩
def dkwX2_elseBy_2 : List UInt8 := [21, 4, 3, 4, 184, 0, 107, 172]
abbrev dktX2_elseBy_2 : List UInt8 := dkwX2_elseBy_2 ++ []
def dkwX2_elseBy_1 : List UInt8 := [16, 100, 27, 182, 0, 99, 16, 109, 28, 182, 0, 99, 16, 104, 29, 182, 0, 99, 182, 0, 103, 54, 4]
abbrev dktX2_elseBy_1 : List UInt8 := dkwX2_elseBy_1 ++ dktX2_elseBy_2
def dkwX2_elseBy_0 : List UInt8 := [42, 180, 0, 45, 4, 50, 199, 0, 7, 3, 167, 0, 34, 42, 180, 0, 45, 4, 50, 42, 180, 0, 62]
abbrev dktX2_elseBy_0 : List UInt8 := dkwX2_elseBy_0 ++ dktX2_elseBy_1
theorem dksX2_elseBy_0 : cX2_elseBy.data.toList.drop 0 = dktX2_elseBy_0 := by decide +kernel
theorem dksX2_elseBy_1 : cX2_elseBy.data.toList.drop 23 = dktX2_elseBy_1 := dk_seg dksX2_elseBy_0 23 rfl rfl
theorem dksX2_elseBy_2 : cX2_elseBy.data.toList.drop 46 = dktX2_elseBy_2 := dk_seg dksX2_elseBy_1 23 rfl rfl
theorem dX2_elseBy_0 : decode cX2_elseBy 0 = .ok (.aload_n 0, 1) := dk_42 (dk_at dksX2_elseBy_0 0 rfl rfl)
theorem dX2_elseBy_1 : decode cX2_elseBy 1 = .ok (.getfield 45, 3) := dk_180 0 45 (dk_at dksX2_elseBy_0 1 rfl rfl)
theorem dX2_elseBy_4 : decode cX2_elseBy 4 = .ok (.iconst 1, 1) := dk_4 (dk_at dksX2_elseBy_0 4 rfl rfl)
theorem dX2_elseBy_5 : decode cX2_elseBy 5 = .ok (.aaload, 1) := dk_50 (dk_at dksX2_elseBy_0 5 rfl rfl)
theorem dX2_elseBy_6 : decode cX2_elseBy 6 = .ok (.ifnonnull 7, 3) := dk_199 0 7 (dk_at dksX2_elseBy_0 6 rfl rfl)
theorem dX2_elseBy_9 : decode cX2_elseBy 9 = .ok (.iconst 0, 1) := dk_3 (dk_at dksX2_elseBy_0 9 rfl rfl)
theorem dX2_elseBy_10 : decode cX2_elseBy 10 = .ok (.goto 34, 3) := dk_167 0 34 (dk_at dksX2_elseBy_0 10 rfl rfl)
theorem dX2_elseBy_13 : decode cX2_elseBy 13 = .ok (.aload_n 0, 1) := dk_42 (dk_at dksX2_elseBy_0 13 rfl rfl)
theorem dX2_elseBy_14 : decode cX2_elseBy 14 = .ok (.getfield 45, 3) := dk_180 0 45 (dk_at dksX2_elseBy_0 14 rfl rfl)
theorem dX2_elseBy_17 : decode cX2_elseBy 17 = .ok (.iconst 1, 1) := dk_4 (dk_at dksX2_elseBy_0 17 rfl rfl)
theorem dX2_elseBy_18 : decode cX2_elseBy 18 = .ok (.aaload, 1) := dk_50 (dk_at dksX2_elseBy_0 18 rfl rfl)
theorem dX2_elseBy_19 : decode cX2_elseBy 19 = .ok (.aload_n 0, 1) := dk_42 (dk_at dksX2_elseBy_0 19 rfl rfl)
theorem dX2_elseBy_20 : decode cX2_elseBy 20 = .ok (.getfield 62, 3) := dk_180 0 62 (dk_at dksX2_elseBy_0 20 rfl rfl)
theorem dX2_elseBy_23 : decode cX2_elseBy 23 = .ok (.bipush 100, 2) := dk_16 100 (dk_at dksX2_elseBy_1 0 rfl rfl)
theorem dX2_elseBy_25 : decode cX2_elseBy 25 = .ok (.iload_n 1, 1) := dk_27 (dk_at dksX2_elseBy_1 2 rfl rfl)
theorem dX2_elseBy_26 : decode cX2_elseBy 26 = .ok (.invokevirtual 99, 3) := dk_182 0 99 (dk_at dksX2_elseBy_1 3 rfl rfl)
theorem dX2_elseBy_29 : decode cX2_elseBy 29 = .ok (.bipush 109, 2) := dk_16 109 (dk_at dksX2_elseBy_1 6 rfl rfl)
theorem dX2_elseBy_31 : decode cX2_elseBy 31 = .ok (.iload_n 2, 1) := dk_28 (dk_at dksX2_elseBy_1 8 rfl rfl)
theorem dX2_elseBy_32 : decode cX2_elseBy 32 = .ok (.invokevirtual 99, 3) := dk_182 0 99 (dk_at dksX2_elseBy_1 9 rfl rfl)
theorem dX2_elseBy_35 : decode cX2_elseBy 35 = .ok (.bipush 104, 2) := dk_16 104 (dk_at dksX2_elseBy_1 12 rfl rfl)
theorem dX2_elseBy_37 : decode cX2_elseBy 37 = .ok (.iload_n 3, 1) := dk_29 (dk_at dksX2_elseBy_1 14 rfl rfl)
theorem dX2_elseBy_38 : decode cX2_elseBy 38 = .ok (.invokevirtual 99, 3) := dk_182 0 99 (dk_at dksX2_elseBy_1 15 rfl rfl)
theorem dX2_elseBy_41 : decode cX2_elseBy 41 = .ok (.invokevirtual 103, 3) := dk_182 0 103 (dk_at dksX2_elseBy_1 18 rfl rfl)
theorem dX2_elseBy_44 : decode cX2_elseBy 44 = .ok (.istore 4, 2) := dk_54 4 (dk_at dksX2_elseBy_1 21 rfl rfl)
theorem dX2_elseBy_46 : decode cX2_elseBy 46 = .ok (.iload 4, 2) := dk_21 4 (dk_at dksX2_elseBy_2 0 rfl rfl)
theorem dX2_elseBy_48 : decode cX2_elseBy 48 = .ok (.iconst 0, 1) := dk_3 (dk_at dksX2_elseBy_2 2 rfl rfl)
theorem dX2_elseBy_49 : decode cX2_elseBy 49 = .ok (.iconst 1, 1) := dk_4 (dk_at dksX2_elseBy_2 3 rfl rfl)
theorem dX2_elseBy_50 : decode cX2_elseBy 50 = .ok (.invokestatic 107, 3) := dk_184 0 107 (dk_at dksX2_elseBy_2 4 rfl rfl)
theorem dX2_elseBy_53 : decode cX2_elseBy 53 = .ok (.ireturn, 1) := dk_172 (dk_at dksX2_elseBy_2 7 rfl rfl)
abbrev cX2_goes : ByteArray := prog_2_method_12_code
def yX2_goes : MethodName := ⟨RX2, "goes", "(I)LOldLight$Bay;"⟩
def dkwX2_goes_0 : List UInt8 := [3, 61, 28, 27, 162, 0, 13, 42, 182, 0, 142, 132, 2, 1, 167, 255, 244, 42, 176]
abbrev dktX2_goes_0 : List UInt8 := dkwX2_goes_0 ++ []
theorem dksX2_goes_0 : cX2_goes.data.toList.drop 0 = dktX2_goes_0 := by decide +kernel
theorem dX2_goes_0 : decode cX2_goes 0 = .ok (.iconst 0, 1) := dk_3 (dk_at dksX2_goes_0 0 rfl rfl)
theorem dX2_goes_1 : decode cX2_goes 1 = .ok (.istore_n 2, 1) := dk_61 (dk_at dksX2_goes_0 1 rfl rfl)
theorem dX2_goes_2 : decode cX2_goes 2 = .ok (.iload_n 2, 1) := dk_28 (dk_at dksX2_goes_0 2 rfl rfl)
theorem dX2_goes_3 : decode cX2_goes 3 = .ok (.iload_n 1, 1) := dk_27 (dk_at dksX2_goes_0 3 rfl rfl)
theorem dX2_goes_4 : decode cX2_goes 4 = .ok (.if_icmp .ge 13, 3) := dk_162 0 13 (dk_at dksX2_goes_0 4 rfl rfl)
theorem dX2_goes_7 : decode cX2_goes 7 = .ok (.aload_n 0, 1) := dk_42 (dk_at dksX2_goes_0 7 rfl rfl)
theorem dX2_goes_8 : decode cX2_goes 8 = .ok (.invokevirtual 142, 3) := dk_182 0 142 (dk_at dksX2_goes_0 8 rfl rfl)
theorem dX2_goes_11 : decode cX2_goes 11 = .ok (.iinc 2 1, 3) := dk_132 2 1 (dk_at dksX2_goes_0 11 rfl rfl)
theorem dX2_goes_14 : decode cX2_goes 14 = .ok (.goto (-12), 3) := dk_167 255 244 (dk_at dksX2_goes_0 14 rfl rfl)
theorem dX2_goes_17 : decode cX2_goes 17 = .ok (.aload_n 0, 1) := dk_42 (dk_at dksX2_goes_0 17 rfl rfl)
theorem dX2_goes_18 : decode cX2_goes 18 = .ok (.areturn, 1) := dk_176 (dk_at dksX2_goes_0 18 rfl rfl)
abbrev cX2_passes : ByteArray := prog_2_method_11_code
def yX2_passes : MethodName := ⟨RX2, "passes", "()V"⟩
def dkwX2_passes_2 : List UInt8 := [181, 0, 78, 177]
abbrev dktX2_passes_2 : List UInt8 := dkwX2_passes_2 ++ []
def dkwX2_passes_1 : List UInt8 := [46, 158, 0, 8, 42, 27, 182, 0, 139, 132, 1, 1, 167, 255, 222, 42, 89, 180, 0, 78, 4, 96]
abbrev dktX2_passes_1 : List UInt8 := dkwX2_passes_1 ++ dktX2_passes_2
def dkwX2_passes_0 : List UInt8 := [3, 60, 27, 42, 180, 0, 81, 162, 0, 32, 42, 180, 0, 40, 27, 46, 154, 0, 17, 42, 180, 0, 37, 27]
abbrev dktX2_passes_0 : List UInt8 := dkwX2_passes_0 ++ dktX2_passes_1
theorem dksX2_passes_0 : cX2_passes.data.toList.drop 0 = dktX2_passes_0 := by decide +kernel
theorem dksX2_passes_1 : cX2_passes.data.toList.drop 24 = dktX2_passes_1 := dk_seg dksX2_passes_0 24 rfl rfl
theorem dksX2_passes_2 : cX2_passes.data.toList.drop 46 = dktX2_passes_2 := dk_seg dksX2_passes_1 22 rfl rfl
theorem dX2_passes_0 : decode cX2_passes 0 = .ok (.iconst 0, 1) := dk_3 (dk_at dksX2_passes_0 0 rfl rfl)
theorem dX2_passes_1 : decode cX2_passes 1 = .ok (.istore_n 1, 1) := dk_60 (dk_at dksX2_passes_0 1 rfl rfl)
theorem dX2_passes_2 : decode cX2_passes 2 = .ok (.iload_n 1, 1) := dk_27 (dk_at dksX2_passes_0 2 rfl rfl)
theorem dX2_passes_3 : decode cX2_passes 3 = .ok (.aload_n 0, 1) := dk_42 (dk_at dksX2_passes_0 3 rfl rfl)
theorem dX2_passes_4 : decode cX2_passes 4 = .ok (.getfield 81, 3) := dk_180 0 81 (dk_at dksX2_passes_0 4 rfl rfl)
theorem dX2_passes_7 : decode cX2_passes 7 = .ok (.if_icmp .ge 32, 3) := dk_162 0 32 (dk_at dksX2_passes_0 7 rfl rfl)
theorem dX2_passes_10 : decode cX2_passes 10 = .ok (.aload_n 0, 1) := dk_42 (dk_at dksX2_passes_0 10 rfl rfl)
theorem dX2_passes_11 : decode cX2_passes 11 = .ok (.getfield 40, 3) := dk_180 0 40 (dk_at dksX2_passes_0 11 rfl rfl)
theorem dX2_passes_14 : decode cX2_passes 14 = .ok (.iload_n 1, 1) := dk_27 (dk_at dksX2_passes_0 14 rfl rfl)
theorem dX2_passes_15 : decode cX2_passes 15 = .ok (.iaload, 1) := dk_46 (dk_at dksX2_passes_0 15 rfl rfl)
theorem dX2_passes_16 : decode cX2_passes 16 = .ok (.ifCond .ne 17, 3) := dk_154 0 17 (dk_at dksX2_passes_0 16 rfl rfl)
theorem dX2_passes_19 : decode cX2_passes 19 = .ok (.aload_n 0, 1) := dk_42 (dk_at dksX2_passes_0 19 rfl rfl)
theorem dX2_passes_20 : decode cX2_passes 20 = .ok (.getfield 37, 3) := dk_180 0 37 (dk_at dksX2_passes_0 20 rfl rfl)
theorem dX2_passes_23 : decode cX2_passes 23 = .ok (.iload_n 1, 1) := dk_27 (dk_at dksX2_passes_0 23 rfl rfl)
theorem dX2_passes_24 : decode cX2_passes 24 = .ok (.iaload, 1) := dk_46 (dk_at dksX2_passes_1 0 rfl rfl)
theorem dX2_passes_25 : decode cX2_passes 25 = .ok (.ifCond .le 8, 3) := dk_158 0 8 (dk_at dksX2_passes_1 1 rfl rfl)
theorem dX2_passes_28 : decode cX2_passes 28 = .ok (.aload_n 0, 1) := dk_42 (dk_at dksX2_passes_1 4 rfl rfl)
theorem dX2_passes_29 : decode cX2_passes 29 = .ok (.iload_n 1, 1) := dk_27 (dk_at dksX2_passes_1 5 rfl rfl)
theorem dX2_passes_30 : decode cX2_passes 30 = .ok (.invokevirtual 139, 3) := dk_182 0 139 (dk_at dksX2_passes_1 6 rfl rfl)
theorem dX2_passes_33 : decode cX2_passes 33 = .ok (.iinc 1 1, 3) := dk_132 1 1 (dk_at dksX2_passes_1 9 rfl rfl)
theorem dX2_passes_36 : decode cX2_passes 36 = .ok (.goto (-34), 3) := dk_167 255 222 (dk_at dksX2_passes_1 12 rfl rfl)
theorem dX2_passes_39 : decode cX2_passes 39 = .ok (.aload_n 0, 1) := dk_42 (dk_at dksX2_passes_1 15 rfl rfl)
theorem dX2_passes_40 : decode cX2_passes 40 = .ok (.dup, 1) := dk_89 (dk_at dksX2_passes_1 16 rfl rfl)
theorem dX2_passes_41 : decode cX2_passes 41 = .ok (.getfield 78, 3) := dk_180 0 78 (dk_at dksX2_passes_1 17 rfl rfl)
theorem dX2_passes_44 : decode cX2_passes 44 = .ok (.iconst 1, 1) := dk_4 (dk_at dksX2_passes_1 20 rfl rfl)
theorem dX2_passes_45 : decode cX2_passes 45 = .ok (.iadd, 1) := dk_96 (dk_at dksX2_passes_1 21 rfl rfl)
theorem dX2_passes_46 : decode cX2_passes 46 = .ok (.putfield 78, 3) := dk_181 0 78 (dk_at dksX2_passes_2 0 rfl rfl)
theorem dX2_passes_49 : decode cX2_passes 49 = .ok (.return_, 1) := dk_177 (dk_at dksX2_passes_2 3 rfl rfl)
abbrev cX2_goesOn : ByteArray := prog_2_method_10_code
def yX2_goesOn : MethodName := ⟨RX2, "goesOn", "(I)V"⟩
def dkwX2_goesOn_3 : List UInt8 := [42, 180, 0, 37, 27, 46, 4, 96, 184, 0, 90, 79, 177]
abbrev dktX2_goesOn_3 : List UInt8 := dkwX2_goesOn_3 ++ []
def dkwX2_goesOn_2 : List UInt8 := [180, 0, 133, 42, 180, 0, 78, 182, 0, 136, 153, 0, 26, 42, 180, 0, 37, 27, 42, 180, 0, 9, 4, 100]
abbrev dktX2_goesOn_2 : List UInt8 := dkwX2_goesOn_2 ++ dktX2_goesOn_3
def dkwX2_goesOn_1 : List UInt8 := [161, 0, 11, 42, 27, 182, 0, 129, 167, 0, 52, 42, 42, 180, 0, 34, 27, 46, 42, 180, 0, 30, 27, 50]
abbrev dktX2_goesOn_1 : List UInt8 := dkwX2_goesOn_1 ++ dktX2_goesOn_2
def dkwX2_goesOn_0 : List UInt8 := [42, 180, 0, 30, 27, 50, 42, 42, 180, 0, 37, 27, 46, 4, 100, 182, 0, 125, 42, 180, 0, 34, 27, 46]
abbrev dktX2_goesOn_0 : List UInt8 := dkwX2_goesOn_0 ++ dktX2_goesOn_1
theorem dksX2_goesOn_0 : cX2_goesOn.data.toList.drop 0 = dktX2_goesOn_0 := by decide +kernel
theorem dksX2_goesOn_1 : cX2_goesOn.data.toList.drop 24 = dktX2_goesOn_1 := dk_seg dksX2_goesOn_0 24 rfl rfl
theorem dksX2_goesOn_2 : cX2_goesOn.data.toList.drop 48 = dktX2_goesOn_2 := dk_seg dksX2_goesOn_1 24 rfl rfl
theorem dksX2_goesOn_3 : cX2_goesOn.data.toList.drop 72 = dktX2_goesOn_3 := dk_seg dksX2_goesOn_2 24 rfl rfl
theorem dX2_goesOn_0 : decode cX2_goesOn 0 = .ok (.aload_n 0, 1) := dk_42 (dk_at dksX2_goesOn_0 0 rfl rfl)
theorem dX2_goesOn_1 : decode cX2_goesOn 1 = .ok (.getfield 30, 3) := dk_180 0 30 (dk_at dksX2_goesOn_0 1 rfl rfl)
theorem dX2_goesOn_4 : decode cX2_goesOn 4 = .ok (.iload_n 1, 1) := dk_27 (dk_at dksX2_goesOn_0 4 rfl rfl)
theorem dX2_goesOn_5 : decode cX2_goesOn 5 = .ok (.aaload, 1) := dk_50 (dk_at dksX2_goesOn_0 5 rfl rfl)
theorem dX2_goesOn_6 : decode cX2_goesOn 6 = .ok (.aload_n 0, 1) := dk_42 (dk_at dksX2_goesOn_0 6 rfl rfl)
theorem dX2_goesOn_7 : decode cX2_goesOn 7 = .ok (.aload_n 0, 1) := dk_42 (dk_at dksX2_goesOn_0 7 rfl rfl)
theorem dX2_goesOn_8 : decode cX2_goesOn 8 = .ok (.getfield 37, 3) := dk_180 0 37 (dk_at dksX2_goesOn_0 8 rfl rfl)
theorem dX2_goesOn_11 : decode cX2_goesOn 11 = .ok (.iload_n 1, 1) := dk_27 (dk_at dksX2_goesOn_0 11 rfl rfl)
theorem dX2_goesOn_12 : decode cX2_goesOn 12 = .ok (.iaload, 1) := dk_46 (dk_at dksX2_goesOn_0 12 rfl rfl)
theorem dX2_goesOn_13 : decode cX2_goesOn 13 = .ok (.iconst 1, 1) := dk_4 (dk_at dksX2_goesOn_0 13 rfl rfl)
theorem dX2_goesOn_14 : decode cX2_goesOn 14 = .ok (.isub, 1) := dk_100 (dk_at dksX2_goesOn_0 14 rfl rfl)
theorem dX2_goesOn_15 : decode cX2_goesOn 15 = .ok (.invokevirtual 125, 3) := dk_182 0 125 (dk_at dksX2_goesOn_0 15 rfl rfl)
theorem dX2_goesOn_18 : decode cX2_goesOn 18 = .ok (.aload_n 0, 1) := dk_42 (dk_at dksX2_goesOn_0 18 rfl rfl)
theorem dX2_goesOn_19 : decode cX2_goesOn 19 = .ok (.getfield 34, 3) := dk_180 0 34 (dk_at dksX2_goesOn_0 19 rfl rfl)
theorem dX2_goesOn_22 : decode cX2_goesOn 22 = .ok (.iload_n 1, 1) := dk_27 (dk_at dksX2_goesOn_0 22 rfl rfl)
theorem dX2_goesOn_23 : decode cX2_goesOn 23 = .ok (.iaload, 1) := dk_46 (dk_at dksX2_goesOn_0 23 rfl rfl)
theorem dX2_goesOn_24 : decode cX2_goesOn 24 = .ok (.if_icmp .lt 11, 3) := dk_161 0 11 (dk_at dksX2_goesOn_1 0 rfl rfl)
theorem dX2_goesOn_27 : decode cX2_goesOn 27 = .ok (.aload_n 0, 1) := dk_42 (dk_at dksX2_goesOn_1 3 rfl rfl)
theorem dX2_goesOn_28 : decode cX2_goesOn 28 = .ok (.iload_n 1, 1) := dk_27 (dk_at dksX2_goesOn_1 4 rfl rfl)
theorem dX2_goesOn_29 : decode cX2_goesOn 29 = .ok (.invokevirtual 129, 3) := dk_182 0 129 (dk_at dksX2_goesOn_1 5 rfl rfl)
theorem dX2_goesOn_32 : decode cX2_goesOn 32 = .ok (.goto 52, 3) := dk_167 0 52 (dk_at dksX2_goesOn_1 8 rfl rfl)
theorem dX2_goesOn_35 : decode cX2_goesOn 35 = .ok (.aload_n 0, 1) := dk_42 (dk_at dksX2_goesOn_1 11 rfl rfl)
theorem dX2_goesOn_36 : decode cX2_goesOn 36 = .ok (.aload_n 0, 1) := dk_42 (dk_at dksX2_goesOn_1 12 rfl rfl)
theorem dX2_goesOn_37 : decode cX2_goesOn 37 = .ok (.getfield 34, 3) := dk_180 0 34 (dk_at dksX2_goesOn_1 13 rfl rfl)
theorem dX2_goesOn_40 : decode cX2_goesOn 40 = .ok (.iload_n 1, 1) := dk_27 (dk_at dksX2_goesOn_1 16 rfl rfl)
theorem dX2_goesOn_41 : decode cX2_goesOn 41 = .ok (.iaload, 1) := dk_46 (dk_at dksX2_goesOn_1 17 rfl rfl)
theorem dX2_goesOn_42 : decode cX2_goesOn 42 = .ok (.aload_n 0, 1) := dk_42 (dk_at dksX2_goesOn_1 18 rfl rfl)
theorem dX2_goesOn_43 : decode cX2_goesOn 43 = .ok (.getfield 30, 3) := dk_180 0 30 (dk_at dksX2_goesOn_1 19 rfl rfl)
theorem dX2_goesOn_46 : decode cX2_goesOn 46 = .ok (.iload_n 1, 1) := dk_27 (dk_at dksX2_goesOn_1 22 rfl rfl)
theorem dX2_goesOn_47 : decode cX2_goesOn 47 = .ok (.aaload, 1) := dk_50 (dk_at dksX2_goesOn_1 23 rfl rfl)
theorem dX2_goesOn_48 : decode cX2_goesOn 48 = .ok (.getfield 133, 3) := dk_180 0 133 (dk_at dksX2_goesOn_2 0 rfl rfl)
theorem dX2_goesOn_51 : decode cX2_goesOn 51 = .ok (.aload_n 0, 1) := dk_42 (dk_at dksX2_goesOn_2 3 rfl rfl)
theorem dX2_goesOn_52 : decode cX2_goesOn 52 = .ok (.getfield 78, 3) := dk_180 0 78 (dk_at dksX2_goesOn_2 4 rfl rfl)
theorem dX2_goesOn_55 : decode cX2_goesOn 55 = .ok (.invokevirtual 136, 3) := dk_182 0 136 (dk_at dksX2_goesOn_2 7 rfl rfl)
theorem dX2_goesOn_58 : decode cX2_goesOn 58 = .ok (.ifCond .eq 26, 3) := dk_153 0 26 (dk_at dksX2_goesOn_2 10 rfl rfl)
theorem dX2_goesOn_61 : decode cX2_goesOn 61 = .ok (.aload_n 0, 1) := dk_42 (dk_at dksX2_goesOn_2 13 rfl rfl)
theorem dX2_goesOn_62 : decode cX2_goesOn 62 = .ok (.getfield 37, 3) := dk_180 0 37 (dk_at dksX2_goesOn_2 14 rfl rfl)
theorem dX2_goesOn_65 : decode cX2_goesOn 65 = .ok (.iload_n 1, 1) := dk_27 (dk_at dksX2_goesOn_2 17 rfl rfl)
theorem dX2_goesOn_66 : decode cX2_goesOn 66 = .ok (.aload_n 0, 1) := dk_42 (dk_at dksX2_goesOn_2 18 rfl rfl)
theorem dX2_goesOn_67 : decode cX2_goesOn 67 = .ok (.getfield 9, 3) := dk_180 0 9 (dk_at dksX2_goesOn_2 19 rfl rfl)
theorem dX2_goesOn_70 : decode cX2_goesOn 70 = .ok (.iconst 1, 1) := dk_4 (dk_at dksX2_goesOn_2 22 rfl rfl)
theorem dX2_goesOn_71 : decode cX2_goesOn 71 = .ok (.isub, 1) := dk_100 (dk_at dksX2_goesOn_2 23 rfl rfl)
theorem dX2_goesOn_72 : decode cX2_goesOn 72 = .ok (.aload_n 0, 1) := dk_42 (dk_at dksX2_goesOn_3 0 rfl rfl)
theorem dX2_goesOn_73 : decode cX2_goesOn 73 = .ok (.getfield 37, 3) := dk_180 0 37 (dk_at dksX2_goesOn_3 1 rfl rfl)
theorem dX2_goesOn_76 : decode cX2_goesOn 76 = .ok (.iload_n 1, 1) := dk_27 (dk_at dksX2_goesOn_3 4 rfl rfl)
theorem dX2_goesOn_77 : decode cX2_goesOn 77 = .ok (.iaload, 1) := dk_46 (dk_at dksX2_goesOn_3 5 rfl rfl)
theorem dX2_goesOn_78 : decode cX2_goesOn 78 = .ok (.iconst 1, 1) := dk_4 (dk_at dksX2_goesOn_3 6 rfl rfl)
theorem dX2_goesOn_79 : decode cX2_goesOn 79 = .ok (.iadd, 1) := dk_96 (dk_at dksX2_goesOn_3 7 rfl rfl)
theorem dX2_goesOn_80 : decode cX2_goesOn 80 = .ok (.invokestatic 90, 3) := dk_184 0 90 (dk_at dksX2_goesOn_3 8 rfl rfl)
theorem dX2_goesOn_83 : decode cX2_goesOn 83 = .ok (.iastore, 1) := dk_79 (dk_at dksX2_goesOn_3 11 rfl rfl)
theorem dX2_goesOn_84 : decode cX2_goesOn 84 = .ok (.return_, 1) := dk_177 (dk_at dksX2_goesOn_3 12 rfl rfl)
abbrev cX2_comesIn : ByteArray := prog_2_method_9_code
def yX2_comesIn : MethodName := ⟨RX2, "comesIn", "(I)V"⟩
def dkwX2_comesIn_1 : List UInt8 := [182, 0, 121, 42, 180, 0, 34, 27, 46, 162, 0, 7, 4, 167, 0, 4, 3, 79, 177]
abbrev dktX2_comesIn_1 : List UInt8 := dkwX2_comesIn_1 ++ []
def dkwX2_comesIn_0 : List UInt8 := [42, 180, 0, 37, 27, 92, 46, 4, 100, 79, 42, 180, 0, 40, 27, 42, 42, 180, 0, 37, 27, 46]
abbrev dktX2_comesIn_0 : List UInt8 := dkwX2_comesIn_0 ++ dktX2_comesIn_1
theorem dksX2_comesIn_0 : cX2_comesIn.data.toList.drop 0 = dktX2_comesIn_0 := by decide +kernel
theorem dksX2_comesIn_1 : cX2_comesIn.data.toList.drop 22 = dktX2_comesIn_1 := dk_seg dksX2_comesIn_0 22 rfl rfl
theorem dX2_comesIn_0 : decode cX2_comesIn 0 = .ok (.aload_n 0, 1) := dk_42 (dk_at dksX2_comesIn_0 0 rfl rfl)
theorem dX2_comesIn_1 : decode cX2_comesIn 1 = .ok (.getfield 37, 3) := dk_180 0 37 (dk_at dksX2_comesIn_0 1 rfl rfl)
theorem dX2_comesIn_4 : decode cX2_comesIn 4 = .ok (.iload_n 1, 1) := dk_27 (dk_at dksX2_comesIn_0 4 rfl rfl)
theorem dX2_comesIn_5 : decode cX2_comesIn 5 = .ok (.dup2, 1) := dk_92 (dk_at dksX2_comesIn_0 5 rfl rfl)
theorem dX2_comesIn_6 : decode cX2_comesIn 6 = .ok (.iaload, 1) := dk_46 (dk_at dksX2_comesIn_0 6 rfl rfl)
theorem dX2_comesIn_7 : decode cX2_comesIn 7 = .ok (.iconst 1, 1) := dk_4 (dk_at dksX2_comesIn_0 7 rfl rfl)
theorem dX2_comesIn_8 : decode cX2_comesIn 8 = .ok (.isub, 1) := dk_100 (dk_at dksX2_comesIn_0 8 rfl rfl)
theorem dX2_comesIn_9 : decode cX2_comesIn 9 = .ok (.iastore, 1) := dk_79 (dk_at dksX2_comesIn_0 9 rfl rfl)
theorem dX2_comesIn_10 : decode cX2_comesIn 10 = .ok (.aload_n 0, 1) := dk_42 (dk_at dksX2_comesIn_0 10 rfl rfl)
theorem dX2_comesIn_11 : decode cX2_comesIn 11 = .ok (.getfield 40, 3) := dk_180 0 40 (dk_at dksX2_comesIn_0 11 rfl rfl)
theorem dX2_comesIn_14 : decode cX2_comesIn 14 = .ok (.iload_n 1, 1) := dk_27 (dk_at dksX2_comesIn_0 14 rfl rfl)
theorem dX2_comesIn_15 : decode cX2_comesIn 15 = .ok (.aload_n 0, 1) := dk_42 (dk_at dksX2_comesIn_0 15 rfl rfl)
theorem dX2_comesIn_16 : decode cX2_comesIn 16 = .ok (.aload_n 0, 1) := dk_42 (dk_at dksX2_comesIn_0 16 rfl rfl)
theorem dX2_comesIn_17 : decode cX2_comesIn 17 = .ok (.getfield 37, 3) := dk_180 0 37 (dk_at dksX2_comesIn_0 17 rfl rfl)
theorem dX2_comesIn_20 : decode cX2_comesIn 20 = .ok (.iload_n 1, 1) := dk_27 (dk_at dksX2_comesIn_0 20 rfl rfl)
theorem dX2_comesIn_21 : decode cX2_comesIn 21 = .ok (.iaload, 1) := dk_46 (dk_at dksX2_comesIn_0 21 rfl rfl)
theorem dX2_comesIn_22 : decode cX2_comesIn 22 = .ok (.invokevirtual 121, 3) := dk_182 0 121 (dk_at dksX2_comesIn_1 0 rfl rfl)
theorem dX2_comesIn_25 : decode cX2_comesIn 25 = .ok (.aload_n 0, 1) := dk_42 (dk_at dksX2_comesIn_1 3 rfl rfl)
theorem dX2_comesIn_26 : decode cX2_comesIn 26 = .ok (.getfield 34, 3) := dk_180 0 34 (dk_at dksX2_comesIn_1 4 rfl rfl)
theorem dX2_comesIn_29 : decode cX2_comesIn 29 = .ok (.iload_n 1, 1) := dk_27 (dk_at dksX2_comesIn_1 7 rfl rfl)
theorem dX2_comesIn_30 : decode cX2_comesIn 30 = .ok (.iaload, 1) := dk_46 (dk_at dksX2_comesIn_1 8 rfl rfl)
theorem dX2_comesIn_31 : decode cX2_comesIn 31 = .ok (.if_icmp .ge 7, 3) := dk_162 0 7 (dk_at dksX2_comesIn_1 9 rfl rfl)
theorem dX2_comesIn_34 : decode cX2_comesIn 34 = .ok (.iconst 1, 1) := dk_4 (dk_at dksX2_comesIn_1 12 rfl rfl)
theorem dX2_comesIn_35 : decode cX2_comesIn 35 = .ok (.goto 4, 3) := dk_167 0 4 (dk_at dksX2_comesIn_1 13 rfl rfl)
theorem dX2_comesIn_38 : decode cX2_comesIn 38 = .ok (.iconst 0, 1) := dk_3 (dk_at dksX2_comesIn_1 16 rfl rfl)
theorem dX2_comesIn_39 : decode cX2_comesIn 39 = .ok (.iastore, 1) := dk_79 (dk_at dksX2_comesIn_1 17 rfl rfl)
theorem dX2_comesIn_40 : decode cX2_comesIn 40 = .ok (.return_, 1) := dk_177 (dk_at dksX2_comesIn_1 18 rfl rfl)
abbrev cX2_atHome : ByteArray := prog_2_method_15_code
def yX2_atHome : MethodName := ⟨RX2, "atHome", "()I"⟩
def dkwX2_atHome_1 : List UInt8 := [167, 0, 4, 3, 96, 60, 132, 2, 1, 167, 255, 228, 27, 172]
abbrev dktX2_atHome_1 : List UInt8 := dkwX2_atHome_1 ++ []
def dkwX2_atHome_0 : List UInt8 := [3, 60, 3, 61, 28, 42, 180, 0, 81, 162, 0, 26, 27, 42, 180, 0, 37, 28, 46, 154, 0, 7, 4]
abbrev dktX2_atHome_0 : List UInt8 := dkwX2_atHome_0 ++ dktX2_atHome_1
theorem dksX2_atHome_0 : cX2_atHome.data.toList.drop 0 = dktX2_atHome_0 := by decide +kernel
theorem dksX2_atHome_1 : cX2_atHome.data.toList.drop 23 = dktX2_atHome_1 := dk_seg dksX2_atHome_0 23 rfl rfl
theorem dX2_atHome_0 : decode cX2_atHome 0 = .ok (.iconst 0, 1) := dk_3 (dk_at dksX2_atHome_0 0 rfl rfl)
theorem dX2_atHome_1 : decode cX2_atHome 1 = .ok (.istore_n 1, 1) := dk_60 (dk_at dksX2_atHome_0 1 rfl rfl)
theorem dX2_atHome_2 : decode cX2_atHome 2 = .ok (.iconst 0, 1) := dk_3 (dk_at dksX2_atHome_0 2 rfl rfl)
theorem dX2_atHome_3 : decode cX2_atHome 3 = .ok (.istore_n 2, 1) := dk_61 (dk_at dksX2_atHome_0 3 rfl rfl)
theorem dX2_atHome_4 : decode cX2_atHome 4 = .ok (.iload_n 2, 1) := dk_28 (dk_at dksX2_atHome_0 4 rfl rfl)
theorem dX2_atHome_5 : decode cX2_atHome 5 = .ok (.aload_n 0, 1) := dk_42 (dk_at dksX2_atHome_0 5 rfl rfl)
theorem dX2_atHome_6 : decode cX2_atHome 6 = .ok (.getfield 81, 3) := dk_180 0 81 (dk_at dksX2_atHome_0 6 rfl rfl)
theorem dX2_atHome_9 : decode cX2_atHome 9 = .ok (.if_icmp .ge 26, 3) := dk_162 0 26 (dk_at dksX2_atHome_0 9 rfl rfl)
theorem dX2_atHome_12 : decode cX2_atHome 12 = .ok (.iload_n 1, 1) := dk_27 (dk_at dksX2_atHome_0 12 rfl rfl)
theorem dX2_atHome_13 : decode cX2_atHome 13 = .ok (.aload_n 0, 1) := dk_42 (dk_at dksX2_atHome_0 13 rfl rfl)
theorem dX2_atHome_14 : decode cX2_atHome 14 = .ok (.getfield 37, 3) := dk_180 0 37 (dk_at dksX2_atHome_0 14 rfl rfl)
theorem dX2_atHome_17 : decode cX2_atHome 17 = .ok (.iload_n 2, 1) := dk_28 (dk_at dksX2_atHome_0 17 rfl rfl)
theorem dX2_atHome_18 : decode cX2_atHome 18 = .ok (.iaload, 1) := dk_46 (dk_at dksX2_atHome_0 18 rfl rfl)
theorem dX2_atHome_19 : decode cX2_atHome 19 = .ok (.ifCond .ne 7, 3) := dk_154 0 7 (dk_at dksX2_atHome_0 19 rfl rfl)
theorem dX2_atHome_22 : decode cX2_atHome 22 = .ok (.iconst 1, 1) := dk_4 (dk_at dksX2_atHome_0 22 rfl rfl)
theorem dX2_atHome_23 : decode cX2_atHome 23 = .ok (.goto 4, 3) := dk_167 0 4 (dk_at dksX2_atHome_1 0 rfl rfl)
theorem dX2_atHome_26 : decode cX2_atHome 26 = .ok (.iconst 0, 1) := dk_3 (dk_at dksX2_atHome_1 3 rfl rfl)
theorem dX2_atHome_27 : decode cX2_atHome 27 = .ok (.iadd, 1) := dk_96 (dk_at dksX2_atHome_1 4 rfl rfl)
theorem dX2_atHome_28 : decode cX2_atHome 28 = .ok (.istore_n 1, 1) := dk_60 (dk_at dksX2_atHome_1 5 rfl rfl)
theorem dX2_atHome_29 : decode cX2_atHome 29 = .ok (.iinc 2 1, 3) := dk_132 2 1 (dk_at dksX2_atHome_1 6 rfl rfl)
theorem dX2_atHome_32 : decode cX2_atHome 32 = .ok (.goto (-28), 3) := dk_167 255 228 (dk_at dksX2_atHome_1 9 rfl rfl)
theorem dX2_atHome_35 : decode cX2_atHome 35 = .ok (.iload_n 1, 1) := dk_27 (dk_at dksX2_atHome_1 12 rfl rfl)
theorem dX2_atHome_36 : decode cX2_atHome 36 = .ok (.ireturn, 1) := dk_172 (dk_at dksX2_atHome_1 13 rfl rfl)
abbrev cX2_goesLoose : ByteArray := prog_2_method_14_code
def yX2_goesLoose : MethodName := ⟨RX2, "goesLoose", "()V"⟩
def dkwX2_goesLoose_0 : List UInt8 := [42, 42, 182, 0, 146, 16, 100, 112, 181, 0, 72, 42, 182, 0, 142, 177]
abbrev dktX2_goesLoose_0 : List UInt8 := dkwX2_goesLoose_0 ++ []
theorem dksX2_goesLoose_0 : cX2_goesLoose.data.toList.drop 0 = dktX2_goesLoose_0 := by decide +kernel
theorem dX2_goesLoose_0 : decode cX2_goesLoose 0 = .ok (.aload_n 0, 1) := dk_42 (dk_at dksX2_goesLoose_0 0 rfl rfl)
theorem dX2_goesLoose_1 : decode cX2_goesLoose 1 = .ok (.aload_n 0, 1) := dk_42 (dk_at dksX2_goesLoose_0 1 rfl rfl)
theorem dX2_goesLoose_2 : decode cX2_goesLoose 2 = .ok (.invokevirtual 146, 3) := dk_182 0 146 (dk_at dksX2_goesLoose_0 2 rfl rfl)
theorem dX2_goesLoose_5 : decode cX2_goesLoose 5 = .ok (.bipush 100, 2) := dk_16 100 (dk_at dksX2_goesLoose_0 5 rfl rfl)
theorem dX2_goesLoose_7 : decode cX2_goesLoose 7 = .ok (.irem, 1) := dk_112 (dk_at dksX2_goesLoose_0 7 rfl rfl)
theorem dX2_goesLoose_8 : decode cX2_goesLoose 8 = .ok (.putfield 72, 3) := dk_181 0 72 (dk_at dksX2_goesLoose_0 8 rfl rfl)
theorem dX2_goesLoose_11 : decode cX2_goesLoose 11 = .ok (.aload_n 0, 1) := dk_42 (dk_at dksX2_goesLoose_0 11 rfl rfl)
theorem dX2_goesLoose_12 : decode cX2_goesLoose 12 = .ok (.invokevirtual 142, 3) := dk_182 0 142 (dk_at dksX2_goesLoose_0 12 rfl rfl)
theorem dX2_goesLoose_15 : decode cX2_goesLoose 15 = .ok (.return_, 1) := dk_177 (dk_at dksX2_goesLoose_0 15 rfl rfl)
abbrev cX2_draw : ByteArray := prog_2_method_13_code
def yX2_draw : MethodName := ⟨RX2, "draw", "()I"⟩
def dkwX2_draw_0 : List UInt8 := [42, 42, 180, 0, 49, 18, 145, 104, 17, 48, 57, 96, 181, 0, 49, 42, 180, 0, 49, 16, 8, 124, 172]
abbrev dktX2_draw_0 : List UInt8 := dkwX2_draw_0 ++ []
theorem dksX2_draw_0 : cX2_draw.data.toList.drop 0 = dktX2_draw_0 := by decide +kernel
theorem dX2_draw_0 : decode cX2_draw 0 = .ok (.aload_n 0, 1) := dk_42 (dk_at dksX2_draw_0 0 rfl rfl)
theorem dX2_draw_1 : decode cX2_draw 1 = .ok (.aload_n 0, 1) := dk_42 (dk_at dksX2_draw_0 1 rfl rfl)
theorem dX2_draw_2 : decode cX2_draw 2 = .ok (.getfield 49, 3) := dk_180 0 49 (dk_at dksX2_draw_0 2 rfl rfl)
theorem dX2_draw_5 : decode cX2_draw 5 = .ok (.ldc 145, 2) := dk_18 145 (dk_at dksX2_draw_0 5 rfl rfl)
theorem dX2_draw_7 : decode cX2_draw 7 = .ok (.imul, 1) := dk_104 (dk_at dksX2_draw_0 7 rfl rfl)
theorem dX2_draw_8 : decode cX2_draw 8 = .ok (.sipush 12345, 3) := dk_17 48 57 (dk_at dksX2_draw_0 8 rfl rfl)
theorem dX2_draw_11 : decode cX2_draw 11 = .ok (.iadd, 1) := dk_96 (dk_at dksX2_draw_0 11 rfl rfl)
theorem dX2_draw_12 : decode cX2_draw 12 = .ok (.putfield 49, 3) := dk_181 0 49 (dk_at dksX2_draw_0 12 rfl rfl)
theorem dX2_draw_15 : decode cX2_draw 15 = .ok (.aload_n 0, 1) := dk_42 (dk_at dksX2_draw_0 15 rfl rfl)
theorem dX2_draw_16 : decode cX2_draw 16 = .ok (.getfield 49, 3) := dk_180 0 49 (dk_at dksX2_draw_0 16 rfl rfl)
theorem dX2_draw_19 : decode cX2_draw 19 = .ok (.bipush 8, 2) := dk_16 8 (dk_at dksX2_draw_0 19 rfl rfl)
theorem dX2_draw_21 : decode cX2_draw 21 = .ok (.iushr, 1) := dk_124 (dk_at dksX2_draw_0 21 rfl rfl)
theorem dX2_draw_22 : decode cX2_draw 22 = .ok (.ireturn, 1) := dk_172 (dk_at dksX2_draw_0 22 rfl rfl)
abbrev cX2_become : ByteArray := prog_2_method_2_code
def yX2_become : MethodName := ⟨RX2, "become", "(LOldLight$Bay;)LOldLight$Bay;"⟩
def dkwX2_become_9 : List UInt8 := [184, 0, 66, 42, 43, 180, 0, 87, 181, 0, 87, 42, 176]
abbrev dktX2_become_9 : List UInt8 := dkwX2_become_9 ++ []
def dkwX2_become_8 : List UInt8 := [184, 0, 66, 42, 43, 180, 0, 84, 181, 0, 84, 43, 180, 0, 56, 3, 42, 180, 0, 56, 3, 16, 20]
abbrev dktX2_become_8 : List UInt8 := dkwX2_become_8 ++ dktX2_become_9
def dkwX2_become_7 : List UInt8 := [184, 0, 66, 42, 43, 180, 0, 49, 181, 0, 49, 43, 180, 0, 52, 3, 42, 180, 0, 52, 3, 16, 50]
abbrev dktX2_become_7 : List UInt8 := dkwX2_become_7 ++ dktX2_become_8
def dkwX2_become_6 : List UInt8 := [3, 42, 180, 0, 40, 3, 16, 7, 184, 0, 66, 43, 180, 0, 45, 3, 42, 180, 0, 45, 3, 5]
abbrev dktX2_become_6 : List UInt8 := dkwX2_become_6 ++ dktX2_become_7
def dkwX2_become_5 : List UInt8 := [16, 7, 184, 0, 66, 43, 180, 0, 37, 3, 42, 180, 0, 37, 3, 16, 7, 184, 0, 66, 43, 180, 0, 40]
abbrev dktX2_become_5 : List UInt8 := dkwX2_become_5 ++ dktX2_become_6
def dkwX2_become_4 : List UInt8 := [180, 0, 30, 3, 42, 180, 0, 30, 3, 16, 7, 184, 0, 66, 43, 180, 0, 34, 3, 42, 180, 0, 34, 3]
abbrev dktX2_become_4 : List UInt8 := dkwX2_become_4 ++ dktX2_become_5
def dkwX2_become_3 : List UInt8 := [180, 0, 75, 181, 0, 75, 42, 43, 180, 0, 78, 181, 0, 78, 42, 43, 180, 0, 81, 181, 0, 81, 43]
abbrev dktX2_become_3 : List UInt8 := dkwX2_become_3 ++ dktX2_become_4
def dkwX2_become_2 : List UInt8 := [16, 8, 184, 0, 66, 42, 43, 180, 0, 25, 181, 0, 25, 42, 43, 180, 0, 72, 181, 0, 72, 42, 43]
abbrev dktX2_become_2 : List UInt8 := dkwX2_become_2 ++ dktX2_become_3
def dkwX2_become_1 : List UInt8 := [180, 0, 19, 3, 42, 180, 0, 19, 3, 16, 8, 184, 0, 66, 43, 180, 0, 22, 3, 42, 180, 0, 22, 3]
abbrev dktX2_become_1 : List UInt8 := dkwX2_become_1 ++ dktX2_become_2
def dkwX2_become_0 : List UInt8 := [42, 43, 180, 0, 9, 181, 0, 9, 43, 180, 0, 15, 3, 42, 180, 0, 15, 3, 16, 8, 184, 0, 66, 43]
abbrev dktX2_become_0 : List UInt8 := dkwX2_become_0 ++ dktX2_become_1
theorem dksX2_become_0 : cX2_become.data.toList.drop 0 = dktX2_become_0 := by decide +kernel
theorem dksX2_become_1 : cX2_become.data.toList.drop 24 = dktX2_become_1 := dk_seg dksX2_become_0 24 rfl rfl
theorem dksX2_become_2 : cX2_become.data.toList.drop 48 = dktX2_become_2 := dk_seg dksX2_become_1 24 rfl rfl
theorem dksX2_become_3 : cX2_become.data.toList.drop 71 = dktX2_become_3 := dk_seg dksX2_become_2 23 rfl rfl
theorem dksX2_become_4 : cX2_become.data.toList.drop 94 = dktX2_become_4 := dk_seg dksX2_become_3 23 rfl rfl
theorem dksX2_become_5 : cX2_become.data.toList.drop 118 = dktX2_become_5 := dk_seg dksX2_become_4 24 rfl rfl
theorem dksX2_become_6 : cX2_become.data.toList.drop 142 = dktX2_become_6 := dk_seg dksX2_become_5 24 rfl rfl
theorem dksX2_become_7 : cX2_become.data.toList.drop 164 = dktX2_become_7 := dk_seg dksX2_become_6 22 rfl rfl
theorem dksX2_become_8 : cX2_become.data.toList.drop 187 = dktX2_become_8 := dk_seg dksX2_become_7 23 rfl rfl
theorem dksX2_become_9 : cX2_become.data.toList.drop 210 = dktX2_become_9 := dk_seg dksX2_become_8 23 rfl rfl
theorem dX2_become_0 : decode cX2_become 0 = .ok (.aload_n 0, 1) := dk_42 (dk_at dksX2_become_0 0 rfl rfl)
theorem dX2_become_1 : decode cX2_become 1 = .ok (.aload_n 1, 1) := dk_43 (dk_at dksX2_become_0 1 rfl rfl)
theorem dX2_become_2 : decode cX2_become 2 = .ok (.getfield 9, 3) := dk_180 0 9 (dk_at dksX2_become_0 2 rfl rfl)
theorem dX2_become_5 : decode cX2_become 5 = .ok (.putfield 9, 3) := dk_181 0 9 (dk_at dksX2_become_0 5 rfl rfl)
theorem dX2_become_8 : decode cX2_become 8 = .ok (.aload_n 1, 1) := dk_43 (dk_at dksX2_become_0 8 rfl rfl)
theorem dX2_become_9 : decode cX2_become 9 = .ok (.getfield 15, 3) := dk_180 0 15 (dk_at dksX2_become_0 9 rfl rfl)
theorem dX2_become_12 : decode cX2_become 12 = .ok (.iconst 0, 1) := dk_3 (dk_at dksX2_become_0 12 rfl rfl)
theorem dX2_become_13 : decode cX2_become 13 = .ok (.aload_n 0, 1) := dk_42 (dk_at dksX2_become_0 13 rfl rfl)
theorem dX2_become_14 : decode cX2_become 14 = .ok (.getfield 15, 3) := dk_180 0 15 (dk_at dksX2_become_0 14 rfl rfl)
theorem dX2_become_17 : decode cX2_become 17 = .ok (.iconst 0, 1) := dk_3 (dk_at dksX2_become_0 17 rfl rfl)
theorem dX2_become_18 : decode cX2_become 18 = .ok (.bipush 8, 2) := dk_16 8 (dk_at dksX2_become_0 18 rfl rfl)
theorem dX2_become_20 : decode cX2_become 20 = .ok (.invokestatic 66, 3) := dk_184 0 66 (dk_at dksX2_become_0 20 rfl rfl)
theorem dX2_become_23 : decode cX2_become 23 = .ok (.aload_n 1, 1) := dk_43 (dk_at dksX2_become_0 23 rfl rfl)
theorem dX2_become_24 : decode cX2_become 24 = .ok (.getfield 19, 3) := dk_180 0 19 (dk_at dksX2_become_1 0 rfl rfl)
theorem dX2_become_27 : decode cX2_become 27 = .ok (.iconst 0, 1) := dk_3 (dk_at dksX2_become_1 3 rfl rfl)
theorem dX2_become_28 : decode cX2_become 28 = .ok (.aload_n 0, 1) := dk_42 (dk_at dksX2_become_1 4 rfl rfl)
theorem dX2_become_29 : decode cX2_become 29 = .ok (.getfield 19, 3) := dk_180 0 19 (dk_at dksX2_become_1 5 rfl rfl)
theorem dX2_become_32 : decode cX2_become 32 = .ok (.iconst 0, 1) := dk_3 (dk_at dksX2_become_1 8 rfl rfl)
theorem dX2_become_33 : decode cX2_become 33 = .ok (.bipush 8, 2) := dk_16 8 (dk_at dksX2_become_1 9 rfl rfl)
theorem dX2_become_35 : decode cX2_become 35 = .ok (.invokestatic 66, 3) := dk_184 0 66 (dk_at dksX2_become_1 11 rfl rfl)
theorem dX2_become_38 : decode cX2_become 38 = .ok (.aload_n 1, 1) := dk_43 (dk_at dksX2_become_1 14 rfl rfl)
theorem dX2_become_39 : decode cX2_become 39 = .ok (.getfield 22, 3) := dk_180 0 22 (dk_at dksX2_become_1 15 rfl rfl)
theorem dX2_become_42 : decode cX2_become 42 = .ok (.iconst 0, 1) := dk_3 (dk_at dksX2_become_1 18 rfl rfl)
theorem dX2_become_43 : decode cX2_become 43 = .ok (.aload_n 0, 1) := dk_42 (dk_at dksX2_become_1 19 rfl rfl)
theorem dX2_become_44 : decode cX2_become 44 = .ok (.getfield 22, 3) := dk_180 0 22 (dk_at dksX2_become_1 20 rfl rfl)
theorem dX2_become_47 : decode cX2_become 47 = .ok (.iconst 0, 1) := dk_3 (dk_at dksX2_become_1 23 rfl rfl)
theorem dX2_become_48 : decode cX2_become 48 = .ok (.bipush 8, 2) := dk_16 8 (dk_at dksX2_become_2 0 rfl rfl)
theorem dX2_become_50 : decode cX2_become 50 = .ok (.invokestatic 66, 3) := dk_184 0 66 (dk_at dksX2_become_2 2 rfl rfl)
theorem dX2_become_53 : decode cX2_become 53 = .ok (.aload_n 0, 1) := dk_42 (dk_at dksX2_become_2 5 rfl rfl)
theorem dX2_become_54 : decode cX2_become 54 = .ok (.aload_n 1, 1) := dk_43 (dk_at dksX2_become_2 6 rfl rfl)
theorem dX2_become_55 : decode cX2_become 55 = .ok (.getfield 25, 3) := dk_180 0 25 (dk_at dksX2_become_2 7 rfl rfl)
theorem dX2_become_58 : decode cX2_become 58 = .ok (.putfield 25, 3) := dk_181 0 25 (dk_at dksX2_become_2 10 rfl rfl)
theorem dX2_become_61 : decode cX2_become 61 = .ok (.aload_n 0, 1) := dk_42 (dk_at dksX2_become_2 13 rfl rfl)
theorem dX2_become_62 : decode cX2_become 62 = .ok (.aload_n 1, 1) := dk_43 (dk_at dksX2_become_2 14 rfl rfl)
theorem dX2_become_63 : decode cX2_become 63 = .ok (.getfield 72, 3) := dk_180 0 72 (dk_at dksX2_become_2 15 rfl rfl)
theorem dX2_become_66 : decode cX2_become 66 = .ok (.putfield 72, 3) := dk_181 0 72 (dk_at dksX2_become_2 18 rfl rfl)
theorem dX2_become_69 : decode cX2_become 69 = .ok (.aload_n 0, 1) := dk_42 (dk_at dksX2_become_2 21 rfl rfl)
theorem dX2_become_70 : decode cX2_become 70 = .ok (.aload_n 1, 1) := dk_43 (dk_at dksX2_become_2 22 rfl rfl)
theorem dX2_become_71 : decode cX2_become 71 = .ok (.getfield 75, 3) := dk_180 0 75 (dk_at dksX2_become_3 0 rfl rfl)
theorem dX2_become_74 : decode cX2_become 74 = .ok (.putfield 75, 3) := dk_181 0 75 (dk_at dksX2_become_3 3 rfl rfl)
theorem dX2_become_77 : decode cX2_become 77 = .ok (.aload_n 0, 1) := dk_42 (dk_at dksX2_become_3 6 rfl rfl)
theorem dX2_become_78 : decode cX2_become 78 = .ok (.aload_n 1, 1) := dk_43 (dk_at dksX2_become_3 7 rfl rfl)
theorem dX2_become_79 : decode cX2_become 79 = .ok (.getfield 78, 3) := dk_180 0 78 (dk_at dksX2_become_3 8 rfl rfl)
theorem dX2_become_82 : decode cX2_become 82 = .ok (.putfield 78, 3) := dk_181 0 78 (dk_at dksX2_become_3 11 rfl rfl)
theorem dX2_become_85 : decode cX2_become 85 = .ok (.aload_n 0, 1) := dk_42 (dk_at dksX2_become_3 14 rfl rfl)
theorem dX2_become_86 : decode cX2_become 86 = .ok (.aload_n 1, 1) := dk_43 (dk_at dksX2_become_3 15 rfl rfl)
theorem dX2_become_87 : decode cX2_become 87 = .ok (.getfield 81, 3) := dk_180 0 81 (dk_at dksX2_become_3 16 rfl rfl)
theorem dX2_become_90 : decode cX2_become 90 = .ok (.putfield 81, 3) := dk_181 0 81 (dk_at dksX2_become_3 19 rfl rfl)
theorem dX2_become_93 : decode cX2_become 93 = .ok (.aload_n 1, 1) := dk_43 (dk_at dksX2_become_3 22 rfl rfl)
theorem dX2_become_94 : decode cX2_become 94 = .ok (.getfield 30, 3) := dk_180 0 30 (dk_at dksX2_become_4 0 rfl rfl)
theorem dX2_become_97 : decode cX2_become 97 = .ok (.iconst 0, 1) := dk_3 (dk_at dksX2_become_4 3 rfl rfl)
theorem dX2_become_98 : decode cX2_become 98 = .ok (.aload_n 0, 1) := dk_42 (dk_at dksX2_become_4 4 rfl rfl)
theorem dX2_become_99 : decode cX2_become 99 = .ok (.getfield 30, 3) := dk_180 0 30 (dk_at dksX2_become_4 5 rfl rfl)
theorem dX2_become_102 : decode cX2_become 102 = .ok (.iconst 0, 1) := dk_3 (dk_at dksX2_become_4 8 rfl rfl)
theorem dX2_become_103 : decode cX2_become 103 = .ok (.bipush 7, 2) := dk_16 7 (dk_at dksX2_become_4 9 rfl rfl)
theorem dX2_become_105 : decode cX2_become 105 = .ok (.invokestatic 66, 3) := dk_184 0 66 (dk_at dksX2_become_4 11 rfl rfl)
theorem dX2_become_108 : decode cX2_become 108 = .ok (.aload_n 1, 1) := dk_43 (dk_at dksX2_become_4 14 rfl rfl)
theorem dX2_become_109 : decode cX2_become 109 = .ok (.getfield 34, 3) := dk_180 0 34 (dk_at dksX2_become_4 15 rfl rfl)
theorem dX2_become_112 : decode cX2_become 112 = .ok (.iconst 0, 1) := dk_3 (dk_at dksX2_become_4 18 rfl rfl)
theorem dX2_become_113 : decode cX2_become 113 = .ok (.aload_n 0, 1) := dk_42 (dk_at dksX2_become_4 19 rfl rfl)
theorem dX2_become_114 : decode cX2_become 114 = .ok (.getfield 34, 3) := dk_180 0 34 (dk_at dksX2_become_4 20 rfl rfl)
theorem dX2_become_117 : decode cX2_become 117 = .ok (.iconst 0, 1) := dk_3 (dk_at dksX2_become_4 23 rfl rfl)
theorem dX2_become_118 : decode cX2_become 118 = .ok (.bipush 7, 2) := dk_16 7 (dk_at dksX2_become_5 0 rfl rfl)
theorem dX2_become_120 : decode cX2_become 120 = .ok (.invokestatic 66, 3) := dk_184 0 66 (dk_at dksX2_become_5 2 rfl rfl)
theorem dX2_become_123 : decode cX2_become 123 = .ok (.aload_n 1, 1) := dk_43 (dk_at dksX2_become_5 5 rfl rfl)
theorem dX2_become_124 : decode cX2_become 124 = .ok (.getfield 37, 3) := dk_180 0 37 (dk_at dksX2_become_5 6 rfl rfl)
theorem dX2_become_127 : decode cX2_become 127 = .ok (.iconst 0, 1) := dk_3 (dk_at dksX2_become_5 9 rfl rfl)
theorem dX2_become_128 : decode cX2_become 128 = .ok (.aload_n 0, 1) := dk_42 (dk_at dksX2_become_5 10 rfl rfl)
theorem dX2_become_129 : decode cX2_become 129 = .ok (.getfield 37, 3) := dk_180 0 37 (dk_at dksX2_become_5 11 rfl rfl)
theorem dX2_become_132 : decode cX2_become 132 = .ok (.iconst 0, 1) := dk_3 (dk_at dksX2_become_5 14 rfl rfl)
theorem dX2_become_133 : decode cX2_become 133 = .ok (.bipush 7, 2) := dk_16 7 (dk_at dksX2_become_5 15 rfl rfl)
theorem dX2_become_135 : decode cX2_become 135 = .ok (.invokestatic 66, 3) := dk_184 0 66 (dk_at dksX2_become_5 17 rfl rfl)
theorem dX2_become_138 : decode cX2_become 138 = .ok (.aload_n 1, 1) := dk_43 (dk_at dksX2_become_5 20 rfl rfl)
theorem dX2_become_139 : decode cX2_become 139 = .ok (.getfield 40, 3) := dk_180 0 40 (dk_at dksX2_become_5 21 rfl rfl)
theorem dX2_become_142 : decode cX2_become 142 = .ok (.iconst 0, 1) := dk_3 (dk_at dksX2_become_6 0 rfl rfl)
theorem dX2_become_143 : decode cX2_become 143 = .ok (.aload_n 0, 1) := dk_42 (dk_at dksX2_become_6 1 rfl rfl)
theorem dX2_become_144 : decode cX2_become 144 = .ok (.getfield 40, 3) := dk_180 0 40 (dk_at dksX2_become_6 2 rfl rfl)
theorem dX2_become_147 : decode cX2_become 147 = .ok (.iconst 0, 1) := dk_3 (dk_at dksX2_become_6 5 rfl rfl)
theorem dX2_become_148 : decode cX2_become 148 = .ok (.bipush 7, 2) := dk_16 7 (dk_at dksX2_become_6 6 rfl rfl)
theorem dX2_become_150 : decode cX2_become 150 = .ok (.invokestatic 66, 3) := dk_184 0 66 (dk_at dksX2_become_6 8 rfl rfl)
theorem dX2_become_153 : decode cX2_become 153 = .ok (.aload_n 1, 1) := dk_43 (dk_at dksX2_become_6 11 rfl rfl)
theorem dX2_become_154 : decode cX2_become 154 = .ok (.getfield 45, 3) := dk_180 0 45 (dk_at dksX2_become_6 12 rfl rfl)
theorem dX2_become_157 : decode cX2_become 157 = .ok (.iconst 0, 1) := dk_3 (dk_at dksX2_become_6 15 rfl rfl)
theorem dX2_become_158 : decode cX2_become 158 = .ok (.aload_n 0, 1) := dk_42 (dk_at dksX2_become_6 16 rfl rfl)
theorem dX2_become_159 : decode cX2_become 159 = .ok (.getfield 45, 3) := dk_180 0 45 (dk_at dksX2_become_6 17 rfl rfl)
theorem dX2_become_162 : decode cX2_become 162 = .ok (.iconst 0, 1) := dk_3 (dk_at dksX2_become_6 20 rfl rfl)
theorem dX2_become_163 : decode cX2_become 163 = .ok (.iconst 2, 1) := dk_5 (dk_at dksX2_become_6 21 rfl rfl)
theorem dX2_become_164 : decode cX2_become 164 = .ok (.invokestatic 66, 3) := dk_184 0 66 (dk_at dksX2_become_7 0 rfl rfl)
theorem dX2_become_167 : decode cX2_become 167 = .ok (.aload_n 0, 1) := dk_42 (dk_at dksX2_become_7 3 rfl rfl)
theorem dX2_become_168 : decode cX2_become 168 = .ok (.aload_n 1, 1) := dk_43 (dk_at dksX2_become_7 4 rfl rfl)
theorem dX2_become_169 : decode cX2_become 169 = .ok (.getfield 49, 3) := dk_180 0 49 (dk_at dksX2_become_7 5 rfl rfl)
theorem dX2_become_172 : decode cX2_become 172 = .ok (.putfield 49, 3) := dk_181 0 49 (dk_at dksX2_become_7 8 rfl rfl)
theorem dX2_become_175 : decode cX2_become 175 = .ok (.aload_n 1, 1) := dk_43 (dk_at dksX2_become_7 11 rfl rfl)
theorem dX2_become_176 : decode cX2_become 176 = .ok (.getfield 52, 3) := dk_180 0 52 (dk_at dksX2_become_7 12 rfl rfl)
theorem dX2_become_179 : decode cX2_become 179 = .ok (.iconst 0, 1) := dk_3 (dk_at dksX2_become_7 15 rfl rfl)
theorem dX2_become_180 : decode cX2_become 180 = .ok (.aload_n 0, 1) := dk_42 (dk_at dksX2_become_7 16 rfl rfl)
theorem dX2_become_181 : decode cX2_become 181 = .ok (.getfield 52, 3) := dk_180 0 52 (dk_at dksX2_become_7 17 rfl rfl)
theorem dX2_become_184 : decode cX2_become 184 = .ok (.iconst 0, 1) := dk_3 (dk_at dksX2_become_7 20 rfl rfl)
theorem dX2_become_185 : decode cX2_become 185 = .ok (.bipush 50, 2) := dk_16 50 (dk_at dksX2_become_7 21 rfl rfl)
theorem dX2_become_187 : decode cX2_become 187 = .ok (.invokestatic 66, 3) := dk_184 0 66 (dk_at dksX2_become_8 0 rfl rfl)
theorem dX2_become_190 : decode cX2_become 190 = .ok (.aload_n 0, 1) := dk_42 (dk_at dksX2_become_8 3 rfl rfl)
theorem dX2_become_191 : decode cX2_become 191 = .ok (.aload_n 1, 1) := dk_43 (dk_at dksX2_become_8 4 rfl rfl)
theorem dX2_become_192 : decode cX2_become 192 = .ok (.getfield 84, 3) := dk_180 0 84 (dk_at dksX2_become_8 5 rfl rfl)
theorem dX2_become_195 : decode cX2_become 195 = .ok (.putfield 84, 3) := dk_181 0 84 (dk_at dksX2_become_8 8 rfl rfl)
theorem dX2_become_198 : decode cX2_become 198 = .ok (.aload_n 1, 1) := dk_43 (dk_at dksX2_become_8 11 rfl rfl)
theorem dX2_become_199 : decode cX2_become 199 = .ok (.getfield 56, 3) := dk_180 0 56 (dk_at dksX2_become_8 12 rfl rfl)
theorem dX2_become_202 : decode cX2_become 202 = .ok (.iconst 0, 1) := dk_3 (dk_at dksX2_become_8 15 rfl rfl)
theorem dX2_become_203 : decode cX2_become 203 = .ok (.aload_n 0, 1) := dk_42 (dk_at dksX2_become_8 16 rfl rfl)
theorem dX2_become_204 : decode cX2_become 204 = .ok (.getfield 56, 3) := dk_180 0 56 (dk_at dksX2_become_8 17 rfl rfl)
theorem dX2_become_207 : decode cX2_become 207 = .ok (.iconst 0, 1) := dk_3 (dk_at dksX2_become_8 20 rfl rfl)
theorem dX2_become_208 : decode cX2_become 208 = .ok (.bipush 20, 2) := dk_16 20 (dk_at dksX2_become_8 21 rfl rfl)
theorem dX2_become_210 : decode cX2_become 210 = .ok (.invokestatic 66, 3) := dk_184 0 66 (dk_at dksX2_become_9 0 rfl rfl)
theorem dX2_become_213 : decode cX2_become 213 = .ok (.aload_n 0, 1) := dk_42 (dk_at dksX2_become_9 3 rfl rfl)
theorem dX2_become_214 : decode cX2_become 214 = .ok (.aload_n 1, 1) := dk_43 (dk_at dksX2_become_9 4 rfl rfl)
theorem dX2_become_215 : decode cX2_become 215 = .ok (.getfield 87, 3) := dk_180 0 87 (dk_at dksX2_become_9 5 rfl rfl)
theorem dX2_become_218 : decode cX2_become 218 = .ok (.putfield 87, 3) := dk_181 0 87 (dk_at dksX2_become_9 8 rfl rfl)
theorem dX2_become_221 : decode cX2_become 221 = .ok (.aload_n 0, 1) := dk_42 (dk_at dksX2_become_9 11 rfl rfl)
theorem dX2_become_222 : decode cX2_become 222 = .ok (.areturn, 1) := dk_176 (dk_at dksX2_become_9 12 rfl rfl)
abbrev cX2_whoAreLost : ByteArray := prog_2_method_16_code
def yX2_whoAreLost : MethodName := ⟨RX2, "whoAreLost", "()I"⟩
def dkwX2_whoAreLost_1 : List UInt8 := [132, 2, 1, 167, 255, 234, 27, 172]
abbrev dktX2_whoAreLost_1 : List UInt8 := dkwX2_whoAreLost_1 ++ []
def dkwX2_whoAreLost_0 : List UInt8 := [3, 60, 3, 61, 28, 42, 180, 0, 81, 162, 0, 20, 27, 42, 180, 0, 40, 28, 46, 28, 120, 128, 60]
abbrev dktX2_whoAreLost_0 : List UInt8 := dkwX2_whoAreLost_0 ++ dktX2_whoAreLost_1
theorem dksX2_whoAreLost_0 : cX2_whoAreLost.data.toList.drop 0 = dktX2_whoAreLost_0 := by decide +kernel
theorem dksX2_whoAreLost_1 : cX2_whoAreLost.data.toList.drop 23 = dktX2_whoAreLost_1 := dk_seg dksX2_whoAreLost_0 23 rfl rfl
theorem dX2_whoAreLost_0 : decode cX2_whoAreLost 0 = .ok (.iconst 0, 1) := dk_3 (dk_at dksX2_whoAreLost_0 0 rfl rfl)
theorem dX2_whoAreLost_1 : decode cX2_whoAreLost 1 = .ok (.istore_n 1, 1) := dk_60 (dk_at dksX2_whoAreLost_0 1 rfl rfl)
theorem dX2_whoAreLost_2 : decode cX2_whoAreLost 2 = .ok (.iconst 0, 1) := dk_3 (dk_at dksX2_whoAreLost_0 2 rfl rfl)
theorem dX2_whoAreLost_3 : decode cX2_whoAreLost 3 = .ok (.istore_n 2, 1) := dk_61 (dk_at dksX2_whoAreLost_0 3 rfl rfl)
theorem dX2_whoAreLost_4 : decode cX2_whoAreLost 4 = .ok (.iload_n 2, 1) := dk_28 (dk_at dksX2_whoAreLost_0 4 rfl rfl)
theorem dX2_whoAreLost_5 : decode cX2_whoAreLost 5 = .ok (.aload_n 0, 1) := dk_42 (dk_at dksX2_whoAreLost_0 5 rfl rfl)
theorem dX2_whoAreLost_6 : decode cX2_whoAreLost 6 = .ok (.getfield 81, 3) := dk_180 0 81 (dk_at dksX2_whoAreLost_0 6 rfl rfl)
theorem dX2_whoAreLost_9 : decode cX2_whoAreLost 9 = .ok (.if_icmp .ge 20, 3) := dk_162 0 20 (dk_at dksX2_whoAreLost_0 9 rfl rfl)
theorem dX2_whoAreLost_12 : decode cX2_whoAreLost 12 = .ok (.iload_n 1, 1) := dk_27 (dk_at dksX2_whoAreLost_0 12 rfl rfl)
theorem dX2_whoAreLost_13 : decode cX2_whoAreLost 13 = .ok (.aload_n 0, 1) := dk_42 (dk_at dksX2_whoAreLost_0 13 rfl rfl)
theorem dX2_whoAreLost_14 : decode cX2_whoAreLost 14 = .ok (.getfield 40, 3) := dk_180 0 40 (dk_at dksX2_whoAreLost_0 14 rfl rfl)
theorem dX2_whoAreLost_17 : decode cX2_whoAreLost 17 = .ok (.iload_n 2, 1) := dk_28 (dk_at dksX2_whoAreLost_0 17 rfl rfl)
theorem dX2_whoAreLost_18 : decode cX2_whoAreLost 18 = .ok (.iaload, 1) := dk_46 (dk_at dksX2_whoAreLost_0 18 rfl rfl)
theorem dX2_whoAreLost_19 : decode cX2_whoAreLost 19 = .ok (.iload_n 2, 1) := dk_28 (dk_at dksX2_whoAreLost_0 19 rfl rfl)
theorem dX2_whoAreLost_20 : decode cX2_whoAreLost 20 = .ok (.ishl, 1) := dk_120 (dk_at dksX2_whoAreLost_0 20 rfl rfl)
theorem dX2_whoAreLost_21 : decode cX2_whoAreLost 21 = .ok (.ior, 1) := dk_128 (dk_at dksX2_whoAreLost_0 21 rfl rfl)
theorem dX2_whoAreLost_22 : decode cX2_whoAreLost 22 = .ok (.istore_n 1, 1) := dk_60 (dk_at dksX2_whoAreLost_0 22 rfl rfl)
theorem dX2_whoAreLost_23 : decode cX2_whoAreLost 23 = .ok (.iinc 2 1, 3) := dk_132 2 1 (dk_at dksX2_whoAreLost_1 0 rfl rfl)
theorem dX2_whoAreLost_26 : decode cX2_whoAreLost 26 = .ok (.goto (-22), 3) := dk_167 255 234 (dk_at dksX2_whoAreLost_1 3 rfl rfl)
theorem dX2_whoAreLost_29 : decode cX2_whoAreLost 29 = .ok (.iload_n 1, 1) := dk_27 (dk_at dksX2_whoAreLost_1 6 rfl rfl)
theorem dX2_whoAreLost_30 : decode cX2_whoAreLost 30 = .ok (.ireturn, 1) := dk_172 (dk_at dksX2_whoAreLost_1 7 rfl rfl)
theorem q79 : (Jvm.Cond.initialized "OldLight$Bay") ∈ lw_all := lw_g (lw_at lw_m1 6 rfl) rfl
theorem q188 : (Jvm.Cond.instantiable "OldLight$Bay" (20 : Nat)) ∈ lw_all := lw_g (lw_at lw_m1 115 rfl) rfl
theorem q190 : (Jvm.Cond.instanceMethod ({ cls := "OldLight$Bay", name := "<init>", desc := "()V" } : Jvm.MethodName)) ∈ lw_all := lw_g (lw_at lw_m1 117 rfl) rfl
theorem q191 : (Jvm.Cond.code ({ cls := "OldLight$Bay", name := "<init>", desc := "()V" } : Jvm.MethodName) prog_2_method_1_code (1 : Nat) (Option.none : Option Jvm.ClassFile.FieldType)) ∈ lw_all := lw_g (lw_at lw_m1 118 rfl) rfl
theorem q192 : (Jvm.Cond.methodLink "OldLight$Bay" (3 : Nat) ({ cls := "java/lang/Object", name := "<init>", desc := "()V" } : Jvm.MethodName)) ∈ lw_all := lw_g (lw_at lw_m1 119 rfl) rfl
theorem q193 : (Jvm.Cond.classLink "OldLight$Bay" (28 : Nat) "OldLight$Ship") ∈ lw_all := lw_g (lw_at lw_m1 120 rfl) rfl
theorem q195 : (Jvm.Cond.classLink "OldLight$Bay" (43 : Nat) "OldLight$Term") ∈ lw_all := lw_g (lw_at lw_m1 122 rfl) rfl
theorem q197 : (Jvm.Cond.classLink "OldLight$Bay" (59 : Nat) "OldLight$Facts") ∈ lw_all := lw_g (lw_at lw_m1 124 rfl) rfl
theorem q199 : (Jvm.Cond.methodLinkNest "OldLight$Bay" (61 : Nat) ({ cls := "OldLight$Facts", name := "<init>", desc := "()V" } : Jvm.MethodName) "OldLight") ∈ lw_tbl := lw_at lw_m1 126 rfl
theorem q210 : (Jvm.Cond.fieldLink "OldLight$Bay" (9 : Nat) "OldLight$Bay" "cells" "I") ∈ lw_all := lw_g (lw_at lw_m1 137 rfl) rfl
theorem q212 : (Jvm.Cond.fieldLink "OldLight$Bay" (15 : Nat) "OldLight$Bay" "bed" "[I") ∈ lw_all := lw_g (lw_at lw_m1 139 rfl) rfl
theorem q214 : (Jvm.Cond.fieldLink "OldLight$Bay" (19 : Nat) "OldLight$Bay" "since" "[I") ∈ lw_all := lw_g (lw_at lw_m1 141 rfl) rfl
theorem q216 : (Jvm.Cond.fieldLink "OldLight$Bay" (22 : Nat) "OldLight$Bay" "till" "[I") ∈ lw_all := lw_g (lw_at lw_m1 143 rfl) rfl
theorem q218 : (Jvm.Cond.fieldLink "OldLight$Bay" (25 : Nat) "OldLight$Bay" "year" "I") ∈ lw_all := lw_g (lw_at lw_m1 145 rfl) rfl
theorem q220 : (Jvm.Cond.fieldLink "OldLight$Bay" (72 : Nat) "OldLight$Bay" "back" "I") ∈ lw_all := lw_g (lw_at lw_m1 147 rfl) rfl
theorem q225 : (Jvm.Cond.fieldLink "OldLight$Bay" (75 : Nat) "OldLight$Bay" "beam" "I") ∈ lw_all := lw_g (lw_at lw_m1 152 rfl) rfl
theorem q227 : (Jvm.Cond.fieldLink "OldLight$Bay" (78 : Nat) "OldLight$Bay" "hour" "I") ∈ lw_all := lw_g (lw_at lw_m1 154 rfl) rfl
theorem q229 : (Jvm.Cond.fieldLink "OldLight$Bay" (81 : Nat) "OldLight$Bay" "ships" "I") ∈ lw_all := lw_g (lw_at lw_m1 156 rfl) rfl
theorem q231 : (Jvm.Cond.fieldLink "OldLight$Bay" (30 : Nat) "OldLight$Bay" "ship" "[LOldLight$Ship;") ∈ lw_all := lw_g (lw_at lw_m1 158 rfl) rfl
theorem q233 : (Jvm.Cond.fieldLink "OldLight$Bay" (34 : Nat) "OldLight$Bay" "draft" "[I") ∈ lw_all := lw_g (lw_at lw_m1 160 rfl) rfl
theorem q235 : (Jvm.Cond.fieldLink "OldLight$Bay" (37 : Nat) "OldLight$Bay" "at" "[I") ∈ lw_all := lw_g (lw_at lw_m1 162 rfl) rfl
theorem q237 : (Jvm.Cond.fieldLink "OldLight$Bay" (40 : Nat) "OldLight$Bay" "lost" "[I") ∈ lw_all := lw_g (lw_at lw_m1 164 rfl) rfl
theorem q239 : (Jvm.Cond.fieldLink "OldLight$Bay" (45 : Nat) "OldLight$Bay" "text" "[LOldLight$Term;") ∈ lw_all := lw_g (lw_at lw_m1 166 rfl) rfl
theorem q241 : (Jvm.Cond.fieldLink "OldLight$Bay" (49 : Nat) "OldLight$Bay" "z" "I") ∈ lw_all := lw_g (lw_at lw_m1 168 rfl) rfl
theorem q243 : (Jvm.Cond.fieldLink "OldLight$Bay" (52 : Nat) "OldLight$Bay" "tape" "[B") ∈ lw_all := lw_g (lw_at lw_m1 170 rfl) rfl
theorem q245 : (Jvm.Cond.fieldLink "OldLight$Bay" (84 : Nat) "OldLight$Bay" "taped" "I") ∈ lw_all := lw_g (lw_at lw_m1 172 rfl) rfl
theorem q247 : (Jvm.Cond.fieldLink "OldLight$Bay" (56 : Nat) "OldLight$Bay" "waiting" "[I") ∈ lw_all := lw_g (lw_at lw_m1 174 rfl) rfl
theorem q249 : (Jvm.Cond.fieldLink "OldLight$Bay" (87 : Nat) "OldLight$Bay" "waits" "I") ∈ lw_all := lw_g (lw_at lw_m1 176 rfl) rfl
theorem q251 : (Jvm.Cond.fieldLink "OldLight$Bay" (62 : Nat) "OldLight$Bay" "facts" "LOldLight$Facts;") ∈ lw_all := lw_g (lw_at lw_m1 178 rfl) rfl
theorem q252 : (Jvm.Cond.lays "OldLight$Bay" "OldLight$Bay" "cells" "I") ∈ lw_all := lw_g (lw_at lw_m1 179 rfl) rfl
theorem q253 : (Jvm.Cond.soleField "OldLight$Bay" "cells") ∈ lw_all := lw_g (lw_at lw_m1 180 rfl) rfl
theorem q254 : (Jvm.Cond.laysFinal "OldLight$Bay" "OldLight$Bay" "bed" "[I") ∈ lw_all := lw_g (lw_at lw_m1 181 rfl) rfl
theorem q255 : (Jvm.Cond.soleField "OldLight$Bay" "bed") ∈ lw_all := lw_g (lw_at lw_m1 182 rfl) rfl
theorem q256 : (Jvm.Cond.laysFinal "OldLight$Bay" "OldLight$Bay" "since" "[I") ∈ lw_all := lw_g (lw_at lw_m1 183 rfl) rfl
theorem q257 : (Jvm.Cond.soleField "OldLight$Bay" "since") ∈ lw_all := lw_g (lw_at lw_m1 184 rfl) rfl
theorem q258 : (Jvm.Cond.laysFinal "OldLight$Bay" "OldLight$Bay" "till" "[I") ∈ lw_all := lw_g (lw_at lw_m1 185 rfl) rfl
theorem q259 : (Jvm.Cond.soleField "OldLight$Bay" "till") ∈ lw_all := lw_g (lw_at lw_m1 186 rfl) rfl
theorem q260 : (Jvm.Cond.lays "OldLight$Bay" "OldLight$Bay" "year" "I") ∈ lw_all := lw_g (lw_at lw_m1 187 rfl) rfl
theorem q261 : (Jvm.Cond.soleField "OldLight$Bay" "year") ∈ lw_all := lw_g (lw_at lw_m1 188 rfl) rfl
theorem q262 : (Jvm.Cond.lays "OldLight$Bay" "OldLight$Bay" "back" "I") ∈ lw_all := lw_g (lw_at lw_m1 189 rfl) rfl
theorem q263 : (Jvm.Cond.soleField "OldLight$Bay" "back") ∈ lw_all := lw_g (lw_at lw_m1 190 rfl) rfl
theorem q264 : (Jvm.Cond.lays "OldLight$Bay" "OldLight$Bay" "beam" "I") ∈ lw_all := lw_g (lw_at lw_m1 191 rfl) rfl
theorem q265 : (Jvm.Cond.soleField "OldLight$Bay" "beam") ∈ lw_all := lw_g (lw_at lw_m1 192 rfl) rfl
theorem q266 : (Jvm.Cond.lays "OldLight$Bay" "OldLight$Bay" "hour" "I") ∈ lw_all := lw_g (lw_at lw_m1 193 rfl) rfl
theorem q267 : (Jvm.Cond.soleField "OldLight$Bay" "hour") ∈ lw_all := lw_g (lw_at lw_m1 194 rfl) rfl
theorem q268 : (Jvm.Cond.lays "OldLight$Bay" "OldLight$Bay" "ships" "I") ∈ lw_all := lw_g (lw_at lw_m1 195 rfl) rfl
theorem q269 : (Jvm.Cond.soleField "OldLight$Bay" "ships") ∈ lw_all := lw_g (lw_at lw_m1 196 rfl) rfl
theorem q270 : (Jvm.Cond.laysFinal "OldLight$Bay" "OldLight$Bay" "ship" "[LOldLight$Ship;") ∈ lw_all := lw_g (lw_at lw_m1 197 rfl) rfl
theorem q271 : (Jvm.Cond.soleField "OldLight$Bay" "ship") ∈ lw_all := lw_g (lw_at lw_m1 198 rfl) rfl
theorem q272 : (Jvm.Cond.laysFinal "OldLight$Bay" "OldLight$Bay" "draft" "[I") ∈ lw_all := lw_g (lw_at lw_m1 199 rfl) rfl
theorem q273 : (Jvm.Cond.soleField "OldLight$Bay" "draft") ∈ lw_all := lw_g (lw_at lw_m1 200 rfl) rfl
theorem q274 : (Jvm.Cond.laysFinal "OldLight$Bay" "OldLight$Bay" "at" "[I") ∈ lw_all := lw_g (lw_at lw_m1 201 rfl) rfl
theorem q275 : (Jvm.Cond.soleField "OldLight$Bay" "at") ∈ lw_all := lw_g (lw_at lw_m1 202 rfl) rfl
theorem q276 : (Jvm.Cond.laysFinal "OldLight$Bay" "OldLight$Bay" "lost" "[I") ∈ lw_all := lw_g (lw_at lw_m1 203 rfl) rfl
theorem q277 : (Jvm.Cond.soleField "OldLight$Bay" "lost") ∈ lw_all := lw_g (lw_at lw_m1 204 rfl) rfl
theorem q278 : (Jvm.Cond.laysFinal "OldLight$Bay" "OldLight$Bay" "text" "[LOldLight$Term;") ∈ lw_all := lw_g (lw_at lw_m1 205 rfl) rfl
theorem q279 : (Jvm.Cond.soleField "OldLight$Bay" "text") ∈ lw_all := lw_g (lw_at lw_m1 206 rfl) rfl
theorem q280 : (Jvm.Cond.lays "OldLight$Bay" "OldLight$Bay" "z" "I") ∈ lw_all := lw_g (lw_at lw_m1 207 rfl) rfl
theorem q281 : (Jvm.Cond.soleField "OldLight$Bay" "z") ∈ lw_all := lw_g (lw_at lw_m1 208 rfl) rfl
theorem q282 : (Jvm.Cond.laysFinal "OldLight$Bay" "OldLight$Bay" "tape" "[B") ∈ lw_all := lw_g (lw_at lw_m1 209 rfl) rfl
theorem q283 : (Jvm.Cond.soleField "OldLight$Bay" "tape") ∈ lw_all := lw_g (lw_at lw_m1 210 rfl) rfl
theorem q284 : (Jvm.Cond.lays "OldLight$Bay" "OldLight$Bay" "taped" "I") ∈ lw_all := lw_g (lw_at lw_m1 211 rfl) rfl
theorem q285 : (Jvm.Cond.soleField "OldLight$Bay" "taped") ∈ lw_all := lw_g (lw_at lw_m1 212 rfl) rfl
theorem q286 : (Jvm.Cond.laysFinal "OldLight$Bay" "OldLight$Bay" "waiting" "[I") ∈ lw_all := lw_g (lw_at lw_m1 213 rfl) rfl
theorem q287 : (Jvm.Cond.soleField "OldLight$Bay" "waiting") ∈ lw_all := lw_g (lw_at lw_m1 214 rfl) rfl
theorem q288 : (Jvm.Cond.lays "OldLight$Bay" "OldLight$Bay" "waits" "I") ∈ lw_all := lw_g (lw_at lw_m1 215 rfl) rfl
theorem q289 : (Jvm.Cond.soleField "OldLight$Bay" "waits") ∈ lw_all := lw_g (lw_at lw_m1 216 rfl) rfl
theorem q290 : (Jvm.Cond.laysFinal "OldLight$Bay" "OldLight$Bay" "facts" "LOldLight$Facts;") ∈ lw_all := lw_g (lw_at lw_m1 217 rfl) rfl
theorem q291 : (Jvm.Cond.soleField "OldLight$Bay" "facts") ∈ lw_all := lw_g (lw_at lw_m1 218 rfl) rfl
theorem q292 : (Jvm.Cond.superclass "OldLight$Bay" "java/lang/Object") ∈ lw_all := lw_g (lw_at lw_m1 219 rfl) rfl
theorem q381 : (Jvm.Cond.instanceMethod ({ cls := "OldLight$Bay", name := "trueDepth", desc := "(I)I" } : Jvm.MethodName)) ∈ lw_all := lw_g (lw_at lw_m2 68 rfl) rfl
theorem q382 : (Jvm.Cond.selects "OldLight$Bay" ({ cls := "OldLight$Bay", name := "trueDepth", desc := "(I)I" } : Jvm.MethodName) ({ cls := "OldLight$Bay", name := "trueDepth", desc := "(I)I" } : Jvm.MethodName)) ∈ lw_all := lw_g (lw_at lw_m2 69 rfl) rfl
theorem q383 : (Jvm.Cond.code ({ cls := "OldLight$Bay", name := "trueDepth", desc := "(I)I" } : Jvm.MethodName) prog_2_method_7_code (2 : Nat) (Option.some Jvm.ClassFile.FieldType.int)) ∈ lw_all := lw_g (lw_at lw_m2 70 rfl) rfl
theorem q384 : (Jvm.Cond.methodLink "OldLight$Bay" (114 : Nat) ({ cls := "OldLight$Bay", name := "depthIn", desc := "(II)I" } : Jvm.MethodName)) ∈ lw_all := lw_g (lw_at lw_m2 71 rfl) rfl
theorem q385 : (Jvm.Cond.instanceMethod ({ cls := "OldLight$Bay", name := "depthIn", desc := "(II)I" } : Jvm.MethodName)) ∈ lw_all := lw_g (lw_at lw_m2 72 rfl) rfl
theorem q386 : (Jvm.Cond.selects "OldLight$Bay" ({ cls := "OldLight$Bay", name := "depthIn", desc := "(II)I" } : Jvm.MethodName) ({ cls := "OldLight$Bay", name := "depthIn", desc := "(II)I" } : Jvm.MethodName)) ∈ lw_all := lw_g (lw_at lw_m2 73 rfl) rfl
theorem q387 : (Jvm.Cond.code ({ cls := "OldLight$Bay", name := "depthIn", desc := "(II)I" } : Jvm.MethodName) prog_2_method_6_code (4 : Nat) (Option.some Jvm.ClassFile.FieldType.int)) ∈ lw_all := lw_g (lw_at lw_m2 74 rfl) rfl
theorem q388 : (Jvm.Cond.methodLink "OldLight$Bay" (96 : Nat) ({ cls := "java/lang/Math", name := "max", desc := "(II)I" } : Jvm.MethodName)) ∈ lw_all := lw_g (lw_at lw_m2 75 rfl) rfl
theorem q391 : (Jvm.Cond.methodLink "OldLight$Bay" (111 : Nat) ({ cls := "OldLight$Bay", name := "depthBy", desc := "(III)I" } : Jvm.MethodName)) ∈ lw_all := lw_g (lw_at lw_m2 78 rfl) rfl
theorem q392 : (Jvm.Cond.instanceMethod ({ cls := "OldLight$Bay", name := "depthBy", desc := "(III)I" } : Jvm.MethodName)) ∈ lw_all := lw_g (lw_at lw_m2 79 rfl) rfl
theorem q393 : (Jvm.Cond.selects "OldLight$Bay" ({ cls := "OldLight$Bay", name := "depthBy", desc := "(III)I" } : Jvm.MethodName) ({ cls := "OldLight$Bay", name := "depthBy", desc := "(III)I" } : Jvm.MethodName)) ∈ lw_all := lw_g (lw_at lw_m2 80 rfl) rfl
theorem q394 : (Jvm.Cond.code ({ cls := "OldLight$Bay", name := "depthBy", desc := "(III)I" } : Jvm.MethodName) prog_2_method_4_code (5 : Nat) (Option.some Jvm.ClassFile.FieldType.int)) ∈ lw_all := lw_g (lw_at lw_m2 81 rfl) rfl
theorem q395 : (Jvm.Cond.methodLink "OldLight$Bay" (99 : Nat) ({ cls := "OldLight$Facts", name := "with", desc := "(CI)LOldLight$Facts;" } : Jvm.MethodName)) ∈ lw_all := lw_g (lw_at lw_m2 82 rfl) rfl
theorem q399 : (Jvm.Cond.methodLink "OldLight$Bay" (103 : Nat) ({ cls := "OldLight$Term", name := "value", desc := "(LOldLight$Facts;)I" } : Jvm.MethodName)) ∈ lw_all := lw_g (lw_at lw_m2 86 rfl) rfl
theorem q419 : (Jvm.Cond.methodLink "OldLight$Bay" (107 : Nat) ({ cls := "OldLight$Bay", name := "held", desc := "(III)I" } : Jvm.MethodName)) ∈ lw_all := lw_g (lw_at lw_m2 106 rfl) rfl
theorem q420 : (Jvm.Cond.static ({ cls := "OldLight$Bay", name := "held", desc := "(III)I" } : Jvm.MethodName)) ∈ lw_all := lw_g (lw_at lw_m2 107 rfl) rfl
theorem q421 : (Jvm.Cond.code ({ cls := "OldLight$Bay", name := "held", desc := "(III)I" } : Jvm.MethodName) prog_2_method_3_code (3 : Nat) (Option.some Jvm.ClassFile.FieldType.int)) ∈ lw_all := lw_g (lw_at lw_m2 108 rfl) rfl
theorem q422 : (Jvm.Cond.methodLink "OldLight$Bay" (90 : Nat) ({ cls := "java/lang/Math", name := "min", desc := "(II)I" } : Jvm.MethodName)) ∈ lw_all := lw_g (lw_at lw_m2 109 rfl) rfl
theorem q426 : (Jvm.Cond.instanceMethod ({ cls := "OldLight$Bay", name := "shown", desc := "(II)I" } : Jvm.MethodName)) ∈ lw_all := lw_g (lw_at lw_m2 113 rfl) rfl
theorem q427 : (Jvm.Cond.selects "OldLight$Bay" ({ cls := "OldLight$Bay", name := "shown", desc := "(II)I" } : Jvm.MethodName) ({ cls := "OldLight$Bay", name := "shown", desc := "(II)I" } : Jvm.MethodName)) ∈ lw_all := lw_g (lw_at lw_m2 114 rfl) rfl
theorem q428 : (Jvm.Cond.code ({ cls := "OldLight$Bay", name := "shown", desc := "(II)I" } : Jvm.MethodName) prog_2_method_8_code (3 : Nat) (Option.some Jvm.ClassFile.FieldType.int)) ∈ lw_all := lw_g (lw_at lw_m2 115 rfl) rfl
theorem q429 : (Jvm.Cond.methodLinkNest "OldLight$Bay" (117 : Nat) ({ cls := "OldLight", name := "hasBit", desc := "(II)Z" } : Jvm.MethodName) "OldLight") ∈ lw_tbl := lw_at lw_m2 116 rfl
theorem q432 : (Jvm.Cond.methodLink "OldLight$Bay" (121 : Nat) ({ cls := "OldLight$Bay", name := "trueDepth", desc := "(I)I" } : Jvm.MethodName)) ∈ lw_all := lw_g (lw_at lw_m2 119 rfl) rfl
theorem q434 : (Jvm.Cond.instanceMethod ({ cls := "OldLight$Bay", name := "whoAreAt", desc := "(I)I" } : Jvm.MethodName)) ∈ lw_all := lw_g (lw_at lw_m2 121 rfl) rfl
theorem q435 : (Jvm.Cond.selects "OldLight$Bay" ({ cls := "OldLight$Bay", name := "whoAreAt", desc := "(I)I" } : Jvm.MethodName) ({ cls := "OldLight$Bay", name := "whoAreAt", desc := "(I)I" } : Jvm.MethodName)) ∈ lw_all := lw_g (lw_at lw_m2 122 rfl) rfl
theorem q436 : (Jvm.Cond.code ({ cls := "OldLight$Bay", name := "whoAreAt", desc := "(I)I" } : Jvm.MethodName) prog_2_method_17_code (4 : Nat) (Option.some Jvm.ClassFile.FieldType.int)) ∈ lw_all := lw_g (lw_at lw_m2 123 rfl) rfl
theorem q484 : (Jvm.Cond.fieldLink "OldLight$Bay" (133 : Nat) "OldLight$Ship" "m" "I") ∈ lw_all := lw_g (lw_at lw_m2 171 rfl) rfl
theorem q911 : (Jvm.Cond.instanceMethod ({ cls := "OldLight$Bay", name := "elseBy", desc := "(III)I" } : Jvm.MethodName)) ∈ lw_all := lw_g (lw_at lw_m4 118 rfl) rfl
theorem q912 : (Jvm.Cond.selects "OldLight$Bay" ({ cls := "OldLight$Bay", name := "elseBy", desc := "(III)I" } : Jvm.MethodName) ({ cls := "OldLight$Bay", name := "elseBy", desc := "(III)I" } : Jvm.MethodName)) ∈ lw_all := lw_g (lw_at lw_m4 119 rfl) rfl
theorem q913 : (Jvm.Cond.code ({ cls := "OldLight$Bay", name := "elseBy", desc := "(III)I" } : Jvm.MethodName) prog_2_method_5_code (5 : Nat) (Option.some Jvm.ClassFile.FieldType.int)) ∈ lw_all := lw_g (lw_at lw_m4 120 rfl) rfl
theorem q923 : (Jvm.Cond.instanceMethod ({ cls := "OldLight$Bay", name := "goes", desc := "(I)LOldLight$Bay;" } : Jvm.MethodName)) ∈ lw_all := lw_g (lw_at lw_m4 130 rfl) rfl
theorem q924 : (Jvm.Cond.selects "OldLight$Bay" ({ cls := "OldLight$Bay", name := "goes", desc := "(I)LOldLight$Bay;" } : Jvm.MethodName) ({ cls := "OldLight$Bay", name := "goes", desc := "(I)LOldLight$Bay;" } : Jvm.MethodName)) ∈ lw_all := lw_g (lw_at lw_m4 131 rfl) rfl
theorem q925 : (Jvm.Cond.code ({ cls := "OldLight$Bay", name := "goes", desc := "(I)LOldLight$Bay;" } : Jvm.MethodName) prog_2_method_12_code (3 : Nat) (Option.some (Jvm.ClassFile.FieldType.object "OldLight$Bay"))) ∈ lw_all := lw_g (lw_at lw_m4 132 rfl) rfl
theorem q926 : (Jvm.Cond.methodLink "OldLight$Bay" (142 : Nat) ({ cls := "OldLight$Bay", name := "passes", desc := "()V" } : Jvm.MethodName)) ∈ lw_all := lw_g (lw_at lw_m4 133 rfl) rfl
theorem q927 : (Jvm.Cond.instanceMethod ({ cls := "OldLight$Bay", name := "passes", desc := "()V" } : Jvm.MethodName)) ∈ lw_all := lw_g (lw_at lw_m4 134 rfl) rfl
theorem q928 : (Jvm.Cond.selects "OldLight$Bay" ({ cls := "OldLight$Bay", name := "passes", desc := "()V" } : Jvm.MethodName) ({ cls := "OldLight$Bay", name := "passes", desc := "()V" } : Jvm.MethodName)) ∈ lw_all := lw_g (lw_at lw_m4 135 rfl) rfl
theorem q929 : (Jvm.Cond.code ({ cls := "OldLight$Bay", name := "passes", desc := "()V" } : Jvm.MethodName) prog_2_method_11_code (2 : Nat) (Option.none : Option Jvm.ClassFile.FieldType)) ∈ lw_all := lw_g (lw_at lw_m4 136 rfl) rfl
theorem q930 : (Jvm.Cond.methodLink "OldLight$Bay" (139 : Nat) ({ cls := "OldLight$Bay", name := "goesOn", desc := "(I)V" } : Jvm.MethodName)) ∈ lw_all := lw_g (lw_at lw_m4 137 rfl) rfl
theorem q931 : (Jvm.Cond.privateMethod ({ cls := "OldLight$Bay", name := "goesOn", desc := "(I)V" } : Jvm.MethodName)) ∈ lw_tbl := lw_at lw_m4 138 rfl
theorem q932 : (Jvm.Cond.instanceMethod ({ cls := "OldLight$Bay", name := "goesOn", desc := "(I)V" } : Jvm.MethodName)) ∈ lw_all := lw_g (lw_at lw_m4 139 rfl) rfl
theorem q933 : (Jvm.Cond.code ({ cls := "OldLight$Bay", name := "goesOn", desc := "(I)V" } : Jvm.MethodName) prog_2_method_10_code (2 : Nat) (Option.none : Option Jvm.ClassFile.FieldType)) ∈ lw_all := lw_g (lw_at lw_m4 140 rfl) rfl
theorem q934 : (Jvm.Cond.methodLink "OldLight$Bay" (125 : Nat) ({ cls := "OldLight$Ship", name := "believes", desc := "(LOldLight$Bay;I)I" } : Jvm.MethodName)) ∈ lw_all := lw_g (lw_at lw_m4 141 rfl) rfl
theorem q935 : (Jvm.Cond.methodLink "OldLight$Bay" (129 : Nat) ({ cls := "OldLight$Bay", name := "comesIn", desc := "(I)V" } : Jvm.MethodName)) ∈ lw_all := lw_g (lw_at lw_m4 142 rfl) rfl
theorem q936 : (Jvm.Cond.privateMethod ({ cls := "OldLight$Bay", name := "comesIn", desc := "(I)V" } : Jvm.MethodName)) ∈ lw_tbl := lw_at lw_m4 143 rfl
theorem q937 : (Jvm.Cond.instanceMethod ({ cls := "OldLight$Bay", name := "comesIn", desc := "(I)V" } : Jvm.MethodName)) ∈ lw_all := lw_g (lw_at lw_m4 144 rfl) rfl
theorem q938 : (Jvm.Cond.code ({ cls := "OldLight$Bay", name := "comesIn", desc := "(I)V" } : Jvm.MethodName) prog_2_method_9_code (2 : Nat) (Option.none : Option Jvm.ClassFile.FieldType)) ∈ lw_all := lw_g (lw_at lw_m4 145 rfl) rfl
theorem q939 : (Jvm.Cond.methodLink "OldLight$Bay" (136 : Nat) ({ cls := "OldLight$Bay", name := "elseBy", desc := "(III)I" } : Jvm.MethodName)) ∈ lw_all := lw_g (lw_at lw_m4 146 rfl) rfl
theorem q941 : (Jvm.Cond.instanceMethod ({ cls := "OldLight$Bay", name := "atHome", desc := "()I" } : Jvm.MethodName)) ∈ lw_all := lw_g (lw_at lw_m4 148 rfl) rfl
theorem q942 : (Jvm.Cond.selects "OldLight$Bay" ({ cls := "OldLight$Bay", name := "atHome", desc := "()I" } : Jvm.MethodName) ({ cls := "OldLight$Bay", name := "atHome", desc := "()I" } : Jvm.MethodName)) ∈ lw_all := lw_g (lw_at lw_m4 149 rfl) rfl
theorem q943 : (Jvm.Cond.code ({ cls := "OldLight$Bay", name := "atHome", desc := "()I" } : Jvm.MethodName) prog_2_method_15_code (3 : Nat) (Option.some Jvm.ClassFile.FieldType.int)) ∈ lw_all := lw_g (lw_at lw_m4 150 rfl) rfl
theorem q949 : (Jvm.Cond.instanceMethod ({ cls := "OldLight$Bay", name := "goesLoose", desc := "()V" } : Jvm.MethodName)) ∈ lw_all := lw_g (lw_at lw_m4 156 rfl) rfl
theorem q950 : (Jvm.Cond.selects "OldLight$Bay" ({ cls := "OldLight$Bay", name := "goesLoose", desc := "()V" } : Jvm.MethodName) ({ cls := "OldLight$Bay", name := "goesLoose", desc := "()V" } : Jvm.MethodName)) ∈ lw_all := lw_g (lw_at lw_m4 157 rfl) rfl
theorem q951 : (Jvm.Cond.code ({ cls := "OldLight$Bay", name := "goesLoose", desc := "()V" } : Jvm.MethodName) prog_2_method_14_code (1 : Nat) (Option.none : Option Jvm.ClassFile.FieldType)) ∈ lw_all := lw_g (lw_at lw_m4 158 rfl) rfl
theorem q952 : (Jvm.Cond.methodLink "OldLight$Bay" (146 : Nat) ({ cls := "OldLight$Bay", name := "draw", desc := "()I" } : Jvm.MethodName)) ∈ lw_all := lw_g (lw_at lw_m4 159 rfl) rfl
theorem q953 : (Jvm.Cond.instanceMethod ({ cls := "OldLight$Bay", name := "draw", desc := "()I" } : Jvm.MethodName)) ∈ lw_all := lw_g (lw_at lw_m4 160 rfl) rfl
theorem q954 : (Jvm.Cond.selects "OldLight$Bay" ({ cls := "OldLight$Bay", name := "draw", desc := "()I" } : Jvm.MethodName) ({ cls := "OldLight$Bay", name := "draw", desc := "()I" } : Jvm.MethodName)) ∈ lw_all := lw_g (lw_at lw_m4 161 rfl) rfl
theorem q955 : (Jvm.Cond.code ({ cls := "OldLight$Bay", name := "draw", desc := "()I" } : Jvm.MethodName) prog_2_method_13_code (1 : Nat) (Option.some Jvm.ClassFile.FieldType.int)) ∈ lw_all := lw_g (lw_at lw_m4 162 rfl) rfl
theorem q956 : (Jvm.Cond.constant "OldLight$Bay" (145 : Nat) (1103515245 : Int32)) ∈ lw_all := lw_g (lw_at lw_m4 163 rfl) rfl
theorem q970 : (Jvm.Cond.instanceMethod ({ cls := "OldLight$Bay", name := "become", desc := "(LOldLight$Bay;)LOldLight$Bay;" } : Jvm.MethodName)) ∈ lw_all := lw_g (lw_at lw_m4 177 rfl) rfl
theorem q971 : (Jvm.Cond.selects "OldLight$Bay" ({ cls := "OldLight$Bay", name := "become", desc := "(LOldLight$Bay;)LOldLight$Bay;" } : Jvm.MethodName) ({ cls := "OldLight$Bay", name := "become", desc := "(LOldLight$Bay;)LOldLight$Bay;" } : Jvm.MethodName)) ∈ lw_all := lw_g (lw_at lw_m4 178 rfl) rfl
theorem q972 : (Jvm.Cond.code ({ cls := "OldLight$Bay", name := "become", desc := "(LOldLight$Bay;)LOldLight$Bay;" } : Jvm.MethodName) prog_2_method_2_code (2 : Nat) (Option.some (Jvm.ClassFile.FieldType.object "OldLight$Bay"))) ∈ lw_all := lw_g (lw_at lw_m4 179 rfl) rfl
theorem q973 : (Jvm.Cond.methodLink "OldLight$Bay" (66 : Nat) ({ cls := "java/lang/System", name := "arraycopy", desc := "(Ljava/lang/Object;ILjava/lang/Object;II)V" } : Jvm.MethodName)) ∈ lw_all := lw_g (lw_at lw_m4 180 rfl) rfl
theorem q981 : (Jvm.Cond.instanceMethod ({ cls := "OldLight$Bay", name := "whoAreLost", desc := "()I" } : Jvm.MethodName)) ∈ lw_all := lw_g (lw_at lw_m4 188 rfl) rfl
theorem q982 : (Jvm.Cond.selects "OldLight$Bay" ({ cls := "OldLight$Bay", name := "whoAreLost", desc := "()I" } : Jvm.MethodName) ({ cls := "OldLight$Bay", name := "whoAreLost", desc := "()I" } : Jvm.MethodName)) ∈ lw_all := lw_g (lw_at lw_m4 189 rfl) rfl
theorem q983 : (Jvm.Cond.code ({ cls := "OldLight$Bay", name := "whoAreLost", desc := "()I" } : Jvm.MethodName) prog_2_method_16_code (3 : Nat) (Option.some Jvm.ClassFile.FieldType.int)) ∈ lw_all := lw_g (lw_at lw_m4 190 rfl) rfl
theorem in_X2 : ∀ w ∈ wsX20, w ∈ lw_all := lw_in wsX20 [252, 254, 256, 258, 260, 262, 264, 266, 268, 270, 272, 274, 276, 278, 280, 282, 284, 286, 288, 290] (by decide +kernel) (by decide +kernel)
