set_option maxRecDepth 100000
/-! OldLight -/
set_option maxRecDepth 100000
def RX0 : String := "OldLight"
def TX0 : u_T := fun k => match k with
  | 0 => ("OldLight", "finding", "LOldLight$Finding;", true)
  | 1 => ("OldLight", "bay", "LOldLight$Bay;", true)
  | 2 => ("OldLight", "image", "LOldLight$Bay;", true)
  | 3 => ("OldLight", "tried", "LOldLight$Bay;", true)
  | 4 => ("OldLight", "images", "I", false)
  | 5 => ("OldLight", "trace", "LOldLight$Trace;", true)
  | 6 => ("OldLight", "errors", "[I", true)
  | _ => ("OldLight", "sheets", "[LOldLight$Shelf;", true)
def tyX0 : Nat → FieldType := fun k => match k with
  | 0 => .object "OldLight$Finding"
  | 1 => .object "OldLight$Bay"
  | 2 => .object "OldLight$Bay"
  | 3 => .object "OldLight$Bay"
  | 4 => .int
  | 5 => .object "OldLight$Trace"
  | 6 => .array .int
  | _ => .array (.object "OldLight$Shelf")
abbrev wsX00 : List Cond := u_ws RX0 TX0 8
theorem nmX0 : ∀ a, a < 8 → ∀ b, b < 8 → a ≠ b → (TX0 a).2.1 ≠ (TX0 b).2.1 := by decide +kernel
theorem tyX0_ok : ∀ k, k < 8 → parseFieldDescriptor (TX0 k).2.2.1 = some (tyX0 k) := by decide +kernel
abbrev cX0_init : ByteArray := prog_1_method_5_code
def yX0_init : MethodName := ⟨RX0, "<init>", "()V"⟩
def dkwX0_init_4 : List UInt8 := [183, 0, 73, 83, 132, 1, 1, 167, 255, 235, 177]
abbrev dktX0_init_4 : List UInt8 := dkwX0_init_4 ++ []
def dkwX0_init_3 : List UInt8 := [189, 0, 67, 181, 0, 69, 3, 60, 27, 7, 162, 0, 22, 42, 180, 0, 69, 27, 187, 0, 67, 89]
abbrev dktX0_init_3 : List UInt8 := dkwX0_init_3 ++ dktX0_init_4
def dkwX0_init_2 : List UInt8 := [181, 0, 53, 42, 187, 0, 56, 89, 183, 0, 58, 181, 0, 59, 42, 16, 6, 188, 10, 181, 0, 63, 42, 7]
abbrev dktX0_init_2 : List UInt8 := dkwX0_init_2 ++ dktX0_init_3
def dkwX0_init_1 : List UInt8 := [181, 0, 46, 42, 187, 0, 43, 89, 183, 0, 45, 181, 0, 50, 42, 187, 0, 43, 89, 183, 0, 45]
abbrev dktX0_init_1 : List UInt8 := dkwX0_init_1 ++ dktX0_init_2
def dkwX0_init_0 : List UInt8 := [42, 183, 0, 37, 42, 187, 0, 8, 89, 183, 0, 42, 181, 0, 1, 42, 187, 0, 43, 89, 183, 0, 45]
abbrev dktX0_init_0 : List UInt8 := dkwX0_init_0 ++ dktX0_init_1
theorem dksX0_init_0 : cX0_init.data.toList.drop 0 = dktX0_init_0 := by decide +kernel
theorem dksX0_init_1 : cX0_init.data.toList.drop 23 = dktX0_init_1 := dk_seg dksX0_init_0 23 rfl rfl
theorem dksX0_init_2 : cX0_init.data.toList.drop 45 = dktX0_init_2 := dk_seg dksX0_init_1 22 rfl rfl
theorem dksX0_init_3 : cX0_init.data.toList.drop 69 = dktX0_init_3 := dk_seg dksX0_init_2 24 rfl rfl
theorem dksX0_init_4 : cX0_init.data.toList.drop 91 = dktX0_init_4 := dk_seg dksX0_init_3 22 rfl rfl
theorem dX0_init_0 : decode cX0_init 0 = .ok (.aload_n 0, 1) := dk_42 (dk_at dksX0_init_0 0 rfl rfl)
theorem dX0_init_1 : decode cX0_init 1 = .ok (.invokespecial 37, 3) := dk_183 0 37 (dk_at dksX0_init_0 1 rfl rfl)
theorem dX0_init_4 : decode cX0_init 4 = .ok (.aload_n 0, 1) := dk_42 (dk_at dksX0_init_0 4 rfl rfl)
theorem dX0_init_5 : decode cX0_init 5 = .ok (.new 8, 3) := dk_187 0 8 (dk_at dksX0_init_0 5 rfl rfl)
theorem dX0_init_8 : decode cX0_init 8 = .ok (.dup, 1) := dk_89 (dk_at dksX0_init_0 8 rfl rfl)
theorem dX0_init_9 : decode cX0_init 9 = .ok (.invokespecial 42, 3) := dk_183 0 42 (dk_at dksX0_init_0 9 rfl rfl)
theorem dX0_init_12 : decode cX0_init 12 = .ok (.putfield 1, 3) := dk_181 0 1 (dk_at dksX0_init_0 12 rfl rfl)
theorem dX0_init_15 : decode cX0_init 15 = .ok (.aload_n 0, 1) := dk_42 (dk_at dksX0_init_0 15 rfl rfl)
theorem dX0_init_16 : decode cX0_init 16 = .ok (.new 43, 3) := dk_187 0 43 (dk_at dksX0_init_0 16 rfl rfl)
theorem dX0_init_19 : decode cX0_init 19 = .ok (.dup, 1) := dk_89 (dk_at dksX0_init_0 19 rfl rfl)
theorem dX0_init_20 : decode cX0_init 20 = .ok (.invokespecial 45, 3) := dk_183 0 45 (dk_at dksX0_init_0 20 rfl rfl)
theorem dX0_init_23 : decode cX0_init 23 = .ok (.putfield 46, 3) := dk_181 0 46 (dk_at dksX0_init_1 0 rfl rfl)
theorem dX0_init_26 : decode cX0_init 26 = .ok (.aload_n 0, 1) := dk_42 (dk_at dksX0_init_1 3 rfl rfl)
theorem dX0_init_27 : decode cX0_init 27 = .ok (.new 43, 3) := dk_187 0 43 (dk_at dksX0_init_1 4 rfl rfl)
theorem dX0_init_30 : decode cX0_init 30 = .ok (.dup, 1) := dk_89 (dk_at dksX0_init_1 7 rfl rfl)
theorem dX0_init_31 : decode cX0_init 31 = .ok (.invokespecial 45, 3) := dk_183 0 45 (dk_at dksX0_init_1 8 rfl rfl)
theorem dX0_init_34 : decode cX0_init 34 = .ok (.putfield 50, 3) := dk_181 0 50 (dk_at dksX0_init_1 11 rfl rfl)
theorem dX0_init_37 : decode cX0_init 37 = .ok (.aload_n 0, 1) := dk_42 (dk_at dksX0_init_1 14 rfl rfl)
theorem dX0_init_38 : decode cX0_init 38 = .ok (.new 43, 3) := dk_187 0 43 (dk_at dksX0_init_1 15 rfl rfl)
theorem dX0_init_41 : decode cX0_init 41 = .ok (.dup, 1) := dk_89 (dk_at dksX0_init_1 18 rfl rfl)
theorem dX0_init_42 : decode cX0_init 42 = .ok (.invokespecial 45, 3) := dk_183 0 45 (dk_at dksX0_init_1 19 rfl rfl)
theorem dX0_init_45 : decode cX0_init 45 = .ok (.putfield 53, 3) := dk_181 0 53 (dk_at dksX0_init_2 0 rfl rfl)
theorem dX0_init_48 : decode cX0_init 48 = .ok (.aload_n 0, 1) := dk_42 (dk_at dksX0_init_2 3 rfl rfl)
theorem dX0_init_49 : decode cX0_init 49 = .ok (.new 56, 3) := dk_187 0 56 (dk_at dksX0_init_2 4 rfl rfl)
theorem dX0_init_52 : decode cX0_init 52 = .ok (.dup, 1) := dk_89 (dk_at dksX0_init_2 7 rfl rfl)
theorem dX0_init_53 : decode cX0_init 53 = .ok (.invokespecial 58, 3) := dk_183 0 58 (dk_at dksX0_init_2 8 rfl rfl)
theorem dX0_init_56 : decode cX0_init 56 = .ok (.putfield 59, 3) := dk_181 0 59 (dk_at dksX0_init_2 11 rfl rfl)
theorem dX0_init_59 : decode cX0_init 59 = .ok (.aload_n 0, 1) := dk_42 (dk_at dksX0_init_2 14 rfl rfl)
theorem dX0_init_60 : decode cX0_init 60 = .ok (.bipush 6, 2) := dk_16 6 (dk_at dksX0_init_2 15 rfl rfl)
theorem dX0_init_62 : decode cX0_init 62 = .ok (.newarray .int, 2) := dk_188_10 (dk_at dksX0_init_2 17 rfl rfl)
theorem dX0_init_64 : decode cX0_init 64 = .ok (.putfield 63, 3) := dk_181 0 63 (dk_at dksX0_init_2 19 rfl rfl)
theorem dX0_init_67 : decode cX0_init 67 = .ok (.aload_n 0, 1) := dk_42 (dk_at dksX0_init_2 22 rfl rfl)
theorem dX0_init_68 : decode cX0_init 68 = .ok (.iconst 4, 1) := dk_7 (dk_at dksX0_init_2 23 rfl rfl)
theorem dX0_init_69 : decode cX0_init 69 = .ok (.anewarray 67, 3) := dk_189 0 67 (dk_at dksX0_init_3 0 rfl rfl)
theorem dX0_init_72 : decode cX0_init 72 = .ok (.putfield 69, 3) := dk_181 0 69 (dk_at dksX0_init_3 3 rfl rfl)
theorem dX0_init_75 : decode cX0_init 75 = .ok (.iconst 0, 1) := dk_3 (dk_at dksX0_init_3 6 rfl rfl)
theorem dX0_init_76 : decode cX0_init 76 = .ok (.istore_n 1, 1) := dk_60 (dk_at dksX0_init_3 7 rfl rfl)
theorem dX0_init_77 : decode cX0_init 77 = .ok (.iload_n 1, 1) := dk_27 (dk_at dksX0_init_3 8 rfl rfl)
theorem dX0_init_78 : decode cX0_init 78 = .ok (.iconst 4, 1) := dk_7 (dk_at dksX0_init_3 9 rfl rfl)
theorem dX0_init_79 : decode cX0_init 79 = .ok (.if_icmp .ge 22, 3) := dk_162 0 22 (dk_at dksX0_init_3 10 rfl rfl)
theorem dX0_init_82 : decode cX0_init 82 = .ok (.aload_n 0, 1) := dk_42 (dk_at dksX0_init_3 13 rfl rfl)
theorem dX0_init_83 : decode cX0_init 83 = .ok (.getfield 69, 3) := dk_180 0 69 (dk_at dksX0_init_3 14 rfl rfl)
theorem dX0_init_86 : decode cX0_init 86 = .ok (.iload_n 1, 1) := dk_27 (dk_at dksX0_init_3 17 rfl rfl)
theorem dX0_init_87 : decode cX0_init 87 = .ok (.new 67, 3) := dk_187 0 67 (dk_at dksX0_init_3 18 rfl rfl)
theorem dX0_init_90 : decode cX0_init 90 = .ok (.dup, 1) := dk_89 (dk_at dksX0_init_3 21 rfl rfl)
theorem dX0_init_91 : decode cX0_init 91 = .ok (.invokespecial 73, 3) := dk_183 0 73 (dk_at dksX0_init_4 0 rfl rfl)
theorem dX0_init_94 : decode cX0_init 94 = .ok (.aastore, 1) := dk_83 (dk_at dksX0_init_4 3 rfl rfl)
theorem dX0_init_95 : decode cX0_init 95 = .ok (.iinc 1 1, 3) := dk_132 1 1 (dk_at dksX0_init_4 4 rfl rfl)
theorem dX0_init_98 : decode cX0_init 98 = .ok (.goto (-21), 3) := dk_167 255 235 (dk_at dksX0_init_4 7 rfl rfl)
theorem dX0_init_101 : decode cX0_init 101 = .ok (.return_, 1) := dk_177 (dk_at dksX0_init_4 10 rfl rfl)
abbrev cX0_bay : ByteArray := prog_1_method_14_code
def yX0_bay : MethodName := ⟨RX0, "bay", "(I)I"⟩
def dkwX0_bay_4 : List UInt8 := [132, 3, 1, 167, 255, 217, 28, 172, 77, 42, 44, 182, 0, 111, 172]
abbrev dktX0_bay_4 : List UInt8 := dkwX0_bay_4 ++ []
def dkwX0_bay_3 : List UInt8 := [8, 79, 42, 180, 0, 46, 180, 0, 105, 29, 4, 79, 42, 180, 0, 46, 180, 0, 108, 29, 3, 79]
abbrev dktX0_bay_3 : List UInt8 := dkwX0_bay_3 ++ dktX0_bay_4
def dkwX0_bay_2 : List UInt8 := [42, 180, 0, 46, 3, 181, 0, 99, 3, 62, 29, 16, 8, 162, 0, 39, 42, 180, 0, 46, 180, 0, 102, 29]
abbrev dktX0_bay_2 : List UInt8 := dkwX0_bay_2 ++ dktX0_bay_3
def dkwX0_bay_1 : List UInt8 := [167, 0, 4, 3, 6, 182, 0, 87, 42, 180, 0, 46, 180, 0, 93, 61, 42, 180, 0, 46, 27, 181, 0, 93]
abbrev dktX0_bay_1 : List UInt8 := dkwX0_bay_1 ++ dktX0_bay_2
def dkwX0_bay_0 : List UInt8 := [42, 27, 6, 16, 8, 184, 0, 79, 4, 182, 0, 87, 42, 42, 180, 0, 46, 180, 0, 96, 154, 0, 7, 4]
abbrev dktX0_bay_0 : List UInt8 := dkwX0_bay_0 ++ dktX0_bay_1
theorem dksX0_bay_0 : cX0_bay.data.toList.drop 0 = dktX0_bay_0 := by decide +kernel
theorem dksX0_bay_1 : cX0_bay.data.toList.drop 24 = dktX0_bay_1 := dk_seg dksX0_bay_0 24 rfl rfl
theorem dksX0_bay_2 : cX0_bay.data.toList.drop 48 = dktX0_bay_2 := dk_seg dksX0_bay_1 24 rfl rfl
theorem dksX0_bay_3 : cX0_bay.data.toList.drop 72 = dktX0_bay_3 := dk_seg dksX0_bay_2 24 rfl rfl
theorem dksX0_bay_4 : cX0_bay.data.toList.drop 94 = dktX0_bay_4 := dk_seg dksX0_bay_3 22 rfl rfl
theorem dX0_bay_0 : decode cX0_bay 0 = .ok (.aload_n 0, 1) := dk_42 (dk_at dksX0_bay_0 0 rfl rfl)
theorem dX0_bay_1 : decode cX0_bay 1 = .ok (.iload_n 1, 1) := dk_27 (dk_at dksX0_bay_0 1 rfl rfl)
theorem dX0_bay_2 : decode cX0_bay 2 = .ok (.iconst 3, 1) := dk_6 (dk_at dksX0_bay_0 2 rfl rfl)
theorem dX0_bay_3 : decode cX0_bay 3 = .ok (.bipush 8, 2) := dk_16 8 (dk_at dksX0_bay_0 3 rfl rfl)
theorem dX0_bay_5 : decode cX0_bay 5 = .ok (.invokestatic 79, 3) := dk_184 0 79 (dk_at dksX0_bay_0 5 rfl rfl)
theorem dX0_bay_8 : decode cX0_bay 8 = .ok (.iconst 1, 1) := dk_4 (dk_at dksX0_bay_0 8 rfl rfl)
theorem dX0_bay_9 : decode cX0_bay 9 = .ok (.invokevirtual 87, 3) := dk_182 0 87 (dk_at dksX0_bay_0 9 rfl rfl)
theorem dX0_bay_12 : decode cX0_bay 12 = .ok (.aload_n 0, 1) := dk_42 (dk_at dksX0_bay_0 12 rfl rfl)
theorem dX0_bay_13 : decode cX0_bay 13 = .ok (.aload_n 0, 1) := dk_42 (dk_at dksX0_bay_0 13 rfl rfl)
theorem dX0_bay_14 : decode cX0_bay 14 = .ok (.getfield 46, 3) := dk_180 0 46 (dk_at dksX0_bay_0 14 rfl rfl)
theorem dX0_bay_17 : decode cX0_bay 17 = .ok (.getfield 96, 3) := dk_180 0 96 (dk_at dksX0_bay_0 17 rfl rfl)
theorem dX0_bay_20 : decode cX0_bay 20 = .ok (.ifCond .ne 7, 3) := dk_154 0 7 (dk_at dksX0_bay_0 20 rfl rfl)
theorem dX0_bay_23 : decode cX0_bay 23 = .ok (.iconst 1, 1) := dk_4 (dk_at dksX0_bay_0 23 rfl rfl)
theorem dX0_bay_24 : decode cX0_bay 24 = .ok (.goto 4, 3) := dk_167 0 4 (dk_at dksX0_bay_1 0 rfl rfl)
theorem dX0_bay_27 : decode cX0_bay 27 = .ok (.iconst 0, 1) := dk_3 (dk_at dksX0_bay_1 3 rfl rfl)
theorem dX0_bay_28 : decode cX0_bay 28 = .ok (.iconst 3, 1) := dk_6 (dk_at dksX0_bay_1 4 rfl rfl)
theorem dX0_bay_29 : decode cX0_bay 29 = .ok (.invokevirtual 87, 3) := dk_182 0 87 (dk_at dksX0_bay_1 5 rfl rfl)
theorem dX0_bay_32 : decode cX0_bay 32 = .ok (.aload_n 0, 1) := dk_42 (dk_at dksX0_bay_1 8 rfl rfl)
theorem dX0_bay_33 : decode cX0_bay 33 = .ok (.getfield 46, 3) := dk_180 0 46 (dk_at dksX0_bay_1 9 rfl rfl)
theorem dX0_bay_36 : decode cX0_bay 36 = .ok (.getfield 93, 3) := dk_180 0 93 (dk_at dksX0_bay_1 12 rfl rfl)
theorem dX0_bay_39 : decode cX0_bay 39 = .ok (.istore_n 2, 1) := dk_61 (dk_at dksX0_bay_1 15 rfl rfl)
theorem dX0_bay_40 : decode cX0_bay 40 = .ok (.aload_n 0, 1) := dk_42 (dk_at dksX0_bay_1 16 rfl rfl)
theorem dX0_bay_41 : decode cX0_bay 41 = .ok (.getfield 46, 3) := dk_180 0 46 (dk_at dksX0_bay_1 17 rfl rfl)
theorem dX0_bay_44 : decode cX0_bay 44 = .ok (.iload_n 1, 1) := dk_27 (dk_at dksX0_bay_1 20 rfl rfl)
theorem dX0_bay_45 : decode cX0_bay 45 = .ok (.putfield 93, 3) := dk_181 0 93 (dk_at dksX0_bay_1 21 rfl rfl)
theorem dX0_bay_48 : decode cX0_bay 48 = .ok (.aload_n 0, 1) := dk_42 (dk_at dksX0_bay_2 0 rfl rfl)
theorem dX0_bay_49 : decode cX0_bay 49 = .ok (.getfield 46, 3) := dk_180 0 46 (dk_at dksX0_bay_2 1 rfl rfl)
theorem dX0_bay_52 : decode cX0_bay 52 = .ok (.iconst 0, 1) := dk_3 (dk_at dksX0_bay_2 4 rfl rfl)
theorem dX0_bay_53 : decode cX0_bay 53 = .ok (.putfield 99, 3) := dk_181 0 99 (dk_at dksX0_bay_2 5 rfl rfl)
theorem dX0_bay_56 : decode cX0_bay 56 = .ok (.iconst 0, 1) := dk_3 (dk_at dksX0_bay_2 8 rfl rfl)
theorem dX0_bay_57 : decode cX0_bay 57 = .ok (.istore_n 3, 1) := dk_62 (dk_at dksX0_bay_2 9 rfl rfl)
theorem dX0_bay_58 : decode cX0_bay 58 = .ok (.iload_n 3, 1) := dk_29 (dk_at dksX0_bay_2 10 rfl rfl)
theorem dX0_bay_59 : decode cX0_bay 59 = .ok (.bipush 8, 2) := dk_16 8 (dk_at dksX0_bay_2 11 rfl rfl)
theorem dX0_bay_61 : decode cX0_bay 61 = .ok (.if_icmp .ge 39, 3) := dk_162 0 39 (dk_at dksX0_bay_2 13 rfl rfl)
theorem dX0_bay_64 : decode cX0_bay 64 = .ok (.aload_n 0, 1) := dk_42 (dk_at dksX0_bay_2 16 rfl rfl)
theorem dX0_bay_65 : decode cX0_bay 65 = .ok (.getfield 46, 3) := dk_180 0 46 (dk_at dksX0_bay_2 17 rfl rfl)
theorem dX0_bay_68 : decode cX0_bay 68 = .ok (.getfield 102, 3) := dk_180 0 102 (dk_at dksX0_bay_2 20 rfl rfl)
theorem dX0_bay_71 : decode cX0_bay 71 = .ok (.iload_n 3, 1) := dk_29 (dk_at dksX0_bay_2 23 rfl rfl)
theorem dX0_bay_72 : decode cX0_bay 72 = .ok (.iconst 5, 1) := dk_8 (dk_at dksX0_bay_3 0 rfl rfl)
theorem dX0_bay_73 : decode cX0_bay 73 = .ok (.iastore, 1) := dk_79 (dk_at dksX0_bay_3 1 rfl rfl)
theorem dX0_bay_74 : decode cX0_bay 74 = .ok (.aload_n 0, 1) := dk_42 (dk_at dksX0_bay_3 2 rfl rfl)
theorem dX0_bay_75 : decode cX0_bay 75 = .ok (.getfield 46, 3) := dk_180 0 46 (dk_at dksX0_bay_3 3 rfl rfl)
theorem dX0_bay_78 : decode cX0_bay 78 = .ok (.getfield 105, 3) := dk_180 0 105 (dk_at dksX0_bay_3 6 rfl rfl)
theorem dX0_bay_81 : decode cX0_bay 81 = .ok (.iload_n 3, 1) := dk_29 (dk_at dksX0_bay_3 9 rfl rfl)
theorem dX0_bay_82 : decode cX0_bay 82 = .ok (.iconst 1, 1) := dk_4 (dk_at dksX0_bay_3 10 rfl rfl)
theorem dX0_bay_83 : decode cX0_bay 83 = .ok (.iastore, 1) := dk_79 (dk_at dksX0_bay_3 11 rfl rfl)
theorem dX0_bay_84 : decode cX0_bay 84 = .ok (.aload_n 0, 1) := dk_42 (dk_at dksX0_bay_3 12 rfl rfl)
theorem dX0_bay_85 : decode cX0_bay 85 = .ok (.getfield 46, 3) := dk_180 0 46 (dk_at dksX0_bay_3 13 rfl rfl)
theorem dX0_bay_88 : decode cX0_bay 88 = .ok (.getfield 108, 3) := dk_180 0 108 (dk_at dksX0_bay_3 16 rfl rfl)
theorem dX0_bay_91 : decode cX0_bay 91 = .ok (.iload_n 3, 1) := dk_29 (dk_at dksX0_bay_3 19 rfl rfl)
theorem dX0_bay_92 : decode cX0_bay 92 = .ok (.iconst 0, 1) := dk_3 (dk_at dksX0_bay_3 20 rfl rfl)
theorem dX0_bay_93 : decode cX0_bay 93 = .ok (.iastore, 1) := dk_79 (dk_at dksX0_bay_3 21 rfl rfl)
theorem dX0_bay_94 : decode cX0_bay 94 = .ok (.iinc 3 1, 3) := dk_132 3 1 (dk_at dksX0_bay_4 0 rfl rfl)
theorem dX0_bay_97 : decode cX0_bay 97 = .ok (.goto (-39), 3) := dk_167 255 217 (dk_at dksX0_bay_4 3 rfl rfl)
theorem dX0_bay_100 : decode cX0_bay 100 = .ok (.iload_n 2, 1) := dk_28 (dk_at dksX0_bay_4 6 rfl rfl)
theorem dX0_bay_101 : decode cX0_bay 101 = .ok (.ireturn, 1) := dk_172 (dk_at dksX0_bay_4 7 rfl rfl)
theorem dX0_bay_102 : decode cX0_bay 102 = .ok (.astore_n 2, 1) := dk_77 (dk_at dksX0_bay_4 8 rfl rfl)
theorem dX0_bay_103 : decode cX0_bay 103 = .ok (.aload_n 0, 1) := dk_42 (dk_at dksX0_bay_4 9 rfl rfl)
theorem dX0_bay_104 : decode cX0_bay 104 = .ok (.aload_n 2, 1) := dk_44 (dk_at dksX0_bay_4 10 rfl rfl)
theorem dX0_bay_105 : decode cX0_bay 105 = .ok (.invokevirtual 111, 3) := dk_182 0 111 (dk_at dksX0_bay_4 11 rfl rfl)
theorem dX0_bay_108 : decode cX0_bay 108 = .ok (.ireturn, 1) := dk_172 (dk_at dksX0_bay_4 14 rfl rfl)
abbrev cX0_in : ByteArray := prog_1_method_1_code
def yX0_in : MethodName := ⟨RX0, "in", "(III)Z"⟩
def dkwX0_in_0 : List UInt8 := [26, 27, 161, 0, 12, 26, 28, 163, 0, 7, 4, 167, 0, 4, 3, 172]
abbrev dktX0_in_0 : List UInt8 := dkwX0_in_0 ++ []
theorem dksX0_in_0 : cX0_in.data.toList.drop 0 = dktX0_in_0 := by decide +kernel
theorem dX0_in_0 : decode cX0_in 0 = .ok (.iload_n 0, 1) := dk_26 (dk_at dksX0_in_0 0 rfl rfl)
theorem dX0_in_1 : decode cX0_in 1 = .ok (.iload_n 1, 1) := dk_27 (dk_at dksX0_in_0 1 rfl rfl)
theorem dX0_in_2 : decode cX0_in 2 = .ok (.if_icmp .lt 12, 3) := dk_161 0 12 (dk_at dksX0_in_0 2 rfl rfl)
theorem dX0_in_5 : decode cX0_in 5 = .ok (.iload_n 0, 1) := dk_26 (dk_at dksX0_in_0 5 rfl rfl)
theorem dX0_in_6 : decode cX0_in 6 = .ok (.iload_n 2, 1) := dk_28 (dk_at dksX0_in_0 6 rfl rfl)
theorem dX0_in_7 : decode cX0_in 7 = .ok (.if_icmp .gt 7, 3) := dk_163 0 7 (dk_at dksX0_in_0 7 rfl rfl)
theorem dX0_in_10 : decode cX0_in 10 = .ok (.iconst 1, 1) := dk_4 (dk_at dksX0_in_0 10 rfl rfl)
theorem dX0_in_11 : decode cX0_in 11 = .ok (.goto 4, 3) := dk_167 0 4 (dk_at dksX0_in_0 11 rfl rfl)
theorem dX0_in_14 : decode cX0_in 14 = .ok (.iconst 0, 1) := dk_3 (dk_at dksX0_in_0 14 rfl rfl)
theorem dX0_in_15 : decode cX0_in 15 = .ok (.ireturn, 1) := dk_172 (dk_at dksX0_in_0 15 rfl rfl)
abbrev cX0_need : ByteArray := prog_1_method_3_code
def yX0_need : MethodName := ⟨RX0, "need", "(ZI)V"⟩
def dkwX0_need_0 : List UInt8 := [27, 154, 0, 12, 42, 180, 0, 1, 28, 182, 0, 7, 191, 177]
abbrev dktX0_need_0 : List UInt8 := dkwX0_need_0 ++ []
theorem dksX0_need_0 : cX0_need.data.toList.drop 0 = dktX0_need_0 := by decide +kernel
theorem dX0_need_0 : decode cX0_need 0 = .ok (.iload_n 1, 1) := dk_27 (dk_at dksX0_need_0 0 rfl rfl)
theorem dX0_need_1 : decode cX0_need 1 = .ok (.ifCond .ne 12, 3) := dk_154 0 12 (dk_at dksX0_need_0 1 rfl rfl)
theorem dX0_need_4 : decode cX0_need 4 = .ok (.aload_n 0, 1) := dk_42 (dk_at dksX0_need_0 4 rfl rfl)
theorem dX0_need_5 : decode cX0_need 5 = .ok (.getfield 1, 3) := dk_180 0 1 (dk_at dksX0_need_0 5 rfl rfl)
theorem dX0_need_8 : decode cX0_need 8 = .ok (.iload_n 2, 1) := dk_28 (dk_at dksX0_need_0 8 rfl rfl)
theorem dX0_need_9 : decode cX0_need 9 = .ok (.invokevirtual 7, 3) := dk_182 0 7 (dk_at dksX0_need_0 9 rfl rfl)
theorem dX0_need_12 : decode cX0_need 12 = .ok (.athrow, 1) := dk_191 (dk_at dksX0_need_0 12 rfl rfl)
theorem dX0_need_13 : decode cX0_need 13 = .ok (.return_, 1) := dk_177 (dk_at dksX0_need_0 13 rfl rfl)
abbrev cX0_finds : ByteArray := prog_1_method_6_code
def yX0_finds : MethodName := ⟨RX0, "finds", "(LOldLight$Finding;)I"⟩
def dkwX0_finds_0 : List UInt8 := [42, 180, 0, 63, 43, 180, 0, 74, 92, 46, 4, 96, 79, 18, 78, 43, 180, 0, 74, 100, 172]
abbrev dktX0_finds_0 : List UInt8 := dkwX0_finds_0 ++ []
theorem dksX0_finds_0 : cX0_finds.data.toList.drop 0 = dktX0_finds_0 := by decide +kernel
theorem dX0_finds_0 : decode cX0_finds 0 = .ok (.aload_n 0, 1) := dk_42 (dk_at dksX0_finds_0 0 rfl rfl)
theorem dX0_finds_1 : decode cX0_finds 1 = .ok (.getfield 63, 3) := dk_180 0 63 (dk_at dksX0_finds_0 1 rfl rfl)
theorem dX0_finds_4 : decode cX0_finds 4 = .ok (.aload_n 1, 1) := dk_43 (dk_at dksX0_finds_0 4 rfl rfl)
theorem dX0_finds_5 : decode cX0_finds 5 = .ok (.getfield 74, 3) := dk_180 0 74 (dk_at dksX0_finds_0 5 rfl rfl)
theorem dX0_finds_8 : decode cX0_finds 8 = .ok (.dup2, 1) := dk_92 (dk_at dksX0_finds_0 8 rfl rfl)
theorem dX0_finds_9 : decode cX0_finds 9 = .ok (.iaload, 1) := dk_46 (dk_at dksX0_finds_0 9 rfl rfl)
theorem dX0_finds_10 : decode cX0_finds 10 = .ok (.iconst 1, 1) := dk_4 (dk_at dksX0_finds_0 10 rfl rfl)
theorem dX0_finds_11 : decode cX0_finds 11 = .ok (.iadd, 1) := dk_96 (dk_at dksX0_finds_0 11 rfl rfl)
theorem dX0_finds_12 : decode cX0_finds 12 = .ok (.iastore, 1) := dk_79 (dk_at dksX0_finds_0 12 rfl rfl)
theorem dX0_finds_13 : decode cX0_finds 13 = .ok (.ldc 78, 2) := dk_18 78 (dk_at dksX0_finds_0 13 rfl rfl)
theorem dX0_finds_15 : decode cX0_finds 15 = .ok (.aload_n 1, 1) := dk_43 (dk_at dksX0_finds_0 15 rfl rfl)
theorem dX0_finds_16 : decode cX0_finds 16 = .ok (.getfield 74, 3) := dk_180 0 74 (dk_at dksX0_finds_0 16 rfl rfl)
theorem dX0_finds_19 : decode cX0_finds 19 = .ok (.isub, 1) := dk_100 (dk_at dksX0_finds_0 19 rfl rfl)
theorem dX0_finds_20 : decode cX0_finds 20 = .ok (.ireturn, 1) := dk_172 (dk_at dksX0_finds_0 20 rfl rfl)
abbrev cX0_lay : ByteArray := prog_1_method_16_code
def yX0_lay : MethodName := ⟨RX0, "lay", "(III)I"⟩
def dkwX0_lay_3 : List UInt8 := [182, 0, 111, 172]
abbrev dktX0_lay_3 : List UInt8 := dkwX0_lay_3 ++ []
def dkwX0_lay_2 : List UInt8 := [28, 182, 0, 119, 27, 46, 54, 4, 42, 28, 182, 0, 119, 27, 29, 79, 21, 4, 172, 58, 4, 42, 25, 4]
abbrev dktX0_lay_2 : List UInt8 := dkwX0_lay_2 ++ dktX0_lay_3
def dkwX0_lay_1 : List UInt8 := [16, 9, 167, 0, 6, 17, 3, 231, 184, 0, 79, 153, 0, 7, 4, 167, 0, 4, 3, 4, 182, 0, 87, 42]
abbrev dktX0_lay_1 : List UInt8 := dkwX0_lay_1 ++ dktX0_lay_2
def dkwX0_lay_0 : List UInt8 := [42, 42, 27, 182, 0, 115, 153, 0, 36, 28, 3, 5, 184, 0, 79, 153, 0, 27, 29, 3, 28, 154, 0, 8]
abbrev dktX0_lay_0 : List UInt8 := dkwX0_lay_0 ++ dktX0_lay_1
theorem dksX0_lay_0 : cX0_lay.data.toList.drop 0 = dktX0_lay_0 := by decide +kernel
theorem dksX0_lay_1 : cX0_lay.data.toList.drop 24 = dktX0_lay_1 := dk_seg dksX0_lay_0 24 rfl rfl
theorem dksX0_lay_2 : cX0_lay.data.toList.drop 48 = dktX0_lay_2 := dk_seg dksX0_lay_1 24 rfl rfl
theorem dksX0_lay_3 : cX0_lay.data.toList.drop 72 = dktX0_lay_3 := dk_seg dksX0_lay_2 24 rfl rfl
theorem dX0_lay_0 : decode cX0_lay 0 = .ok (.aload_n 0, 1) := dk_42 (dk_at dksX0_lay_0 0 rfl rfl)
theorem dX0_lay_1 : decode cX0_lay 1 = .ok (.aload_n 0, 1) := dk_42 (dk_at dksX0_lay_0 1 rfl rfl)
theorem dX0_lay_2 : decode cX0_lay 2 = .ok (.iload_n 1, 1) := dk_27 (dk_at dksX0_lay_0 2 rfl rfl)
theorem dX0_lay_3 : decode cX0_lay 3 = .ok (.invokevirtual 115, 3) := dk_182 0 115 (dk_at dksX0_lay_0 3 rfl rfl)
theorem dX0_lay_6 : decode cX0_lay 6 = .ok (.ifCond .eq 36, 3) := dk_153 0 36 (dk_at dksX0_lay_0 6 rfl rfl)
theorem dX0_lay_9 : decode cX0_lay 9 = .ok (.iload_n 2, 1) := dk_28 (dk_at dksX0_lay_0 9 rfl rfl)
theorem dX0_lay_10 : decode cX0_lay 10 = .ok (.iconst 0, 1) := dk_3 (dk_at dksX0_lay_0 10 rfl rfl)
theorem dX0_lay_11 : decode cX0_lay 11 = .ok (.iconst 2, 1) := dk_5 (dk_at dksX0_lay_0 11 rfl rfl)
theorem dX0_lay_12 : decode cX0_lay 12 = .ok (.invokestatic 79, 3) := dk_184 0 79 (dk_at dksX0_lay_0 12 rfl rfl)
theorem dX0_lay_15 : decode cX0_lay 15 = .ok (.ifCond .eq 27, 3) := dk_153 0 27 (dk_at dksX0_lay_0 15 rfl rfl)
theorem dX0_lay_18 : decode cX0_lay 18 = .ok (.iload_n 3, 1) := dk_29 (dk_at dksX0_lay_0 18 rfl rfl)
theorem dX0_lay_19 : decode cX0_lay 19 = .ok (.iconst 0, 1) := dk_3 (dk_at dksX0_lay_0 19 rfl rfl)
theorem dX0_lay_20 : decode cX0_lay 20 = .ok (.iload_n 2, 1) := dk_28 (dk_at dksX0_lay_0 20 rfl rfl)
theorem dX0_lay_21 : decode cX0_lay 21 = .ok (.ifCond .ne 8, 3) := dk_154 0 8 (dk_at dksX0_lay_0 21 rfl rfl)
theorem dX0_lay_24 : decode cX0_lay 24 = .ok (.bipush 9, 2) := dk_16 9 (dk_at dksX0_lay_1 0 rfl rfl)
theorem dX0_lay_26 : decode cX0_lay 26 = .ok (.goto 6, 3) := dk_167 0 6 (dk_at dksX0_lay_1 2 rfl rfl)
theorem dX0_lay_29 : decode cX0_lay 29 = .ok (.sipush 999, 3) := dk_17 3 231 (dk_at dksX0_lay_1 5 rfl rfl)
theorem dX0_lay_32 : decode cX0_lay 32 = .ok (.invokestatic 79, 3) := dk_184 0 79 (dk_at dksX0_lay_1 8 rfl rfl)
theorem dX0_lay_35 : decode cX0_lay 35 = .ok (.ifCond .eq 7, 3) := dk_153 0 7 (dk_at dksX0_lay_1 11 rfl rfl)
theorem dX0_lay_38 : decode cX0_lay 38 = .ok (.iconst 1, 1) := dk_4 (dk_at dksX0_lay_1 14 rfl rfl)
theorem dX0_lay_39 : decode cX0_lay 39 = .ok (.goto 4, 3) := dk_167 0 4 (dk_at dksX0_lay_1 15 rfl rfl)
theorem dX0_lay_42 : decode cX0_lay 42 = .ok (.iconst 0, 1) := dk_3 (dk_at dksX0_lay_1 18 rfl rfl)
theorem dX0_lay_43 : decode cX0_lay 43 = .ok (.iconst 1, 1) := dk_4 (dk_at dksX0_lay_1 19 rfl rfl)
theorem dX0_lay_44 : decode cX0_lay 44 = .ok (.invokevirtual 87, 3) := dk_182 0 87 (dk_at dksX0_lay_1 20 rfl rfl)
theorem dX0_lay_47 : decode cX0_lay 47 = .ok (.aload_n 0, 1) := dk_42 (dk_at dksX0_lay_1 23 rfl rfl)
theorem dX0_lay_48 : decode cX0_lay 48 = .ok (.iload_n 2, 1) := dk_28 (dk_at dksX0_lay_2 0 rfl rfl)
theorem dX0_lay_49 : decode cX0_lay 49 = .ok (.invokevirtual 119, 3) := dk_182 0 119 (dk_at dksX0_lay_2 1 rfl rfl)
theorem dX0_lay_52 : decode cX0_lay 52 = .ok (.iload_n 1, 1) := dk_27 (dk_at dksX0_lay_2 4 rfl rfl)
theorem dX0_lay_53 : decode cX0_lay 53 = .ok (.iaload, 1) := dk_46 (dk_at dksX0_lay_2 5 rfl rfl)
theorem dX0_lay_54 : decode cX0_lay 54 = .ok (.istore 4, 2) := dk_54 4 (dk_at dksX0_lay_2 6 rfl rfl)
theorem dX0_lay_56 : decode cX0_lay 56 = .ok (.aload_n 0, 1) := dk_42 (dk_at dksX0_lay_2 8 rfl rfl)
theorem dX0_lay_57 : decode cX0_lay 57 = .ok (.iload_n 2, 1) := dk_28 (dk_at dksX0_lay_2 9 rfl rfl)
theorem dX0_lay_58 : decode cX0_lay 58 = .ok (.invokevirtual 119, 3) := dk_182 0 119 (dk_at dksX0_lay_2 10 rfl rfl)
theorem dX0_lay_61 : decode cX0_lay 61 = .ok (.iload_n 1, 1) := dk_27 (dk_at dksX0_lay_2 13 rfl rfl)
theorem dX0_lay_62 : decode cX0_lay 62 = .ok (.iload_n 3, 1) := dk_29 (dk_at dksX0_lay_2 14 rfl rfl)
theorem dX0_lay_63 : decode cX0_lay 63 = .ok (.iastore, 1) := dk_79 (dk_at dksX0_lay_2 15 rfl rfl)
theorem dX0_lay_64 : decode cX0_lay 64 = .ok (.iload 4, 2) := dk_21 4 (dk_at dksX0_lay_2 16 rfl rfl)
theorem dX0_lay_66 : decode cX0_lay 66 = .ok (.ireturn, 1) := dk_172 (dk_at dksX0_lay_2 18 rfl rfl)
theorem dX0_lay_67 : decode cX0_lay 67 = .ok (.astore 4, 2) := dk_58 4 (dk_at dksX0_lay_2 19 rfl rfl)
theorem dX0_lay_69 : decode cX0_lay 69 = .ok (.aload_n 0, 1) := dk_42 (dk_at dksX0_lay_2 21 rfl rfl)
theorem dX0_lay_70 : decode cX0_lay 70 = .ok (.aload 4, 2) := dk_25 4 (dk_at dksX0_lay_2 22 rfl rfl)
theorem dX0_lay_72 : decode cX0_lay 72 = .ok (.invokevirtual 111, 3) := dk_182 0 111 (dk_at dksX0_lay_3 0 rfl rfl)
theorem dX0_lay_75 : decode cX0_lay 75 = .ok (.ireturn, 1) := dk_172 (dk_at dksX0_lay_3 3 rfl rfl)
abbrev cX0_isCell : ByteArray := prog_1_method_11_code
def yX0_isCell : MethodName := ⟨RX0, "isCell", "(I)Z"⟩
def dkwX0_isCell_0 : List UInt8 := [27, 3, 42, 180, 0, 46, 180, 0, 93, 4, 100, 184, 0, 79, 172]
abbrev dktX0_isCell_0 : List UInt8 := dkwX0_isCell_0 ++ []
theorem dksX0_isCell_0 : cX0_isCell.data.toList.drop 0 = dktX0_isCell_0 := by decide +kernel
theorem dX0_isCell_0 : decode cX0_isCell 0 = .ok (.iload_n 1, 1) := dk_27 (dk_at dksX0_isCell_0 0 rfl rfl)
theorem dX0_isCell_1 : decode cX0_isCell 1 = .ok (.iconst 0, 1) := dk_3 (dk_at dksX0_isCell_0 1 rfl rfl)
theorem dX0_isCell_2 : decode cX0_isCell 2 = .ok (.aload_n 0, 1) := dk_42 (dk_at dksX0_isCell_0 2 rfl rfl)
theorem dX0_isCell_3 : decode cX0_isCell 3 = .ok (.getfield 46, 3) := dk_180 0 46 (dk_at dksX0_isCell_0 3 rfl rfl)
theorem dX0_isCell_6 : decode cX0_isCell 6 = .ok (.getfield 93, 3) := dk_180 0 93 (dk_at dksX0_isCell_0 6 rfl rfl)
theorem dX0_isCell_9 : decode cX0_isCell 9 = .ok (.iconst 1, 1) := dk_4 (dk_at dksX0_isCell_0 9 rfl rfl)
theorem dX0_isCell_10 : decode cX0_isCell 10 = .ok (.isub, 1) := dk_100 (dk_at dksX0_isCell_0 10 rfl rfl)
theorem dX0_isCell_11 : decode cX0_isCell 11 = .ok (.invokestatic 79, 3) := dk_184 0 79 (dk_at dksX0_isCell_0 11 rfl rfl)
theorem dX0_isCell_14 : decode cX0_isCell 14 = .ok (.ireturn, 1) := dk_172 (dk_at dksX0_isCell_0 14 rfl rfl)
abbrev cX0_cellRow : ByteArray := prog_1_method_15_code
def yX0_cellRow : MethodName := ⟨RX0, "cellRow", "(I)[I"⟩
def dkwX0_cellRow_1 : List UInt8 := [180, 0, 105, 167, 0, 10, 42, 180, 0, 46, 180, 0, 108, 176]
abbrev dktX0_cellRow_1 : List UInt8 := dkwX0_cellRow_1 ++ []
def dkwX0_cellRow_0 : List UInt8 := [27, 154, 0, 13, 42, 180, 0, 46, 180, 0, 102, 167, 0, 25, 27, 4, 160, 0, 13, 42, 180, 0, 46]
abbrev dktX0_cellRow_0 : List UInt8 := dkwX0_cellRow_0 ++ dktX0_cellRow_1
theorem dksX0_cellRow_0 : cX0_cellRow.data.toList.drop 0 = dktX0_cellRow_0 := by decide +kernel
theorem dksX0_cellRow_1 : cX0_cellRow.data.toList.drop 23 = dktX0_cellRow_1 := dk_seg dksX0_cellRow_0 23 rfl rfl
theorem dX0_cellRow_0 : decode cX0_cellRow 0 = .ok (.iload_n 1, 1) := dk_27 (dk_at dksX0_cellRow_0 0 rfl rfl)
theorem dX0_cellRow_1 : decode cX0_cellRow 1 = .ok (.ifCond .ne 13, 3) := dk_154 0 13 (dk_at dksX0_cellRow_0 1 rfl rfl)
theorem dX0_cellRow_4 : decode cX0_cellRow 4 = .ok (.aload_n 0, 1) := dk_42 (dk_at dksX0_cellRow_0 4 rfl rfl)
theorem dX0_cellRow_5 : decode cX0_cellRow 5 = .ok (.getfield 46, 3) := dk_180 0 46 (dk_at dksX0_cellRow_0 5 rfl rfl)
theorem dX0_cellRow_8 : decode cX0_cellRow 8 = .ok (.getfield 102, 3) := dk_180 0 102 (dk_at dksX0_cellRow_0 8 rfl rfl)
theorem dX0_cellRow_11 : decode cX0_cellRow 11 = .ok (.goto 25, 3) := dk_167 0 25 (dk_at dksX0_cellRow_0 11 rfl rfl)
theorem dX0_cellRow_14 : decode cX0_cellRow 14 = .ok (.iload_n 1, 1) := dk_27 (dk_at dksX0_cellRow_0 14 rfl rfl)
theorem dX0_cellRow_15 : decode cX0_cellRow 15 = .ok (.iconst 1, 1) := dk_4 (dk_at dksX0_cellRow_0 15 rfl rfl)
theorem dX0_cellRow_16 : decode cX0_cellRow 16 = .ok (.if_icmp .ne 13, 3) := dk_160 0 13 (dk_at dksX0_cellRow_0 16 rfl rfl)
theorem dX0_cellRow_19 : decode cX0_cellRow 19 = .ok (.aload_n 0, 1) := dk_42 (dk_at dksX0_cellRow_0 19 rfl rfl)
theorem dX0_cellRow_20 : decode cX0_cellRow 20 = .ok (.getfield 46, 3) := dk_180 0 46 (dk_at dksX0_cellRow_0 20 rfl rfl)
theorem dX0_cellRow_23 : decode cX0_cellRow 23 = .ok (.getfield 105, 3) := dk_180 0 105 (dk_at dksX0_cellRow_1 0 rfl rfl)
theorem dX0_cellRow_26 : decode cX0_cellRow 26 = .ok (.goto 10, 3) := dk_167 0 10 (dk_at dksX0_cellRow_1 3 rfl rfl)
theorem dX0_cellRow_29 : decode cX0_cellRow 29 = .ok (.aload_n 0, 1) := dk_42 (dk_at dksX0_cellRow_1 6 rfl rfl)
theorem dX0_cellRow_30 : decode cX0_cellRow 30 = .ok (.getfield 46, 3) := dk_180 0 46 (dk_at dksX0_cellRow_1 7 rfl rfl)
theorem dX0_cellRow_33 : decode cX0_cellRow 33 = .ok (.getfield 108, 3) := dk_180 0 108 (dk_at dksX0_cellRow_1 10 rfl rfl)
theorem dX0_cellRow_36 : decode cX0_cellRow 36 = .ok (.areturn, 1) := dk_176 (dk_at dksX0_cellRow_1 13 rfl rfl)
abbrev cX0_ofCell : ByteArray := prog_1_method_17_code
def yX0_ofCell : MethodName := ⟨RX0, "ofCell", "(II)I"⟩
def dkwX0_ofCell_4 : List UInt8 := [172]
abbrev dktX0_ofCell_4 : List UInt8 := dkwX0_ofCell_4 ++ []
def dkwX0_ofCell_3 : List UInt8 := [180, 0, 127, 182, 0, 130, 167, 0, 11, 42, 180, 0, 46, 27, 182, 0, 134, 172, 78, 42, 45, 182, 0, 111]
abbrev dktX0_ofCell_3 : List UInt8 := dkwX0_ofCell_3 ++ dktX0_ofCell_4
def dkwX0_ofCell_2 : List UInt8 := [180, 0, 46, 27, 182, 0, 123, 167, 0, 34, 28, 7, 160, 0, 21, 42, 180, 0, 46, 27, 42, 180, 0, 46]
abbrev dktX0_ofCell_2 : List UInt8 := dkwX0_ofCell_2 ++ dktX0_ofCell_3
def dkwX0_ofCell_1 : List UInt8 := [182, 0, 87, 28, 6, 162, 0, 11, 42, 28, 182, 0, 119, 27, 46, 172, 28, 6, 160, 0, 14, 42]
abbrev dktX0_ofCell_1 : List UInt8 := dkwX0_ofCell_1 ++ dktX0_ofCell_2
def dkwX0_ofCell_0 : List UInt8 := [42, 42, 27, 182, 0, 115, 153, 0, 16, 28, 3, 8, 184, 0, 79, 153, 0, 7, 4, 167, 0, 4, 3, 4]
abbrev dktX0_ofCell_0 : List UInt8 := dkwX0_ofCell_0 ++ dktX0_ofCell_1
theorem dksX0_ofCell_0 : cX0_ofCell.data.toList.drop 0 = dktX0_ofCell_0 := by decide +kernel
theorem dksX0_ofCell_1 : cX0_ofCell.data.toList.drop 24 = dktX0_ofCell_1 := dk_seg dksX0_ofCell_0 24 rfl rfl
theorem dksX0_ofCell_2 : cX0_ofCell.data.toList.drop 46 = dktX0_ofCell_2 := dk_seg dksX0_ofCell_1 22 rfl rfl
theorem dksX0_ofCell_3 : cX0_ofCell.data.toList.drop 70 = dktX0_ofCell_3 := dk_seg dksX0_ofCell_2 24 rfl rfl
theorem dksX0_ofCell_4 : cX0_ofCell.data.toList.drop 94 = dktX0_ofCell_4 := dk_seg dksX0_ofCell_3 24 rfl rfl
theorem dX0_ofCell_0 : decode cX0_ofCell 0 = .ok (.aload_n 0, 1) := dk_42 (dk_at dksX0_ofCell_0 0 rfl rfl)
theorem dX0_ofCell_1 : decode cX0_ofCell 1 = .ok (.aload_n 0, 1) := dk_42 (dk_at dksX0_ofCell_0 1 rfl rfl)
theorem dX0_ofCell_2 : decode cX0_ofCell 2 = .ok (.iload_n 1, 1) := dk_27 (dk_at dksX0_ofCell_0 2 rfl rfl)
theorem dX0_ofCell_3 : decode cX0_ofCell 3 = .ok (.invokevirtual 115, 3) := dk_182 0 115 (dk_at dksX0_ofCell_0 3 rfl rfl)
theorem dX0_ofCell_6 : decode cX0_ofCell 6 = .ok (.ifCond .eq 16, 3) := dk_153 0 16 (dk_at dksX0_ofCell_0 6 rfl rfl)
theorem dX0_ofCell_9 : decode cX0_ofCell 9 = .ok (.iload_n 2, 1) := dk_28 (dk_at dksX0_ofCell_0 9 rfl rfl)
theorem dX0_ofCell_10 : decode cX0_ofCell 10 = .ok (.iconst 0, 1) := dk_3 (dk_at dksX0_ofCell_0 10 rfl rfl)
theorem dX0_ofCell_11 : decode cX0_ofCell 11 = .ok (.iconst 5, 1) := dk_8 (dk_at dksX0_ofCell_0 11 rfl rfl)
theorem dX0_ofCell_12 : decode cX0_ofCell 12 = .ok (.invokestatic 79, 3) := dk_184 0 79 (dk_at dksX0_ofCell_0 12 rfl rfl)
theorem dX0_ofCell_15 : decode cX0_ofCell 15 = .ok (.ifCond .eq 7, 3) := dk_153 0 7 (dk_at dksX0_ofCell_0 15 rfl rfl)
theorem dX0_ofCell_18 : decode cX0_ofCell 18 = .ok (.iconst 1, 1) := dk_4 (dk_at dksX0_ofCell_0 18 rfl rfl)
theorem dX0_ofCell_19 : decode cX0_ofCell 19 = .ok (.goto 4, 3) := dk_167 0 4 (dk_at dksX0_ofCell_0 19 rfl rfl)
theorem dX0_ofCell_22 : decode cX0_ofCell 22 = .ok (.iconst 0, 1) := dk_3 (dk_at dksX0_ofCell_0 22 rfl rfl)
theorem dX0_ofCell_23 : decode cX0_ofCell 23 = .ok (.iconst 1, 1) := dk_4 (dk_at dksX0_ofCell_0 23 rfl rfl)
theorem dX0_ofCell_24 : decode cX0_ofCell 24 = .ok (.invokevirtual 87, 3) := dk_182 0 87 (dk_at dksX0_ofCell_1 0 rfl rfl)
theorem dX0_ofCell_27 : decode cX0_ofCell 27 = .ok (.iload_n 2, 1) := dk_28 (dk_at dksX0_ofCell_1 3 rfl rfl)
theorem dX0_ofCell_28 : decode cX0_ofCell 28 = .ok (.iconst 3, 1) := dk_6 (dk_at dksX0_ofCell_1 4 rfl rfl)
theorem dX0_ofCell_29 : decode cX0_ofCell 29 = .ok (.if_icmp .ge 11, 3) := dk_162 0 11 (dk_at dksX0_ofCell_1 5 rfl rfl)
theorem dX0_ofCell_32 : decode cX0_ofCell 32 = .ok (.aload_n 0, 1) := dk_42 (dk_at dksX0_ofCell_1 8 rfl rfl)
theorem dX0_ofCell_33 : decode cX0_ofCell 33 = .ok (.iload_n 2, 1) := dk_28 (dk_at dksX0_ofCell_1 9 rfl rfl)
theorem dX0_ofCell_34 : decode cX0_ofCell 34 = .ok (.invokevirtual 119, 3) := dk_182 0 119 (dk_at dksX0_ofCell_1 10 rfl rfl)
theorem dX0_ofCell_37 : decode cX0_ofCell 37 = .ok (.iload_n 1, 1) := dk_27 (dk_at dksX0_ofCell_1 13 rfl rfl)
theorem dX0_ofCell_38 : decode cX0_ofCell 38 = .ok (.iaload, 1) := dk_46 (dk_at dksX0_ofCell_1 14 rfl rfl)
theorem dX0_ofCell_39 : decode cX0_ofCell 39 = .ok (.ireturn, 1) := dk_172 (dk_at dksX0_ofCell_1 15 rfl rfl)
theorem dX0_ofCell_40 : decode cX0_ofCell 40 = .ok (.iload_n 2, 1) := dk_28 (dk_at dksX0_ofCell_1 16 rfl rfl)
theorem dX0_ofCell_41 : decode cX0_ofCell 41 = .ok (.iconst 3, 1) := dk_6 (dk_at dksX0_ofCell_1 17 rfl rfl)
theorem dX0_ofCell_42 : decode cX0_ofCell 42 = .ok (.if_icmp .ne 14, 3) := dk_160 0 14 (dk_at dksX0_ofCell_1 18 rfl rfl)
theorem dX0_ofCell_45 : decode cX0_ofCell 45 = .ok (.aload_n 0, 1) := dk_42 (dk_at dksX0_ofCell_1 21 rfl rfl)
theorem dX0_ofCell_46 : decode cX0_ofCell 46 = .ok (.getfield 46, 3) := dk_180 0 46 (dk_at dksX0_ofCell_2 0 rfl rfl)
theorem dX0_ofCell_49 : decode cX0_ofCell 49 = .ok (.iload_n 1, 1) := dk_27 (dk_at dksX0_ofCell_2 3 rfl rfl)
theorem dX0_ofCell_50 : decode cX0_ofCell 50 = .ok (.invokevirtual 123, 3) := dk_182 0 123 (dk_at dksX0_ofCell_2 4 rfl rfl)
theorem dX0_ofCell_53 : decode cX0_ofCell 53 = .ok (.goto 34, 3) := dk_167 0 34 (dk_at dksX0_ofCell_2 7 rfl rfl)
theorem dX0_ofCell_56 : decode cX0_ofCell 56 = .ok (.iload_n 2, 1) := dk_28 (dk_at dksX0_ofCell_2 10 rfl rfl)
theorem dX0_ofCell_57 : decode cX0_ofCell 57 = .ok (.iconst 4, 1) := dk_7 (dk_at dksX0_ofCell_2 11 rfl rfl)
theorem dX0_ofCell_58 : decode cX0_ofCell 58 = .ok (.if_icmp .ne 21, 3) := dk_160 0 21 (dk_at dksX0_ofCell_2 12 rfl rfl)
theorem dX0_ofCell_61 : decode cX0_ofCell 61 = .ok (.aload_n 0, 1) := dk_42 (dk_at dksX0_ofCell_2 15 rfl rfl)
theorem dX0_ofCell_62 : decode cX0_ofCell 62 = .ok (.getfield 46, 3) := dk_180 0 46 (dk_at dksX0_ofCell_2 16 rfl rfl)
theorem dX0_ofCell_65 : decode cX0_ofCell 65 = .ok (.iload_n 1, 1) := dk_27 (dk_at dksX0_ofCell_2 19 rfl rfl)
theorem dX0_ofCell_66 : decode cX0_ofCell 66 = .ok (.aload_n 0, 1) := dk_42 (dk_at dksX0_ofCell_2 20 rfl rfl)
theorem dX0_ofCell_67 : decode cX0_ofCell 67 = .ok (.getfield 46, 3) := dk_180 0 46 (dk_at dksX0_ofCell_2 21 rfl rfl)
theorem dX0_ofCell_70 : decode cX0_ofCell 70 = .ok (.getfield 127, 3) := dk_180 0 127 (dk_at dksX0_ofCell_3 0 rfl rfl)
theorem dX0_ofCell_73 : decode cX0_ofCell 73 = .ok (.invokevirtual 130, 3) := dk_182 0 130 (dk_at dksX0_ofCell_3 3 rfl rfl)
theorem dX0_ofCell_76 : decode cX0_ofCell 76 = .ok (.goto 11, 3) := dk_167 0 11 (dk_at dksX0_ofCell_3 6 rfl rfl)
theorem dX0_ofCell_79 : decode cX0_ofCell 79 = .ok (.aload_n 0, 1) := dk_42 (dk_at dksX0_ofCell_3 9 rfl rfl)
theorem dX0_ofCell_80 : decode cX0_ofCell 80 = .ok (.getfield 46, 3) := dk_180 0 46 (dk_at dksX0_ofCell_3 10 rfl rfl)
theorem dX0_ofCell_83 : decode cX0_ofCell 83 = .ok (.iload_n 1, 1) := dk_27 (dk_at dksX0_ofCell_3 13 rfl rfl)
theorem dX0_ofCell_84 : decode cX0_ofCell 84 = .ok (.invokevirtual 134, 3) := dk_182 0 134 (dk_at dksX0_ofCell_3 14 rfl rfl)
theorem dX0_ofCell_87 : decode cX0_ofCell 87 = .ok (.ireturn, 1) := dk_172 (dk_at dksX0_ofCell_3 17 rfl rfl)
theorem dX0_ofCell_88 : decode cX0_ofCell 88 = .ok (.astore_n 3, 1) := dk_78 (dk_at dksX0_ofCell_3 18 rfl rfl)
theorem dX0_ofCell_89 : decode cX0_ofCell 89 = .ok (.aload_n 0, 1) := dk_42 (dk_at dksX0_ofCell_3 19 rfl rfl)
theorem dX0_ofCell_90 : decode cX0_ofCell 90 = .ok (.aload_n 3, 1) := dk_45 (dk_at dksX0_ofCell_3 20 rfl rfl)
theorem dX0_ofCell_91 : decode cX0_ofCell 91 = .ok (.invokevirtual 111, 3) := dk_182 0 111 (dk_at dksX0_ofCell_3 21 rfl rfl)
theorem dX0_ofCell_94 : decode cX0_ofCell 94 = .ok (.ireturn, 1) := dk_172 (dk_at dksX0_ofCell_4 0 rfl rfl)
abbrev cX0_hasBit : ByteArray := prog_1_method_2_code
def yX0_hasBit : MethodName := ⟨RX0, "hasBit", "(II)Z"⟩
def dkwX0_hasBit_0 : List UInt8 := [26, 27, 122, 4, 126, 4, 160, 0, 7, 4, 167, 0, 4, 3, 172]
abbrev dktX0_hasBit_0 : List UInt8 := dkwX0_hasBit_0 ++ []
theorem dksX0_hasBit_0 : cX0_hasBit.data.toList.drop 0 = dktX0_hasBit_0 := by decide +kernel
theorem dX0_hasBit_0 : decode cX0_hasBit 0 = .ok (.iload_n 0, 1) := dk_26 (dk_at dksX0_hasBit_0 0 rfl rfl)
theorem dX0_hasBit_1 : decode cX0_hasBit 1 = .ok (.iload_n 1, 1) := dk_27 (dk_at dksX0_hasBit_0 1 rfl rfl)
theorem dX0_hasBit_2 : decode cX0_hasBit 2 = .ok (.ishr, 1) := dk_122 (dk_at dksX0_hasBit_0 2 rfl rfl)
theorem dX0_hasBit_3 : decode cX0_hasBit 3 = .ok (.iconst 1, 1) := dk_4 (dk_at dksX0_hasBit_0 3 rfl rfl)
theorem dX0_hasBit_4 : decode cX0_hasBit 4 = .ok (.iand, 1) := dk_126 (dk_at dksX0_hasBit_0 4 rfl rfl)
theorem dX0_hasBit_5 : decode cX0_hasBit 5 = .ok (.iconst 1, 1) := dk_4 (dk_at dksX0_hasBit_0 5 rfl rfl)
theorem dX0_hasBit_6 : decode cX0_hasBit 6 = .ok (.if_icmp .ne 7, 3) := dk_160 0 7 (dk_at dksX0_hasBit_0 6 rfl rfl)
theorem dX0_hasBit_9 : decode cX0_hasBit 9 = .ok (.iconst 1, 1) := dk_4 (dk_at dksX0_hasBit_0 9 rfl rfl)
theorem dX0_hasBit_10 : decode cX0_hasBit 10 = .ok (.goto 4, 3) := dk_167 0 4 (dk_at dksX0_hasBit_0 10 rfl rfl)
theorem dX0_hasBit_13 : decode cX0_hasBit 13 = .ok (.iconst 0, 1) := dk_3 (dk_at dksX0_hasBit_0 13 rfl rfl)
theorem dX0_hasBit_14 : decode cX0_hasBit 14 = .ok (.ireturn, 1) := dk_172 (dk_at dksX0_hasBit_0 14 rfl rfl)
abbrev cX0_set : ByteArray := prog_1_method_19_code
def yX0_set : MethodName := ⟨RX0, "set", "(II)I"⟩
def dkwX0_set_6 : List UInt8 := [182, 0, 111, 172]
abbrev dktX0_set_6 : List UInt8 := dkwX0_set_6 ++ []
def dkwX0_set_5 : List UInt8 := [160, 0, 7, 28, 167, 0, 10, 42, 180, 0, 46, 180, 0, 99, 181, 0, 99, 29, 172, 78, 42, 45]
abbrev dktX0_set_5 : List UInt8 := dkwX0_set_5 ++ dktX0_set_6
def dkwX0_set_4 : List UInt8 := [160, 0, 7, 28, 167, 0, 10, 42, 180, 0, 46, 180, 0, 127, 181, 0, 127, 42, 180, 0, 46, 27, 5]
abbrev dktX0_set_4 : List UInt8 := dkwX0_set_4 ++ dktX0_set_5
def dkwX0_set_3 : List UInt8 := [154, 0, 7, 28, 167, 0, 10, 42, 180, 0, 46, 180, 0, 144, 181, 0, 144, 42, 180, 0, 46, 27, 4]
abbrev dktX0_set_3 : List UInt8 := dkwX0_set_3 ++ dktX0_set_4
def dkwX0_set_2 : List UInt8 := [180, 0, 46, 180, 0, 127, 167, 0, 10, 42, 180, 0, 46, 180, 0, 99, 62, 42, 180, 0, 46, 27]
abbrev dktX0_set_2 : List UInt8 := dkwX0_set_2 ++ dktX0_set_3
def dkwX0_set_1 : List UInt8 := [4, 182, 0, 87, 27, 154, 0, 13, 42, 180, 0, 46, 180, 0, 144, 167, 0, 25, 27, 4, 160, 0, 13, 42]
abbrev dktX0_set_1 : List UInt8 := dkwX0_set_1 ++ dktX0_set_2
def dkwX0_set_0 : List UInt8 := [42, 27, 3, 5, 184, 0, 79, 153, 0, 16, 42, 27, 28, 182, 0, 140, 153, 0, 7, 4, 167, 0, 4, 3]
abbrev dktX0_set_0 : List UInt8 := dkwX0_set_0 ++ dktX0_set_1
theorem dksX0_set_0 : cX0_set.data.toList.drop 0 = dktX0_set_0 := by decide +kernel
theorem dksX0_set_1 : cX0_set.data.toList.drop 24 = dktX0_set_1 := dk_seg dksX0_set_0 24 rfl rfl
theorem dksX0_set_2 : cX0_set.data.toList.drop 48 = dktX0_set_2 := dk_seg dksX0_set_1 24 rfl rfl
theorem dksX0_set_3 : cX0_set.data.toList.drop 70 = dktX0_set_3 := dk_seg dksX0_set_2 22 rfl rfl
theorem dksX0_set_4 : cX0_set.data.toList.drop 93 = dktX0_set_4 := dk_seg dksX0_set_3 23 rfl rfl
theorem dksX0_set_5 : cX0_set.data.toList.drop 116 = dktX0_set_5 := dk_seg dksX0_set_4 23 rfl rfl
theorem dksX0_set_6 : cX0_set.data.toList.drop 138 = dktX0_set_6 := dk_seg dksX0_set_5 22 rfl rfl
theorem dX0_set_0 : decode cX0_set 0 = .ok (.aload_n 0, 1) := dk_42 (dk_at dksX0_set_0 0 rfl rfl)
theorem dX0_set_1 : decode cX0_set 1 = .ok (.iload_n 1, 1) := dk_27 (dk_at dksX0_set_0 1 rfl rfl)
theorem dX0_set_2 : decode cX0_set 2 = .ok (.iconst 0, 1) := dk_3 (dk_at dksX0_set_0 2 rfl rfl)
theorem dX0_set_3 : decode cX0_set 3 = .ok (.iconst 2, 1) := dk_5 (dk_at dksX0_set_0 3 rfl rfl)
theorem dX0_set_4 : decode cX0_set 4 = .ok (.invokestatic 79, 3) := dk_184 0 79 (dk_at dksX0_set_0 4 rfl rfl)
theorem dX0_set_7 : decode cX0_set 7 = .ok (.ifCond .eq 16, 3) := dk_153 0 16 (dk_at dksX0_set_0 7 rfl rfl)
theorem dX0_set_10 : decode cX0_set 10 = .ok (.aload_n 0, 1) := dk_42 (dk_at dksX0_set_0 10 rfl rfl)
theorem dX0_set_11 : decode cX0_set 11 = .ok (.iload_n 1, 1) := dk_27 (dk_at dksX0_set_0 11 rfl rfl)
theorem dX0_set_12 : decode cX0_set 12 = .ok (.iload_n 2, 1) := dk_28 (dk_at dksX0_set_0 12 rfl rfl)
theorem dX0_set_13 : decode cX0_set 13 = .ok (.invokevirtual 140, 3) := dk_182 0 140 (dk_at dksX0_set_0 13 rfl rfl)
theorem dX0_set_16 : decode cX0_set 16 = .ok (.ifCond .eq 7, 3) := dk_153 0 7 (dk_at dksX0_set_0 16 rfl rfl)
theorem dX0_set_19 : decode cX0_set 19 = .ok (.iconst 1, 1) := dk_4 (dk_at dksX0_set_0 19 rfl rfl)
theorem dX0_set_20 : decode cX0_set 20 = .ok (.goto 4, 3) := dk_167 0 4 (dk_at dksX0_set_0 20 rfl rfl)
theorem dX0_set_23 : decode cX0_set 23 = .ok (.iconst 0, 1) := dk_3 (dk_at dksX0_set_0 23 rfl rfl)
theorem dX0_set_24 : decode cX0_set 24 = .ok (.iconst 1, 1) := dk_4 (dk_at dksX0_set_1 0 rfl rfl)
theorem dX0_set_25 : decode cX0_set 25 = .ok (.invokevirtual 87, 3) := dk_182 0 87 (dk_at dksX0_set_1 1 rfl rfl)
theorem dX0_set_28 : decode cX0_set 28 = .ok (.iload_n 1, 1) := dk_27 (dk_at dksX0_set_1 4 rfl rfl)
theorem dX0_set_29 : decode cX0_set 29 = .ok (.ifCond .ne 13, 3) := dk_154 0 13 (dk_at dksX0_set_1 5 rfl rfl)
theorem dX0_set_32 : decode cX0_set 32 = .ok (.aload_n 0, 1) := dk_42 (dk_at dksX0_set_1 8 rfl rfl)
theorem dX0_set_33 : decode cX0_set 33 = .ok (.getfield 46, 3) := dk_180 0 46 (dk_at dksX0_set_1 9 rfl rfl)
theorem dX0_set_36 : decode cX0_set 36 = .ok (.getfield 144, 3) := dk_180 0 144 (dk_at dksX0_set_1 12 rfl rfl)
theorem dX0_set_39 : decode cX0_set 39 = .ok (.goto 25, 3) := dk_167 0 25 (dk_at dksX0_set_1 15 rfl rfl)
theorem dX0_set_42 : decode cX0_set 42 = .ok (.iload_n 1, 1) := dk_27 (dk_at dksX0_set_1 18 rfl rfl)
theorem dX0_set_43 : decode cX0_set 43 = .ok (.iconst 1, 1) := dk_4 (dk_at dksX0_set_1 19 rfl rfl)
theorem dX0_set_44 : decode cX0_set 44 = .ok (.if_icmp .ne 13, 3) := dk_160 0 13 (dk_at dksX0_set_1 20 rfl rfl)
theorem dX0_set_47 : decode cX0_set 47 = .ok (.aload_n 0, 1) := dk_42 (dk_at dksX0_set_1 23 rfl rfl)
theorem dX0_set_48 : decode cX0_set 48 = .ok (.getfield 46, 3) := dk_180 0 46 (dk_at dksX0_set_2 0 rfl rfl)
theorem dX0_set_51 : decode cX0_set 51 = .ok (.getfield 127, 3) := dk_180 0 127 (dk_at dksX0_set_2 3 rfl rfl)
theorem dX0_set_54 : decode cX0_set 54 = .ok (.goto 10, 3) := dk_167 0 10 (dk_at dksX0_set_2 6 rfl rfl)
theorem dX0_set_57 : decode cX0_set 57 = .ok (.aload_n 0, 1) := dk_42 (dk_at dksX0_set_2 9 rfl rfl)
theorem dX0_set_58 : decode cX0_set 58 = .ok (.getfield 46, 3) := dk_180 0 46 (dk_at dksX0_set_2 10 rfl rfl)
theorem dX0_set_61 : decode cX0_set 61 = .ok (.getfield 99, 3) := dk_180 0 99 (dk_at dksX0_set_2 13 rfl rfl)
theorem dX0_set_64 : decode cX0_set 64 = .ok (.istore_n 3, 1) := dk_62 (dk_at dksX0_set_2 16 rfl rfl)
theorem dX0_set_65 : decode cX0_set 65 = .ok (.aload_n 0, 1) := dk_42 (dk_at dksX0_set_2 17 rfl rfl)
theorem dX0_set_66 : decode cX0_set 66 = .ok (.getfield 46, 3) := dk_180 0 46 (dk_at dksX0_set_2 18 rfl rfl)
theorem dX0_set_69 : decode cX0_set 69 = .ok (.iload_n 1, 1) := dk_27 (dk_at dksX0_set_2 21 rfl rfl)
theorem dX0_set_70 : decode cX0_set 70 = .ok (.ifCond .ne 7, 3) := dk_154 0 7 (dk_at dksX0_set_3 0 rfl rfl)
theorem dX0_set_73 : decode cX0_set 73 = .ok (.iload_n 2, 1) := dk_28 (dk_at dksX0_set_3 3 rfl rfl)
theorem dX0_set_74 : decode cX0_set 74 = .ok (.goto 10, 3) := dk_167 0 10 (dk_at dksX0_set_3 4 rfl rfl)
theorem dX0_set_77 : decode cX0_set 77 = .ok (.aload_n 0, 1) := dk_42 (dk_at dksX0_set_3 7 rfl rfl)
theorem dX0_set_78 : decode cX0_set 78 = .ok (.getfield 46, 3) := dk_180 0 46 (dk_at dksX0_set_3 8 rfl rfl)
theorem dX0_set_81 : decode cX0_set 81 = .ok (.getfield 144, 3) := dk_180 0 144 (dk_at dksX0_set_3 11 rfl rfl)
theorem dX0_set_84 : decode cX0_set 84 = .ok (.putfield 144, 3) := dk_181 0 144 (dk_at dksX0_set_3 14 rfl rfl)
theorem dX0_set_87 : decode cX0_set 87 = .ok (.aload_n 0, 1) := dk_42 (dk_at dksX0_set_3 17 rfl rfl)
theorem dX0_set_88 : decode cX0_set 88 = .ok (.getfield 46, 3) := dk_180 0 46 (dk_at dksX0_set_3 18 rfl rfl)
theorem dX0_set_91 : decode cX0_set 91 = .ok (.iload_n 1, 1) := dk_27 (dk_at dksX0_set_3 21 rfl rfl)
theorem dX0_set_92 : decode cX0_set 92 = .ok (.iconst 1, 1) := dk_4 (dk_at dksX0_set_3 22 rfl rfl)
theorem dX0_set_93 : decode cX0_set 93 = .ok (.if_icmp .ne 7, 3) := dk_160 0 7 (dk_at dksX0_set_4 0 rfl rfl)
theorem dX0_set_96 : decode cX0_set 96 = .ok (.iload_n 2, 1) := dk_28 (dk_at dksX0_set_4 3 rfl rfl)
theorem dX0_set_97 : decode cX0_set 97 = .ok (.goto 10, 3) := dk_167 0 10 (dk_at dksX0_set_4 4 rfl rfl)
theorem dX0_set_100 : decode cX0_set 100 = .ok (.aload_n 0, 1) := dk_42 (dk_at dksX0_set_4 7 rfl rfl)
theorem dX0_set_101 : decode cX0_set 101 = .ok (.getfield 46, 3) := dk_180 0 46 (dk_at dksX0_set_4 8 rfl rfl)
theorem dX0_set_104 : decode cX0_set 104 = .ok (.getfield 127, 3) := dk_180 0 127 (dk_at dksX0_set_4 11 rfl rfl)
theorem dX0_set_107 : decode cX0_set 107 = .ok (.putfield 127, 3) := dk_181 0 127 (dk_at dksX0_set_4 14 rfl rfl)
theorem dX0_set_110 : decode cX0_set 110 = .ok (.aload_n 0, 1) := dk_42 (dk_at dksX0_set_4 17 rfl rfl)
theorem dX0_set_111 : decode cX0_set 111 = .ok (.getfield 46, 3) := dk_180 0 46 (dk_at dksX0_set_4 18 rfl rfl)
theorem dX0_set_114 : decode cX0_set 114 = .ok (.iload_n 1, 1) := dk_27 (dk_at dksX0_set_4 21 rfl rfl)
theorem dX0_set_115 : decode cX0_set 115 = .ok (.iconst 2, 1) := dk_5 (dk_at dksX0_set_4 22 rfl rfl)
theorem dX0_set_116 : decode cX0_set 116 = .ok (.if_icmp .ne 7, 3) := dk_160 0 7 (dk_at dksX0_set_5 0 rfl rfl)
theorem dX0_set_119 : decode cX0_set 119 = .ok (.iload_n 2, 1) := dk_28 (dk_at dksX0_set_5 3 rfl rfl)
theorem dX0_set_120 : decode cX0_set 120 = .ok (.goto 10, 3) := dk_167 0 10 (dk_at dksX0_set_5 4 rfl rfl)
theorem dX0_set_123 : decode cX0_set 123 = .ok (.aload_n 0, 1) := dk_42 (dk_at dksX0_set_5 7 rfl rfl)
theorem dX0_set_124 : decode cX0_set 124 = .ok (.getfield 46, 3) := dk_180 0 46 (dk_at dksX0_set_5 8 rfl rfl)
theorem dX0_set_127 : decode cX0_set 127 = .ok (.getfield 99, 3) := dk_180 0 99 (dk_at dksX0_set_5 11 rfl rfl)
theorem dX0_set_130 : decode cX0_set 130 = .ok (.putfield 99, 3) := dk_181 0 99 (dk_at dksX0_set_5 14 rfl rfl)
theorem dX0_set_133 : decode cX0_set 133 = .ok (.iload_n 3, 1) := dk_29 (dk_at dksX0_set_5 17 rfl rfl)
theorem dX0_set_134 : decode cX0_set 134 = .ok (.ireturn, 1) := dk_172 (dk_at dksX0_set_5 18 rfl rfl)
theorem dX0_set_135 : decode cX0_set 135 = .ok (.astore_n 3, 1) := dk_78 (dk_at dksX0_set_5 19 rfl rfl)
theorem dX0_set_136 : decode cX0_set 136 = .ok (.aload_n 0, 1) := dk_42 (dk_at dksX0_set_5 20 rfl rfl)
theorem dX0_set_137 : decode cX0_set 137 = .ok (.aload_n 3, 1) := dk_45 (dk_at dksX0_set_5 21 rfl rfl)
theorem dX0_set_138 : decode cX0_set 138 = .ok (.invokevirtual 111, 3) := dk_182 0 111 (dk_at dksX0_set_6 0 rfl rfl)
theorem dX0_set_141 : decode cX0_set 141 = .ok (.ireturn, 1) := dk_172 (dk_at dksX0_set_6 3 rfl rfl)
abbrev cX0_isOfBay : ByteArray := prog_1_method_18_code
def yX0_isOfBay : MethodName := ⟨RX0, "isOfBay", "(II)Z"⟩
def dkwX0_isOfBay_1 : List UInt8 := [167, 0, 5, 16, 99, 184, 0, 79, 172]
abbrev dktX0_isOfBay_1 : List UInt8 := dkwX0_isOfBay_1 ++ []
def dkwX0_isOfBay_0 : List UInt8 := [27, 5, 160, 0, 11, 42, 28, 182, 0, 137, 167, 0, 20, 28, 3, 27, 154, 0, 9, 17, 3, 231]
abbrev dktX0_isOfBay_0 : List UInt8 := dkwX0_isOfBay_0 ++ dktX0_isOfBay_1
theorem dksX0_isOfBay_0 : cX0_isOfBay.data.toList.drop 0 = dktX0_isOfBay_0 := by decide +kernel
theorem dksX0_isOfBay_1 : cX0_isOfBay.data.toList.drop 22 = dktX0_isOfBay_1 := dk_seg dksX0_isOfBay_0 22 rfl rfl
theorem dX0_isOfBay_0 : decode cX0_isOfBay 0 = .ok (.iload_n 1, 1) := dk_27 (dk_at dksX0_isOfBay_0 0 rfl rfl)
theorem dX0_isOfBay_1 : decode cX0_isOfBay 1 = .ok (.iconst 2, 1) := dk_5 (dk_at dksX0_isOfBay_0 1 rfl rfl)
theorem dX0_isOfBay_2 : decode cX0_isOfBay 2 = .ok (.if_icmp .ne 11, 3) := dk_160 0 11 (dk_at dksX0_isOfBay_0 2 rfl rfl)
theorem dX0_isOfBay_5 : decode cX0_isOfBay 5 = .ok (.aload_n 0, 1) := dk_42 (dk_at dksX0_isOfBay_0 5 rfl rfl)
theorem dX0_isOfBay_6 : decode cX0_isOfBay 6 = .ok (.iload_n 2, 1) := dk_28 (dk_at dksX0_isOfBay_0 6 rfl rfl)
theorem dX0_isOfBay_7 : decode cX0_isOfBay 7 = .ok (.invokevirtual 137, 3) := dk_182 0 137 (dk_at dksX0_isOfBay_0 7 rfl rfl)
theorem dX0_isOfBay_10 : decode cX0_isOfBay 10 = .ok (.goto 20, 3) := dk_167 0 20 (dk_at dksX0_isOfBay_0 10 rfl rfl)
theorem dX0_isOfBay_13 : decode cX0_isOfBay 13 = .ok (.iload_n 2, 1) := dk_28 (dk_at dksX0_isOfBay_0 13 rfl rfl)
theorem dX0_isOfBay_14 : decode cX0_isOfBay 14 = .ok (.iconst 0, 1) := dk_3 (dk_at dksX0_isOfBay_0 14 rfl rfl)
theorem dX0_isOfBay_15 : decode cX0_isOfBay 15 = .ok (.iload_n 1, 1) := dk_27 (dk_at dksX0_isOfBay_0 15 rfl rfl)
theorem dX0_isOfBay_16 : decode cX0_isOfBay 16 = .ok (.ifCond .ne 9, 3) := dk_154 0 9 (dk_at dksX0_isOfBay_0 16 rfl rfl)
theorem dX0_isOfBay_19 : decode cX0_isOfBay 19 = .ok (.sipush 999, 3) := dk_17 3 231 (dk_at dksX0_isOfBay_0 19 rfl rfl)
theorem dX0_isOfBay_22 : decode cX0_isOfBay 22 = .ok (.goto 5, 3) := dk_167 0 5 (dk_at dksX0_isOfBay_1 0 rfl rfl)
theorem dX0_isOfBay_25 : decode cX0_isOfBay 25 = .ok (.bipush 99, 2) := dk_16 99 (dk_at dksX0_isOfBay_1 3 rfl rfl)
theorem dX0_isOfBay_27 : decode cX0_isOfBay 27 = .ok (.invokestatic 79, 3) := dk_184 0 79 (dk_at dksX0_isOfBay_1 5 rfl rfl)
theorem dX0_isOfBay_30 : decode cX0_isOfBay 30 = .ok (.ireturn, 1) := dk_172 (dk_at dksX0_isOfBay_1 8 rfl rfl)
abbrev cX0_areCells : ByteArray := prog_1_method_13_code
def yX0_areCells : MethodName := ⟨RX0, "areCells", "(I)Z"⟩
def dkwX0_areCells_0 : List UInt8 := [27, 3, 4, 42, 180, 0, 46, 180, 0, 93, 120, 4, 100, 184, 0, 79, 172]
abbrev dktX0_areCells_0 : List UInt8 := dkwX0_areCells_0 ++ []
theorem dksX0_areCells_0 : cX0_areCells.data.toList.drop 0 = dktX0_areCells_0 := by decide +kernel
theorem dX0_areCells_0 : decode cX0_areCells 0 = .ok (.iload_n 1, 1) := dk_27 (dk_at dksX0_areCells_0 0 rfl rfl)
theorem dX0_areCells_1 : decode cX0_areCells 1 = .ok (.iconst 0, 1) := dk_3 (dk_at dksX0_areCells_0 1 rfl rfl)
theorem dX0_areCells_2 : decode cX0_areCells 2 = .ok (.iconst 1, 1) := dk_4 (dk_at dksX0_areCells_0 2 rfl rfl)
theorem dX0_areCells_3 : decode cX0_areCells 3 = .ok (.aload_n 0, 1) := dk_42 (dk_at dksX0_areCells_0 3 rfl rfl)
theorem dX0_areCells_4 : decode cX0_areCells 4 = .ok (.getfield 46, 3) := dk_180 0 46 (dk_at dksX0_areCells_0 4 rfl rfl)
theorem dX0_areCells_7 : decode cX0_areCells 7 = .ok (.getfield 93, 3) := dk_180 0 93 (dk_at dksX0_areCells_0 7 rfl rfl)
theorem dX0_areCells_10 : decode cX0_areCells 10 = .ok (.ishl, 1) := dk_120 (dk_at dksX0_areCells_0 10 rfl rfl)
theorem dX0_areCells_11 : decode cX0_areCells 11 = .ok (.iconst 1, 1) := dk_4 (dk_at dksX0_areCells_0 11 rfl rfl)
theorem dX0_areCells_12 : decode cX0_areCells 12 = .ok (.isub, 1) := dk_100 (dk_at dksX0_areCells_0 12 rfl rfl)
theorem dX0_areCells_13 : decode cX0_areCells 13 = .ok (.invokestatic 79, 3) := dk_184 0 79 (dk_at dksX0_areCells_0 13 rfl rfl)
theorem dX0_areCells_16 : decode cX0_areCells 16 = .ok (.ireturn, 1) := dk_172 (dk_at dksX0_areCells_0 16 rfl rfl)
abbrev cX0_ship : ByteArray := prog_1_method_20_code
def yX0_ship : MethodName := ⟨RX0, "ship", "(III)I"⟩
def dkwX0_ship_6 : List UInt8 := [181, 0, 96, 21, 4, 172, 58, 4, 42, 25, 4, 182, 0, 111, 172]
abbrev dktX0_ship_6 : List UInt8 := dkwX0_ship_6 ++ []
def dkwX0_ship_5 : List UInt8 := [29, 79, 42, 180, 0, 46, 180, 0, 161, 21, 4, 3, 79, 42, 180, 0, 46, 89, 180, 0, 96, 4, 96]
abbrev dktX0_ship_5 : List UInt8 := dkwX0_ship_5 ++ dktX0_ship_6
def dkwX0_ship_4 : List UInt8 := [184, 0, 151, 83, 42, 180, 0, 46, 180, 0, 155, 21, 4, 28, 79, 42, 180, 0, 46, 180, 0, 158, 21, 4]
abbrev dktX0_ship_4 : List UInt8 := dkwX0_ship_4 ++ dktX0_ship_5
def dkwX0_ship_3 : List UInt8 := [180, 0, 46, 180, 0, 147, 21, 4, 27, 16, 10, 108, 42, 180, 0, 59, 21, 4, 27, 16, 10, 112]
abbrev dktX0_ship_3 : List UInt8 := dkwX0_ship_3 ++ dktX0_ship_4
def dkwX0_ship_2 : List UInt8 := [16, 7, 162, 0, 7, 4, 167, 0, 4, 3, 7, 182, 0, 87, 42, 180, 0, 46, 180, 0, 96, 54, 4, 42]
abbrev dktX0_ship_2 : List UInt8 := dkwX0_ship_2 ++ dktX0_ship_3
def dkwX0_ship_1 : List UInt8 := [182, 0, 115, 153, 0, 7, 4, 167, 0, 4, 3, 4, 182, 0, 87, 42, 42, 180, 0, 46, 180, 0, 96]
abbrev dktX0_ship_1 : List UInt8 := dkwX0_ship_1 ++ dktX0_ship_2
def dkwX0_ship_0 : List UInt8 := [42, 27, 3, 16, 69, 184, 0, 79, 153, 0, 25, 28, 3, 16, 9, 184, 0, 79, 153, 0, 15, 42, 29]
abbrev dktX0_ship_0 : List UInt8 := dkwX0_ship_0 ++ dktX0_ship_1
theorem dksX0_ship_0 : cX0_ship.data.toList.drop 0 = dktX0_ship_0 := by decide +kernel
theorem dksX0_ship_1 : cX0_ship.data.toList.drop 23 = dktX0_ship_1 := dk_seg dksX0_ship_0 23 rfl rfl
theorem dksX0_ship_2 : cX0_ship.data.toList.drop 46 = dktX0_ship_2 := dk_seg dksX0_ship_1 23 rfl rfl
theorem dksX0_ship_3 : cX0_ship.data.toList.drop 70 = dktX0_ship_3 := dk_seg dksX0_ship_2 24 rfl rfl
theorem dksX0_ship_4 : cX0_ship.data.toList.drop 92 = dktX0_ship_4 := dk_seg dksX0_ship_3 22 rfl rfl
theorem dksX0_ship_5 : cX0_ship.data.toList.drop 116 = dktX0_ship_5 := dk_seg dksX0_ship_4 24 rfl rfl
theorem dksX0_ship_6 : cX0_ship.data.toList.drop 139 = dktX0_ship_6 := dk_seg dksX0_ship_5 23 rfl rfl
theorem dX0_ship_0 : decode cX0_ship 0 = .ok (.aload_n 0, 1) := dk_42 (dk_at dksX0_ship_0 0 rfl rfl)
theorem dX0_ship_1 : decode cX0_ship 1 = .ok (.iload_n 1, 1) := dk_27 (dk_at dksX0_ship_0 1 rfl rfl)
theorem dX0_ship_2 : decode cX0_ship 2 = .ok (.iconst 0, 1) := dk_3 (dk_at dksX0_ship_0 2 rfl rfl)
theorem dX0_ship_3 : decode cX0_ship 3 = .ok (.bipush 69, 2) := dk_16 69 (dk_at dksX0_ship_0 3 rfl rfl)
theorem dX0_ship_5 : decode cX0_ship 5 = .ok (.invokestatic 79, 3) := dk_184 0 79 (dk_at dksX0_ship_0 5 rfl rfl)
theorem dX0_ship_8 : decode cX0_ship 8 = .ok (.ifCond .eq 25, 3) := dk_153 0 25 (dk_at dksX0_ship_0 8 rfl rfl)
theorem dX0_ship_11 : decode cX0_ship 11 = .ok (.iload_n 2, 1) := dk_28 (dk_at dksX0_ship_0 11 rfl rfl)
theorem dX0_ship_12 : decode cX0_ship 12 = .ok (.iconst 0, 1) := dk_3 (dk_at dksX0_ship_0 12 rfl rfl)
theorem dX0_ship_13 : decode cX0_ship 13 = .ok (.bipush 9, 2) := dk_16 9 (dk_at dksX0_ship_0 13 rfl rfl)
theorem dX0_ship_15 : decode cX0_ship 15 = .ok (.invokestatic 79, 3) := dk_184 0 79 (dk_at dksX0_ship_0 15 rfl rfl)
theorem dX0_ship_18 : decode cX0_ship 18 = .ok (.ifCond .eq 15, 3) := dk_153 0 15 (dk_at dksX0_ship_0 18 rfl rfl)
theorem dX0_ship_21 : decode cX0_ship 21 = .ok (.aload_n 0, 1) := dk_42 (dk_at dksX0_ship_0 21 rfl rfl)
theorem dX0_ship_22 : decode cX0_ship 22 = .ok (.iload_n 3, 1) := dk_29 (dk_at dksX0_ship_0 22 rfl rfl)
theorem dX0_ship_23 : decode cX0_ship 23 = .ok (.invokevirtual 115, 3) := dk_182 0 115 (dk_at dksX0_ship_1 0 rfl rfl)
theorem dX0_ship_26 : decode cX0_ship 26 = .ok (.ifCond .eq 7, 3) := dk_153 0 7 (dk_at dksX0_ship_1 3 rfl rfl)
theorem dX0_ship_29 : decode cX0_ship 29 = .ok (.iconst 1, 1) := dk_4 (dk_at dksX0_ship_1 6 rfl rfl)
theorem dX0_ship_30 : decode cX0_ship 30 = .ok (.goto 4, 3) := dk_167 0 4 (dk_at dksX0_ship_1 7 rfl rfl)
theorem dX0_ship_33 : decode cX0_ship 33 = .ok (.iconst 0, 1) := dk_3 (dk_at dksX0_ship_1 10 rfl rfl)
theorem dX0_ship_34 : decode cX0_ship 34 = .ok (.iconst 1, 1) := dk_4 (dk_at dksX0_ship_1 11 rfl rfl)
theorem dX0_ship_35 : decode cX0_ship 35 = .ok (.invokevirtual 87, 3) := dk_182 0 87 (dk_at dksX0_ship_1 12 rfl rfl)
theorem dX0_ship_38 : decode cX0_ship 38 = .ok (.aload_n 0, 1) := dk_42 (dk_at dksX0_ship_1 15 rfl rfl)
theorem dX0_ship_39 : decode cX0_ship 39 = .ok (.aload_n 0, 1) := dk_42 (dk_at dksX0_ship_1 16 rfl rfl)
theorem dX0_ship_40 : decode cX0_ship 40 = .ok (.getfield 46, 3) := dk_180 0 46 (dk_at dksX0_ship_1 17 rfl rfl)
theorem dX0_ship_43 : decode cX0_ship 43 = .ok (.getfield 96, 3) := dk_180 0 96 (dk_at dksX0_ship_1 20 rfl rfl)
theorem dX0_ship_46 : decode cX0_ship 46 = .ok (.bipush 7, 2) := dk_16 7 (dk_at dksX0_ship_2 0 rfl rfl)
theorem dX0_ship_48 : decode cX0_ship 48 = .ok (.if_icmp .ge 7, 3) := dk_162 0 7 (dk_at dksX0_ship_2 2 rfl rfl)
theorem dX0_ship_51 : decode cX0_ship 51 = .ok (.iconst 1, 1) := dk_4 (dk_at dksX0_ship_2 5 rfl rfl)
theorem dX0_ship_52 : decode cX0_ship 52 = .ok (.goto 4, 3) := dk_167 0 4 (dk_at dksX0_ship_2 6 rfl rfl)
theorem dX0_ship_55 : decode cX0_ship 55 = .ok (.iconst 0, 1) := dk_3 (dk_at dksX0_ship_2 9 rfl rfl)
theorem dX0_ship_56 : decode cX0_ship 56 = .ok (.iconst 4, 1) := dk_7 (dk_at dksX0_ship_2 10 rfl rfl)
theorem dX0_ship_57 : decode cX0_ship 57 = .ok (.invokevirtual 87, 3) := dk_182 0 87 (dk_at dksX0_ship_2 11 rfl rfl)
theorem dX0_ship_60 : decode cX0_ship 60 = .ok (.aload_n 0, 1) := dk_42 (dk_at dksX0_ship_2 14 rfl rfl)
theorem dX0_ship_61 : decode cX0_ship 61 = .ok (.getfield 46, 3) := dk_180 0 46 (dk_at dksX0_ship_2 15 rfl rfl)
theorem dX0_ship_64 : decode cX0_ship 64 = .ok (.getfield 96, 3) := dk_180 0 96 (dk_at dksX0_ship_2 18 rfl rfl)
theorem dX0_ship_67 : decode cX0_ship 67 = .ok (.istore 4, 2) := dk_54 4 (dk_at dksX0_ship_2 21 rfl rfl)
theorem dX0_ship_69 : decode cX0_ship 69 = .ok (.aload_n 0, 1) := dk_42 (dk_at dksX0_ship_2 23 rfl rfl)
theorem dX0_ship_70 : decode cX0_ship 70 = .ok (.getfield 46, 3) := dk_180 0 46 (dk_at dksX0_ship_3 0 rfl rfl)
theorem dX0_ship_73 : decode cX0_ship 73 = .ok (.getfield 147, 3) := dk_180 0 147 (dk_at dksX0_ship_3 3 rfl rfl)
theorem dX0_ship_76 : decode cX0_ship 76 = .ok (.iload 4, 2) := dk_21 4 (dk_at dksX0_ship_3 6 rfl rfl)
theorem dX0_ship_78 : decode cX0_ship 78 = .ok (.iload_n 1, 1) := dk_27 (dk_at dksX0_ship_3 8 rfl rfl)
theorem dX0_ship_79 : decode cX0_ship 79 = .ok (.bipush 10, 2) := dk_16 10 (dk_at dksX0_ship_3 9 rfl rfl)
theorem dX0_ship_81 : decode cX0_ship 81 = .ok (.idiv, 1) := dk_108 (dk_at dksX0_ship_3 11 rfl rfl)
theorem dX0_ship_82 : decode cX0_ship 82 = .ok (.aload_n 0, 1) := dk_42 (dk_at dksX0_ship_3 12 rfl rfl)
theorem dX0_ship_83 : decode cX0_ship 83 = .ok (.getfield 59, 3) := dk_180 0 59 (dk_at dksX0_ship_3 13 rfl rfl)
theorem dX0_ship_86 : decode cX0_ship 86 = .ok (.iload 4, 2) := dk_21 4 (dk_at dksX0_ship_3 16 rfl rfl)
theorem dX0_ship_88 : decode cX0_ship 88 = .ok (.iload_n 1, 1) := dk_27 (dk_at dksX0_ship_3 18 rfl rfl)
theorem dX0_ship_89 : decode cX0_ship 89 = .ok (.bipush 10, 2) := dk_16 10 (dk_at dksX0_ship_3 19 rfl rfl)
theorem dX0_ship_91 : decode cX0_ship 91 = .ok (.irem, 1) := dk_112 (dk_at dksX0_ship_3 21 rfl rfl)
theorem dX0_ship_92 : decode cX0_ship 92 = .ok (.invokestatic 151, 3) := dk_184 0 151 (dk_at dksX0_ship_4 0 rfl rfl)
theorem dX0_ship_95 : decode cX0_ship 95 = .ok (.aastore, 1) := dk_83 (dk_at dksX0_ship_4 3 rfl rfl)
theorem dX0_ship_96 : decode cX0_ship 96 = .ok (.aload_n 0, 1) := dk_42 (dk_at dksX0_ship_4 4 rfl rfl)
theorem dX0_ship_97 : decode cX0_ship 97 = .ok (.getfield 46, 3) := dk_180 0 46 (dk_at dksX0_ship_4 5 rfl rfl)
theorem dX0_ship_100 : decode cX0_ship 100 = .ok (.getfield 155, 3) := dk_180 0 155 (dk_at dksX0_ship_4 8 rfl rfl)
theorem dX0_ship_103 : decode cX0_ship 103 = .ok (.iload 4, 2) := dk_21 4 (dk_at dksX0_ship_4 11 rfl rfl)
theorem dX0_ship_105 : decode cX0_ship 105 = .ok (.iload_n 2, 1) := dk_28 (dk_at dksX0_ship_4 13 rfl rfl)
theorem dX0_ship_106 : decode cX0_ship 106 = .ok (.iastore, 1) := dk_79 (dk_at dksX0_ship_4 14 rfl rfl)
theorem dX0_ship_107 : decode cX0_ship 107 = .ok (.aload_n 0, 1) := dk_42 (dk_at dksX0_ship_4 15 rfl rfl)
theorem dX0_ship_108 : decode cX0_ship 108 = .ok (.getfield 46, 3) := dk_180 0 46 (dk_at dksX0_ship_4 16 rfl rfl)
theorem dX0_ship_111 : decode cX0_ship 111 = .ok (.getfield 158, 3) := dk_180 0 158 (dk_at dksX0_ship_4 19 rfl rfl)
theorem dX0_ship_114 : decode cX0_ship 114 = .ok (.iload 4, 2) := dk_21 4 (dk_at dksX0_ship_4 22 rfl rfl)
theorem dX0_ship_116 : decode cX0_ship 116 = .ok (.iload_n 3, 1) := dk_29 (dk_at dksX0_ship_5 0 rfl rfl)
theorem dX0_ship_117 : decode cX0_ship 117 = .ok (.iastore, 1) := dk_79 (dk_at dksX0_ship_5 1 rfl rfl)
theorem dX0_ship_118 : decode cX0_ship 118 = .ok (.aload_n 0, 1) := dk_42 (dk_at dksX0_ship_5 2 rfl rfl)
theorem dX0_ship_119 : decode cX0_ship 119 = .ok (.getfield 46, 3) := dk_180 0 46 (dk_at dksX0_ship_5 3 rfl rfl)
theorem dX0_ship_122 : decode cX0_ship 122 = .ok (.getfield 161, 3) := dk_180 0 161 (dk_at dksX0_ship_5 6 rfl rfl)
theorem dX0_ship_125 : decode cX0_ship 125 = .ok (.iload 4, 2) := dk_21 4 (dk_at dksX0_ship_5 9 rfl rfl)
theorem dX0_ship_127 : decode cX0_ship 127 = .ok (.iconst 0, 1) := dk_3 (dk_at dksX0_ship_5 11 rfl rfl)
theorem dX0_ship_128 : decode cX0_ship 128 = .ok (.iastore, 1) := dk_79 (dk_at dksX0_ship_5 12 rfl rfl)
theorem dX0_ship_129 : decode cX0_ship 129 = .ok (.aload_n 0, 1) := dk_42 (dk_at dksX0_ship_5 13 rfl rfl)
theorem dX0_ship_130 : decode cX0_ship 130 = .ok (.getfield 46, 3) := dk_180 0 46 (dk_at dksX0_ship_5 14 rfl rfl)
theorem dX0_ship_133 : decode cX0_ship 133 = .ok (.dup, 1) := dk_89 (dk_at dksX0_ship_5 17 rfl rfl)
theorem dX0_ship_134 : decode cX0_ship 134 = .ok (.getfield 96, 3) := dk_180 0 96 (dk_at dksX0_ship_5 18 rfl rfl)
theorem dX0_ship_137 : decode cX0_ship 137 = .ok (.iconst 1, 1) := dk_4 (dk_at dksX0_ship_5 21 rfl rfl)
theorem dX0_ship_138 : decode cX0_ship 138 = .ok (.iadd, 1) := dk_96 (dk_at dksX0_ship_5 22 rfl rfl)
theorem dX0_ship_139 : decode cX0_ship 139 = .ok (.putfield 96, 3) := dk_181 0 96 (dk_at dksX0_ship_6 0 rfl rfl)
theorem dX0_ship_142 : decode cX0_ship 142 = .ok (.iload 4, 2) := dk_21 4 (dk_at dksX0_ship_6 3 rfl rfl)
theorem dX0_ship_144 : decode cX0_ship 144 = .ok (.ireturn, 1) := dk_172 (dk_at dksX0_ship_6 5 rfl rfl)
theorem dX0_ship_145 : decode cX0_ship 145 = .ok (.astore 4, 2) := dk_58 4 (dk_at dksX0_ship_6 6 rfl rfl)
theorem dX0_ship_147 : decode cX0_ship 147 = .ok (.aload_n 0, 1) := dk_42 (dk_at dksX0_ship_6 8 rfl rfl)
theorem dX0_ship_148 : decode cX0_ship 148 = .ok (.aload 4, 2) := dk_25 4 (dk_at dksX0_ship_6 9 rfl rfl)
theorem dX0_ship_150 : decode cX0_ship 150 = .ok (.invokevirtual 111, 3) := dk_182 0 111 (dk_at dksX0_ship_6 11 rfl rfl)
theorem dX0_ship_153 : decode cX0_ship 153 = .ok (.ireturn, 1) := dk_172 (dk_at dksX0_ship_6 14 rfl rfl)
abbrev cX0_shipOf : ByteArray := prog_1_method_4_code
def yX0_shipOf : MethodName := ⟨RX0, "shipOf", "(ILOldLight$Trace;II)LOldLight$Ship;"⟩
def dkwX0_shipOf_5 : List UInt8 := [187, 0, 34, 89, 43, 28, 29, 183, 0, 36, 176]
abbrev dktX0_shipOf_5 : List UInt8 := dkwX0_shipOf_5 ++ []
def dkwX0_shipOf_4 : List UInt8 := [187, 0, 28, 89, 43, 28, 29, 183, 0, 30, 176, 187, 0, 31, 89, 43, 28, 29, 183, 0, 33, 176]
abbrev dktX0_shipOf_4 : List UInt8 := dkwX0_shipOf_4 ++ dktX0_shipOf_5
def dkwX0_shipOf_3 : List UInt8 := [187, 0, 22, 89, 43, 28, 29, 183, 0, 24, 176, 187, 0, 25, 89, 43, 28, 29, 183, 0, 27, 176]
abbrev dktX0_shipOf_3 : List UInt8 := dkwX0_shipOf_3 ++ dktX0_shipOf_4
def dkwX0_shipOf_2 : List UInt8 := [187, 0, 13, 89, 43, 28, 29, 183, 0, 15, 176, 187, 0, 19, 89, 43, 28, 29, 183, 0, 21, 176]
abbrev dktX0_shipOf_2 : List UInt8 := dkwX0_shipOf_2 ++ dktX0_shipOf_3
def dkwX0_shipOf_1 : List UInt8 := [170, 0, 0, 0, 0, 0, 105, 0, 0, 0, 1, 0, 0, 0, 6, 0, 0, 0, 39, 0, 0, 0, 50, 0, 0, 0, 61, 0, 0, 0, 72, 0, 0, 0, 83, 0, 0, 0, 94]
abbrev dktX0_shipOf_1 : List UInt8 := dkwX0_shipOf_1 ++ dktX0_shipOf_2
def dkwX0_shipOf_0 : List UInt8 := [26]
abbrev dktX0_shipOf_0 : List UInt8 := dkwX0_shipOf_0 ++ dktX0_shipOf_1
theorem dksX0_shipOf_0 : cX0_shipOf.data.toList.drop 0 = dktX0_shipOf_0 := by decide +kernel
theorem dksX0_shipOf_1 : cX0_shipOf.data.toList.drop 1 = dktX0_shipOf_1 := dk_seg dksX0_shipOf_0 1 rfl rfl
theorem dksX0_shipOf_2 : cX0_shipOf.data.toList.drop 40 = dktX0_shipOf_2 := dk_seg dksX0_shipOf_1 39 rfl rfl
theorem dksX0_shipOf_3 : cX0_shipOf.data.toList.drop 62 = dktX0_shipOf_3 := dk_seg dksX0_shipOf_2 22 rfl rfl
theorem dksX0_shipOf_4 : cX0_shipOf.data.toList.drop 84 = dktX0_shipOf_4 := dk_seg dksX0_shipOf_3 22 rfl rfl
theorem dksX0_shipOf_5 : cX0_shipOf.data.toList.drop 106 = dktX0_shipOf_5 := dk_seg dksX0_shipOf_4 22 rfl rfl
theorem dX0_shipOf_0 : decode cX0_shipOf 0 = .ok (.iload_n 0, 1) := dk_26 (dk_at dksX0_shipOf_0 0 rfl rfl)
theorem dX0_shipOf_1 : decode cX0_shipOf 1 = .ok (.tableswitch 105 1 6 #[39, 50, 61, 72, 83, 94], 39) := by decide +kernel
theorem dX0_shipOf_40 : decode cX0_shipOf 40 = .ok (.new 13, 3) := dk_187 0 13 (dk_at dksX0_shipOf_2 0 rfl rfl)
theorem dX0_shipOf_43 : decode cX0_shipOf 43 = .ok (.dup, 1) := dk_89 (dk_at dksX0_shipOf_2 3 rfl rfl)
theorem dX0_shipOf_44 : decode cX0_shipOf 44 = .ok (.aload_n 1, 1) := dk_43 (dk_at dksX0_shipOf_2 4 rfl rfl)
theorem dX0_shipOf_45 : decode cX0_shipOf 45 = .ok (.iload_n 2, 1) := dk_28 (dk_at dksX0_shipOf_2 5 rfl rfl)
theorem dX0_shipOf_46 : decode cX0_shipOf 46 = .ok (.iload_n 3, 1) := dk_29 (dk_at dksX0_shipOf_2 6 rfl rfl)
theorem dX0_shipOf_47 : decode cX0_shipOf 47 = .ok (.invokespecial 15, 3) := dk_183 0 15 (dk_at dksX0_shipOf_2 7 rfl rfl)
theorem dX0_shipOf_50 : decode cX0_shipOf 50 = .ok (.areturn, 1) := dk_176 (dk_at dksX0_shipOf_2 10 rfl rfl)
theorem dX0_shipOf_51 : decode cX0_shipOf 51 = .ok (.new 19, 3) := dk_187 0 19 (dk_at dksX0_shipOf_2 11 rfl rfl)
theorem dX0_shipOf_54 : decode cX0_shipOf 54 = .ok (.dup, 1) := dk_89 (dk_at dksX0_shipOf_2 14 rfl rfl)
theorem dX0_shipOf_55 : decode cX0_shipOf 55 = .ok (.aload_n 1, 1) := dk_43 (dk_at dksX0_shipOf_2 15 rfl rfl)
theorem dX0_shipOf_56 : decode cX0_shipOf 56 = .ok (.iload_n 2, 1) := dk_28 (dk_at dksX0_shipOf_2 16 rfl rfl)
theorem dX0_shipOf_57 : decode cX0_shipOf 57 = .ok (.iload_n 3, 1) := dk_29 (dk_at dksX0_shipOf_2 17 rfl rfl)
theorem dX0_shipOf_58 : decode cX0_shipOf 58 = .ok (.invokespecial 21, 3) := dk_183 0 21 (dk_at dksX0_shipOf_2 18 rfl rfl)
theorem dX0_shipOf_61 : decode cX0_shipOf 61 = .ok (.areturn, 1) := dk_176 (dk_at dksX0_shipOf_2 21 rfl rfl)
theorem dX0_shipOf_62 : decode cX0_shipOf 62 = .ok (.new 22, 3) := dk_187 0 22 (dk_at dksX0_shipOf_3 0 rfl rfl)
theorem dX0_shipOf_65 : decode cX0_shipOf 65 = .ok (.dup, 1) := dk_89 (dk_at dksX0_shipOf_3 3 rfl rfl)
theorem dX0_shipOf_66 : decode cX0_shipOf 66 = .ok (.aload_n 1, 1) := dk_43 (dk_at dksX0_shipOf_3 4 rfl rfl)
theorem dX0_shipOf_67 : decode cX0_shipOf 67 = .ok (.iload_n 2, 1) := dk_28 (dk_at dksX0_shipOf_3 5 rfl rfl)
theorem dX0_shipOf_68 : decode cX0_shipOf 68 = .ok (.iload_n 3, 1) := dk_29 (dk_at dksX0_shipOf_3 6 rfl rfl)
theorem dX0_shipOf_69 : decode cX0_shipOf 69 = .ok (.invokespecial 24, 3) := dk_183 0 24 (dk_at dksX0_shipOf_3 7 rfl rfl)
theorem dX0_shipOf_72 : decode cX0_shipOf 72 = .ok (.areturn, 1) := dk_176 (dk_at dksX0_shipOf_3 10 rfl rfl)
theorem dX0_shipOf_73 : decode cX0_shipOf 73 = .ok (.new 25, 3) := dk_187 0 25 (dk_at dksX0_shipOf_3 11 rfl rfl)
theorem dX0_shipOf_76 : decode cX0_shipOf 76 = .ok (.dup, 1) := dk_89 (dk_at dksX0_shipOf_3 14 rfl rfl)
theorem dX0_shipOf_77 : decode cX0_shipOf 77 = .ok (.aload_n 1, 1) := dk_43 (dk_at dksX0_shipOf_3 15 rfl rfl)
theorem dX0_shipOf_78 : decode cX0_shipOf 78 = .ok (.iload_n 2, 1) := dk_28 (dk_at dksX0_shipOf_3 16 rfl rfl)
theorem dX0_shipOf_79 : decode cX0_shipOf 79 = .ok (.iload_n 3, 1) := dk_29 (dk_at dksX0_shipOf_3 17 rfl rfl)
theorem dX0_shipOf_80 : decode cX0_shipOf 80 = .ok (.invokespecial 27, 3) := dk_183 0 27 (dk_at dksX0_shipOf_3 18 rfl rfl)
theorem dX0_shipOf_83 : decode cX0_shipOf 83 = .ok (.areturn, 1) := dk_176 (dk_at dksX0_shipOf_3 21 rfl rfl)
theorem dX0_shipOf_84 : decode cX0_shipOf 84 = .ok (.new 28, 3) := dk_187 0 28 (dk_at dksX0_shipOf_4 0 rfl rfl)
theorem dX0_shipOf_87 : decode cX0_shipOf 87 = .ok (.dup, 1) := dk_89 (dk_at dksX0_shipOf_4 3 rfl rfl)
theorem dX0_shipOf_88 : decode cX0_shipOf 88 = .ok (.aload_n 1, 1) := dk_43 (dk_at dksX0_shipOf_4 4 rfl rfl)
theorem dX0_shipOf_89 : decode cX0_shipOf 89 = .ok (.iload_n 2, 1) := dk_28 (dk_at dksX0_shipOf_4 5 rfl rfl)
theorem dX0_shipOf_90 : decode cX0_shipOf 90 = .ok (.iload_n 3, 1) := dk_29 (dk_at dksX0_shipOf_4 6 rfl rfl)
theorem dX0_shipOf_91 : decode cX0_shipOf 91 = .ok (.invokespecial 30, 3) := dk_183 0 30 (dk_at dksX0_shipOf_4 7 rfl rfl)
theorem dX0_shipOf_94 : decode cX0_shipOf 94 = .ok (.areturn, 1) := dk_176 (dk_at dksX0_shipOf_4 10 rfl rfl)
theorem dX0_shipOf_95 : decode cX0_shipOf 95 = .ok (.new 31, 3) := dk_187 0 31 (dk_at dksX0_shipOf_4 11 rfl rfl)
theorem dX0_shipOf_98 : decode cX0_shipOf 98 = .ok (.dup, 1) := dk_89 (dk_at dksX0_shipOf_4 14 rfl rfl)
theorem dX0_shipOf_99 : decode cX0_shipOf 99 = .ok (.aload_n 1, 1) := dk_43 (dk_at dksX0_shipOf_4 15 rfl rfl)
theorem dX0_shipOf_100 : decode cX0_shipOf 100 = .ok (.iload_n 2, 1) := dk_28 (dk_at dksX0_shipOf_4 16 rfl rfl)
theorem dX0_shipOf_101 : decode cX0_shipOf 101 = .ok (.iload_n 3, 1) := dk_29 (dk_at dksX0_shipOf_4 17 rfl rfl)
theorem dX0_shipOf_102 : decode cX0_shipOf 102 = .ok (.invokespecial 33, 3) := dk_183 0 33 (dk_at dksX0_shipOf_4 18 rfl rfl)
theorem dX0_shipOf_105 : decode cX0_shipOf 105 = .ok (.areturn, 1) := dk_176 (dk_at dksX0_shipOf_4 21 rfl rfl)
theorem dX0_shipOf_106 : decode cX0_shipOf 106 = .ok (.new 34, 3) := dk_187 0 34 (dk_at dksX0_shipOf_5 0 rfl rfl)
theorem dX0_shipOf_109 : decode cX0_shipOf 109 = .ok (.dup, 1) := dk_89 (dk_at dksX0_shipOf_5 3 rfl rfl)
theorem dX0_shipOf_110 : decode cX0_shipOf 110 = .ok (.aload_n 1, 1) := dk_43 (dk_at dksX0_shipOf_5 4 rfl rfl)
theorem dX0_shipOf_111 : decode cX0_shipOf 111 = .ok (.iload_n 2, 1) := dk_28 (dk_at dksX0_shipOf_5 5 rfl rfl)
theorem dX0_shipOf_112 : decode cX0_shipOf 112 = .ok (.iload_n 3, 1) := dk_29 (dk_at dksX0_shipOf_5 6 rfl rfl)
theorem dX0_shipOf_113 : decode cX0_shipOf 113 = .ok (.invokespecial 36, 3) := dk_183 0 36 (dk_at dksX0_shipOf_5 7 rfl rfl)
theorem dX0_shipOf_116 : decode cX0_shipOf 116 = .ok (.areturn, 1) := dk_176 (dk_at dksX0_shipOf_5 10 rfl rfl)
abbrev cX0_ofShip : ByteArray := prog_1_method_22_code
def yX0_ofShip : MethodName := ⟨RX0, "ofShip", "(II)I"⟩
def dkwX0_ofShip_4 : List UInt8 := [45, 182, 0, 111, 172]
abbrev dktX0_ofShip_4 : List UInt8 := dkwX0_ofShip_4 ++ []
def dkwX0_ofShip_3 : List UInt8 := [180, 0, 158, 27, 46, 172, 42, 180, 0, 46, 180, 0, 161, 27, 46, 172, 42, 27, 182, 0, 179, 172, 78, 42]
abbrev dktX0_ofShip_3 : List UInt8 := dkwX0_ofShip_3 ++ dktX0_ofShip_4
def dkwX0_ofShip_2 : List UInt8 := [45, 182, 0, 172, 172, 45, 180, 0, 176, 172, 42, 180, 0, 46, 180, 0, 155, 27, 46, 172, 42, 180, 0, 46]
abbrev dktX0_ofShip_2 : List UInt8 := dkwX0_ofShip_2 ++ dktX0_ofShip_3
def dkwX0_ofShip_1 : List UInt8 := [170, 0, 0, 0, 0, 0, 75, 0, 0, 0, 0, 0, 0, 0, 4, 0, 0, 0, 35, 0, 0, 0, 40, 0, 0, 0, 45, 0, 0, 0, 55, 0, 0, 0, 65]
abbrev dktX0_ofShip_1 : List UInt8 := dkwX0_ofShip_1 ++ dktX0_ofShip_2
def dkwX0_ofShip_0 : List UInt8 := [42, 27, 28, 3, 8, 184, 0, 79, 182, 0, 168, 78, 28]
abbrev dktX0_ofShip_0 : List UInt8 := dkwX0_ofShip_0 ++ dktX0_ofShip_1
theorem dksX0_ofShip_0 : cX0_ofShip.data.toList.drop 0 = dktX0_ofShip_0 := by decide +kernel
theorem dksX0_ofShip_1 : cX0_ofShip.data.toList.drop 13 = dktX0_ofShip_1 := dk_seg dksX0_ofShip_0 13 rfl rfl
theorem dksX0_ofShip_2 : cX0_ofShip.data.toList.drop 48 = dktX0_ofShip_2 := dk_seg dksX0_ofShip_1 35 rfl rfl
theorem dksX0_ofShip_3 : cX0_ofShip.data.toList.drop 72 = dktX0_ofShip_3 := dk_seg dksX0_ofShip_2 24 rfl rfl
theorem dksX0_ofShip_4 : cX0_ofShip.data.toList.drop 96 = dktX0_ofShip_4 := dk_seg dksX0_ofShip_3 24 rfl rfl
theorem dX0_ofShip_0 : decode cX0_ofShip 0 = .ok (.aload_n 0, 1) := dk_42 (dk_at dksX0_ofShip_0 0 rfl rfl)
theorem dX0_ofShip_1 : decode cX0_ofShip 1 = .ok (.iload_n 1, 1) := dk_27 (dk_at dksX0_ofShip_0 1 rfl rfl)
theorem dX0_ofShip_2 : decode cX0_ofShip 2 = .ok (.iload_n 2, 1) := dk_28 (dk_at dksX0_ofShip_0 2 rfl rfl)
theorem dX0_ofShip_3 : decode cX0_ofShip 3 = .ok (.iconst 0, 1) := dk_3 (dk_at dksX0_ofShip_0 3 rfl rfl)
theorem dX0_ofShip_4 : decode cX0_ofShip 4 = .ok (.iconst 5, 1) := dk_8 (dk_at dksX0_ofShip_0 4 rfl rfl)
theorem dX0_ofShip_5 : decode cX0_ofShip 5 = .ok (.invokestatic 79, 3) := dk_184 0 79 (dk_at dksX0_ofShip_0 5 rfl rfl)
theorem dX0_ofShip_8 : decode cX0_ofShip 8 = .ok (.invokevirtual 168, 3) := dk_182 0 168 (dk_at dksX0_ofShip_0 8 rfl rfl)
theorem dX0_ofShip_11 : decode cX0_ofShip 11 = .ok (.astore_n 3, 1) := dk_78 (dk_at dksX0_ofShip_0 11 rfl rfl)
theorem dX0_ofShip_12 : decode cX0_ofShip 12 = .ok (.iload_n 2, 1) := dk_28 (dk_at dksX0_ofShip_0 12 rfl rfl)
theorem dX0_ofShip_13 : decode cX0_ofShip 13 = .ok (.tableswitch 75 0 4 #[35, 40, 45, 55, 65], 35) := by decide +kernel
theorem dX0_ofShip_48 : decode cX0_ofShip 48 = .ok (.aload_n 3, 1) := dk_45 (dk_at dksX0_ofShip_2 0 rfl rfl)
theorem dX0_ofShip_49 : decode cX0_ofShip 49 = .ok (.invokevirtual 172, 3) := dk_182 0 172 (dk_at dksX0_ofShip_2 1 rfl rfl)
theorem dX0_ofShip_52 : decode cX0_ofShip 52 = .ok (.ireturn, 1) := dk_172 (dk_at dksX0_ofShip_2 4 rfl rfl)
theorem dX0_ofShip_53 : decode cX0_ofShip 53 = .ok (.aload_n 3, 1) := dk_45 (dk_at dksX0_ofShip_2 5 rfl rfl)
theorem dX0_ofShip_54 : decode cX0_ofShip 54 = .ok (.getfield 176, 3) := dk_180 0 176 (dk_at dksX0_ofShip_2 6 rfl rfl)
theorem dX0_ofShip_57 : decode cX0_ofShip 57 = .ok (.ireturn, 1) := dk_172 (dk_at dksX0_ofShip_2 9 rfl rfl)
theorem dX0_ofShip_58 : decode cX0_ofShip 58 = .ok (.aload_n 0, 1) := dk_42 (dk_at dksX0_ofShip_2 10 rfl rfl)
theorem dX0_ofShip_59 : decode cX0_ofShip 59 = .ok (.getfield 46, 3) := dk_180 0 46 (dk_at dksX0_ofShip_2 11 rfl rfl)
theorem dX0_ofShip_62 : decode cX0_ofShip 62 = .ok (.getfield 155, 3) := dk_180 0 155 (dk_at dksX0_ofShip_2 14 rfl rfl)
theorem dX0_ofShip_65 : decode cX0_ofShip 65 = .ok (.iload_n 1, 1) := dk_27 (dk_at dksX0_ofShip_2 17 rfl rfl)
theorem dX0_ofShip_66 : decode cX0_ofShip 66 = .ok (.iaload, 1) := dk_46 (dk_at dksX0_ofShip_2 18 rfl rfl)
theorem dX0_ofShip_67 : decode cX0_ofShip 67 = .ok (.ireturn, 1) := dk_172 (dk_at dksX0_ofShip_2 19 rfl rfl)
theorem dX0_ofShip_68 : decode cX0_ofShip 68 = .ok (.aload_n 0, 1) := dk_42 (dk_at dksX0_ofShip_2 20 rfl rfl)
theorem dX0_ofShip_69 : decode cX0_ofShip 69 = .ok (.getfield 46, 3) := dk_180 0 46 (dk_at dksX0_ofShip_2 21 rfl rfl)
theorem dX0_ofShip_72 : decode cX0_ofShip 72 = .ok (.getfield 158, 3) := dk_180 0 158 (dk_at dksX0_ofShip_3 0 rfl rfl)
theorem dX0_ofShip_75 : decode cX0_ofShip 75 = .ok (.iload_n 1, 1) := dk_27 (dk_at dksX0_ofShip_3 3 rfl rfl)
theorem dX0_ofShip_76 : decode cX0_ofShip 76 = .ok (.iaload, 1) := dk_46 (dk_at dksX0_ofShip_3 4 rfl rfl)
theorem dX0_ofShip_77 : decode cX0_ofShip 77 = .ok (.ireturn, 1) := dk_172 (dk_at dksX0_ofShip_3 5 rfl rfl)
theorem dX0_ofShip_78 : decode cX0_ofShip 78 = .ok (.aload_n 0, 1) := dk_42 (dk_at dksX0_ofShip_3 6 rfl rfl)
theorem dX0_ofShip_79 : decode cX0_ofShip 79 = .ok (.getfield 46, 3) := dk_180 0 46 (dk_at dksX0_ofShip_3 7 rfl rfl)
theorem dX0_ofShip_82 : decode cX0_ofShip 82 = .ok (.getfield 161, 3) := dk_180 0 161 (dk_at dksX0_ofShip_3 10 rfl rfl)
theorem dX0_ofShip_85 : decode cX0_ofShip 85 = .ok (.iload_n 1, 1) := dk_27 (dk_at dksX0_ofShip_3 13 rfl rfl)
theorem dX0_ofShip_86 : decode cX0_ofShip 86 = .ok (.iaload, 1) := dk_46 (dk_at dksX0_ofShip_3 14 rfl rfl)
theorem dX0_ofShip_87 : decode cX0_ofShip 87 = .ok (.ireturn, 1) := dk_172 (dk_at dksX0_ofShip_3 15 rfl rfl)
theorem dX0_ofShip_88 : decode cX0_ofShip 88 = .ok (.aload_n 0, 1) := dk_42 (dk_at dksX0_ofShip_3 16 rfl rfl)
theorem dX0_ofShip_89 : decode cX0_ofShip 89 = .ok (.iload_n 1, 1) := dk_27 (dk_at dksX0_ofShip_3 17 rfl rfl)
theorem dX0_ofShip_90 : decode cX0_ofShip 90 = .ok (.invokevirtual 179, 3) := dk_182 0 179 (dk_at dksX0_ofShip_3 18 rfl rfl)
theorem dX0_ofShip_93 : decode cX0_ofShip 93 = .ok (.ireturn, 1) := dk_172 (dk_at dksX0_ofShip_3 21 rfl rfl)
theorem dX0_ofShip_94 : decode cX0_ofShip 94 = .ok (.astore_n 3, 1) := dk_78 (dk_at dksX0_ofShip_3 22 rfl rfl)
theorem dX0_ofShip_95 : decode cX0_ofShip 95 = .ok (.aload_n 0, 1) := dk_42 (dk_at dksX0_ofShip_3 23 rfl rfl)
theorem dX0_ofShip_96 : decode cX0_ofShip 96 = .ok (.aload_n 3, 1) := dk_45 (dk_at dksX0_ofShip_4 0 rfl rfl)
theorem dX0_ofShip_97 : decode cX0_ofShip 97 = .ok (.invokevirtual 111, 3) := dk_182 0 111 (dk_at dksX0_ofShip_4 1 rfl rfl)
theorem dX0_ofShip_100 : decode cX0_ofShip 100 = .ok (.ireturn, 1) := dk_172 (dk_at dksX0_ofShip_4 4 rfl rfl)
abbrev cX0_shipAt : ByteArray := prog_1_method_25_code
def yX0_shipAt : MethodName := ⟨RX0, "shipAt", "(IZ)LOldLight$Ship;"⟩
def dkwX0_shipAt_1 : List UInt8 := [180, 0, 46, 180, 0, 147, 27, 50, 176]
abbrev dktX0_shipAt_1 : List UInt8 := dkwX0_shipAt_1 ++ []
def dkwX0_shipAt_0 : List UInt8 := [42, 42, 27, 182, 0, 182, 153, 0, 11, 28, 153, 0, 7, 4, 167, 0, 4, 3, 4, 182, 0, 87, 42]
abbrev dktX0_shipAt_0 : List UInt8 := dkwX0_shipAt_0 ++ dktX0_shipAt_1
theorem dksX0_shipAt_0 : cX0_shipAt.data.toList.drop 0 = dktX0_shipAt_0 := by decide +kernel
theorem dksX0_shipAt_1 : cX0_shipAt.data.toList.drop 23 = dktX0_shipAt_1 := dk_seg dksX0_shipAt_0 23 rfl rfl
theorem dX0_shipAt_0 : decode cX0_shipAt 0 = .ok (.aload_n 0, 1) := dk_42 (dk_at dksX0_shipAt_0 0 rfl rfl)
theorem dX0_shipAt_1 : decode cX0_shipAt 1 = .ok (.aload_n 0, 1) := dk_42 (dk_at dksX0_shipAt_0 1 rfl rfl)
theorem dX0_shipAt_2 : decode cX0_shipAt 2 = .ok (.iload_n 1, 1) := dk_27 (dk_at dksX0_shipAt_0 2 rfl rfl)
theorem dX0_shipAt_3 : decode cX0_shipAt 3 = .ok (.invokevirtual 182, 3) := dk_182 0 182 (dk_at dksX0_shipAt_0 3 rfl rfl)
theorem dX0_shipAt_6 : decode cX0_shipAt 6 = .ok (.ifCond .eq 11, 3) := dk_153 0 11 (dk_at dksX0_shipAt_0 6 rfl rfl)
theorem dX0_shipAt_9 : decode cX0_shipAt 9 = .ok (.iload_n 2, 1) := dk_28 (dk_at dksX0_shipAt_0 9 rfl rfl)
theorem dX0_shipAt_10 : decode cX0_shipAt 10 = .ok (.ifCond .eq 7, 3) := dk_153 0 7 (dk_at dksX0_shipAt_0 10 rfl rfl)
theorem dX0_shipAt_13 : decode cX0_shipAt 13 = .ok (.iconst 1, 1) := dk_4 (dk_at dksX0_shipAt_0 13 rfl rfl)
theorem dX0_shipAt_14 : decode cX0_shipAt 14 = .ok (.goto 4, 3) := dk_167 0 4 (dk_at dksX0_shipAt_0 14 rfl rfl)
theorem dX0_shipAt_17 : decode cX0_shipAt 17 = .ok (.iconst 0, 1) := dk_3 (dk_at dksX0_shipAt_0 17 rfl rfl)
theorem dX0_shipAt_18 : decode cX0_shipAt 18 = .ok (.iconst 1, 1) := dk_4 (dk_at dksX0_shipAt_0 18 rfl rfl)
theorem dX0_shipAt_19 : decode cX0_shipAt 19 = .ok (.invokevirtual 87, 3) := dk_182 0 87 (dk_at dksX0_shipAt_0 19 rfl rfl)
theorem dX0_shipAt_22 : decode cX0_shipAt 22 = .ok (.aload_n 0, 1) := dk_42 (dk_at dksX0_shipAt_0 22 rfl rfl)
theorem dX0_shipAt_23 : decode cX0_shipAt 23 = .ok (.getfield 46, 3) := dk_180 0 46 (dk_at dksX0_shipAt_1 0 rfl rfl)
theorem dX0_shipAt_26 : decode cX0_shipAt 26 = .ok (.getfield 147, 3) := dk_180 0 147 (dk_at dksX0_shipAt_1 3 rfl rfl)
theorem dX0_shipAt_29 : decode cX0_shipAt 29 = .ok (.iload_n 1, 1) := dk_27 (dk_at dksX0_shipAt_1 6 rfl rfl)
theorem dX0_shipAt_30 : decode cX0_shipAt 30 = .ok (.aaload, 1) := dk_50 (dk_at dksX0_shipAt_1 7 rfl rfl)
theorem dX0_shipAt_31 : decode cX0_shipAt 31 = .ok (.areturn, 1) := dk_176 (dk_at dksX0_shipAt_1 8 rfl rfl)
abbrev cX0_isShip : ByteArray := prog_1_method_12_code
def yX0_isShip : MethodName := ⟨RX0, "isShip", "(I)Z"⟩
def dkwX0_isShip_0 : List UInt8 := [27, 3, 42, 180, 0, 46, 180, 0, 96, 4, 100, 184, 0, 79, 172]
abbrev dktX0_isShip_0 : List UInt8 := dkwX0_isShip_0 ++ []
theorem dksX0_isShip_0 : cX0_isShip.data.toList.drop 0 = dktX0_isShip_0 := by decide +kernel
theorem dX0_isShip_0 : decode cX0_isShip 0 = .ok (.iload_n 1, 1) := dk_27 (dk_at dksX0_isShip_0 0 rfl rfl)
theorem dX0_isShip_1 : decode cX0_isShip 1 = .ok (.iconst 0, 1) := dk_3 (dk_at dksX0_isShip_0 1 rfl rfl)
theorem dX0_isShip_2 : decode cX0_isShip 2 = .ok (.aload_n 0, 1) := dk_42 (dk_at dksX0_isShip_0 2 rfl rfl)
theorem dX0_isShip_3 : decode cX0_isShip 3 = .ok (.getfield 46, 3) := dk_180 0 46 (dk_at dksX0_isShip_0 3 rfl rfl)
theorem dX0_isShip_6 : decode cX0_isShip 6 = .ok (.getfield 96, 3) := dk_180 0 96 (dk_at dksX0_isShip_0 6 rfl rfl)
theorem dX0_isShip_9 : decode cX0_isShip 9 = .ok (.iconst 1, 1) := dk_4 (dk_at dksX0_isShip_0 9 rfl rfl)
theorem dX0_isShip_10 : decode cX0_isShip 10 = .ok (.isub, 1) := dk_100 (dk_at dksX0_isShip_0 10 rfl rfl)
theorem dX0_isShip_11 : decode cX0_isShip 11 = .ok (.invokestatic 79, 3) := dk_184 0 79 (dk_at dksX0_isShip_0 11 rfl rfl)
theorem dX0_isShip_14 : decode cX0_isShip 14 = .ok (.ireturn, 1) := dk_172 (dk_at dksX0_isShip_0 14 rfl rfl)
abbrev cX0_believed : ByteArray := prog_1_method_21_code
def yX0_believed : MethodName := ⟨RX0, "believed", "(I)I"⟩
def dkwX0_believed_1 : List UInt8 := [50, 42, 180, 0, 46, 42, 180, 0, 46, 180, 0, 158, 27, 46, 4, 100, 182, 0, 164, 172]
abbrev dktX0_believed_1 : List UInt8 := dkwX0_believed_1 ++ []
def dkwX0_believed_0 : List UInt8 := [42, 180, 0, 46, 180, 0, 158, 27, 46, 154, 0, 7, 2, 167, 0, 30, 42, 180, 0, 46, 180, 0, 147, 27]
abbrev dktX0_believed_0 : List UInt8 := dkwX0_believed_0 ++ dktX0_believed_1
theorem dksX0_believed_0 : cX0_believed.data.toList.drop 0 = dktX0_believed_0 := by decide +kernel
theorem dksX0_believed_1 : cX0_believed.data.toList.drop 24 = dktX0_believed_1 := dk_seg dksX0_believed_0 24 rfl rfl
theorem dX0_believed_0 : decode cX0_believed 0 = .ok (.aload_n 0, 1) := dk_42 (dk_at dksX0_believed_0 0 rfl rfl)
theorem dX0_believed_1 : decode cX0_believed 1 = .ok (.getfield 46, 3) := dk_180 0 46 (dk_at dksX0_believed_0 1 rfl rfl)
theorem dX0_believed_4 : decode cX0_believed 4 = .ok (.getfield 158, 3) := dk_180 0 158 (dk_at dksX0_believed_0 4 rfl rfl)
theorem dX0_believed_7 : decode cX0_believed 7 = .ok (.iload_n 1, 1) := dk_27 (dk_at dksX0_believed_0 7 rfl rfl)
theorem dX0_believed_8 : decode cX0_believed 8 = .ok (.iaload, 1) := dk_46 (dk_at dksX0_believed_0 8 rfl rfl)
theorem dX0_believed_9 : decode cX0_believed 9 = .ok (.ifCond .ne 7, 3) := dk_154 0 7 (dk_at dksX0_believed_0 9 rfl rfl)
theorem dX0_believed_12 : decode cX0_believed 12 = .ok (.iconst (-1), 1) := dk_2 (dk_at dksX0_believed_0 12 rfl rfl)
theorem dX0_believed_13 : decode cX0_believed 13 = .ok (.goto 30, 3) := dk_167 0 30 (dk_at dksX0_believed_0 13 rfl rfl)
theorem dX0_believed_16 : decode cX0_believed 16 = .ok (.aload_n 0, 1) := dk_42 (dk_at dksX0_believed_0 16 rfl rfl)
theorem dX0_believed_17 : decode cX0_believed 17 = .ok (.getfield 46, 3) := dk_180 0 46 (dk_at dksX0_believed_0 17 rfl rfl)
theorem dX0_believed_20 : decode cX0_believed 20 = .ok (.getfield 147, 3) := dk_180 0 147 (dk_at dksX0_believed_0 20 rfl rfl)
theorem dX0_believed_23 : decode cX0_believed 23 = .ok (.iload_n 1, 1) := dk_27 (dk_at dksX0_believed_0 23 rfl rfl)
theorem dX0_believed_24 : decode cX0_believed 24 = .ok (.aaload, 1) := dk_50 (dk_at dksX0_believed_1 0 rfl rfl)
theorem dX0_believed_25 : decode cX0_believed 25 = .ok (.aload_n 0, 1) := dk_42 (dk_at dksX0_believed_1 1 rfl rfl)
theorem dX0_believed_26 : decode cX0_believed 26 = .ok (.getfield 46, 3) := dk_180 0 46 (dk_at dksX0_believed_1 2 rfl rfl)
theorem dX0_believed_29 : decode cX0_believed 29 = .ok (.aload_n 0, 1) := dk_42 (dk_at dksX0_believed_1 5 rfl rfl)
theorem dX0_believed_30 : decode cX0_believed 30 = .ok (.getfield 46, 3) := dk_180 0 46 (dk_at dksX0_believed_1 6 rfl rfl)
theorem dX0_believed_33 : decode cX0_believed 33 = .ok (.getfield 158, 3) := dk_180 0 158 (dk_at dksX0_believed_1 9 rfl rfl)
theorem dX0_believed_36 : decode cX0_believed 36 = .ok (.iload_n 1, 1) := dk_27 (dk_at dksX0_believed_1 12 rfl rfl)
theorem dX0_believed_37 : decode cX0_believed 37 = .ok (.iaload, 1) := dk_46 (dk_at dksX0_believed_1 13 rfl rfl)
theorem dX0_believed_38 : decode cX0_believed 38 = .ok (.iconst 1, 1) := dk_4 (dk_at dksX0_believed_1 14 rfl rfl)
theorem dX0_believed_39 : decode cX0_believed 39 = .ok (.isub, 1) := dk_100 (dk_at dksX0_believed_1 15 rfl rfl)
theorem dX0_believed_40 : decode cX0_believed 40 = .ok (.invokevirtual 164, 3) := dk_182 0 164 (dk_at dksX0_believed_1 16 rfl rfl)
theorem dX0_believed_43 : decode cX0_believed 43 = .ok (.ireturn, 1) := dk_172 (dk_at dksX0_believed_1 19 rfl rfl)
abbrev cX0_change : ByteArray := prog_1_method_24_code
def yX0_change : MethodName := ⟨RX0, "change", "(III)I"⟩
def dkwX0_change_4 : List UInt8 := [182, 0, 111, 172]
abbrev dktX0_change_4 : List UInt8 := dkwX0_change_4 ++ []
def dkwX0_change_3 : List UInt8 := [180, 0, 161, 58, 4, 25, 4, 27, 46, 54, 5, 25, 4, 27, 29, 79, 21, 5, 172, 58, 4, 42, 25, 4]
abbrev dktX0_change_3 : List UInt8 := dkwX0_change_3 ++ dktX0_change_4
def dkwX0_change_2 : List UInt8 := [167, 0, 25, 28, 4, 160, 0, 13, 42, 180, 0, 46, 180, 0, 158, 167, 0, 10, 42, 180, 0, 46]
abbrev dktX0_change_2 : List UInt8 := dkwX0_change_2 ++ dktX0_change_3
def dkwX0_change_1 : List UInt8 := [153, 0, 7, 4, 167, 0, 4, 3, 4, 182, 0, 87, 28, 154, 0, 13, 42, 180, 0, 46, 180, 0, 155]
abbrev dktX0_change_1 : List UInt8 := dkwX0_change_1 ++ dktX0_change_2
def dkwX0_change_0 : List UInt8 := [42, 42, 27, 182, 0, 182, 153, 0, 25, 28, 3, 5, 184, 0, 79, 153, 0, 16, 42, 28, 29, 182, 0, 185]
abbrev dktX0_change_0 : List UInt8 := dkwX0_change_0 ++ dktX0_change_1
theorem dksX0_change_0 : cX0_change.data.toList.drop 0 = dktX0_change_0 := by decide +kernel
theorem dksX0_change_1 : cX0_change.data.toList.drop 24 = dktX0_change_1 := dk_seg dksX0_change_0 24 rfl rfl
theorem dksX0_change_2 : cX0_change.data.toList.drop 47 = dktX0_change_2 := dk_seg dksX0_change_1 23 rfl rfl
theorem dksX0_change_3 : cX0_change.data.toList.drop 69 = dktX0_change_3 := dk_seg dksX0_change_2 22 rfl rfl
theorem dksX0_change_4 : cX0_change.data.toList.drop 93 = dktX0_change_4 := dk_seg dksX0_change_3 24 rfl rfl
theorem dX0_change_0 : decode cX0_change 0 = .ok (.aload_n 0, 1) := dk_42 (dk_at dksX0_change_0 0 rfl rfl)
theorem dX0_change_1 : decode cX0_change 1 = .ok (.aload_n 0, 1) := dk_42 (dk_at dksX0_change_0 1 rfl rfl)
theorem dX0_change_2 : decode cX0_change 2 = .ok (.iload_n 1, 1) := dk_27 (dk_at dksX0_change_0 2 rfl rfl)
theorem dX0_change_3 : decode cX0_change 3 = .ok (.invokevirtual 182, 3) := dk_182 0 182 (dk_at dksX0_change_0 3 rfl rfl)
theorem dX0_change_6 : decode cX0_change 6 = .ok (.ifCond .eq 25, 3) := dk_153 0 25 (dk_at dksX0_change_0 6 rfl rfl)
theorem dX0_change_9 : decode cX0_change 9 = .ok (.iload_n 2, 1) := dk_28 (dk_at dksX0_change_0 9 rfl rfl)
theorem dX0_change_10 : decode cX0_change 10 = .ok (.iconst 0, 1) := dk_3 (dk_at dksX0_change_0 10 rfl rfl)
theorem dX0_change_11 : decode cX0_change 11 = .ok (.iconst 2, 1) := dk_5 (dk_at dksX0_change_0 11 rfl rfl)
theorem dX0_change_12 : decode cX0_change 12 = .ok (.invokestatic 79, 3) := dk_184 0 79 (dk_at dksX0_change_0 12 rfl rfl)
theorem dX0_change_15 : decode cX0_change 15 = .ok (.ifCond .eq 16, 3) := dk_153 0 16 (dk_at dksX0_change_0 15 rfl rfl)
theorem dX0_change_18 : decode cX0_change 18 = .ok (.aload_n 0, 1) := dk_42 (dk_at dksX0_change_0 18 rfl rfl)
theorem dX0_change_19 : decode cX0_change 19 = .ok (.iload_n 2, 1) := dk_28 (dk_at dksX0_change_0 19 rfl rfl)
theorem dX0_change_20 : decode cX0_change 20 = .ok (.iload_n 3, 1) := dk_29 (dk_at dksX0_change_0 20 rfl rfl)
theorem dX0_change_21 : decode cX0_change 21 = .ok (.invokevirtual 185, 3) := dk_182 0 185 (dk_at dksX0_change_0 21 rfl rfl)
theorem dX0_change_24 : decode cX0_change 24 = .ok (.ifCond .eq 7, 3) := dk_153 0 7 (dk_at dksX0_change_1 0 rfl rfl)
theorem dX0_change_27 : decode cX0_change 27 = .ok (.iconst 1, 1) := dk_4 (dk_at dksX0_change_1 3 rfl rfl)
theorem dX0_change_28 : decode cX0_change 28 = .ok (.goto 4, 3) := dk_167 0 4 (dk_at dksX0_change_1 4 rfl rfl)
theorem dX0_change_31 : decode cX0_change 31 = .ok (.iconst 0, 1) := dk_3 (dk_at dksX0_change_1 7 rfl rfl)
theorem dX0_change_32 : decode cX0_change 32 = .ok (.iconst 1, 1) := dk_4 (dk_at dksX0_change_1 8 rfl rfl)
theorem dX0_change_33 : decode cX0_change 33 = .ok (.invokevirtual 87, 3) := dk_182 0 87 (dk_at dksX0_change_1 9 rfl rfl)
theorem dX0_change_36 : decode cX0_change 36 = .ok (.iload_n 2, 1) := dk_28 (dk_at dksX0_change_1 12 rfl rfl)
theorem dX0_change_37 : decode cX0_change 37 = .ok (.ifCond .ne 13, 3) := dk_154 0 13 (dk_at dksX0_change_1 13 rfl rfl)
theorem dX0_change_40 : decode cX0_change 40 = .ok (.aload_n 0, 1) := dk_42 (dk_at dksX0_change_1 16 rfl rfl)
theorem dX0_change_41 : decode cX0_change 41 = .ok (.getfield 46, 3) := dk_180 0 46 (dk_at dksX0_change_1 17 rfl rfl)
theorem dX0_change_44 : decode cX0_change 44 = .ok (.getfield 155, 3) := dk_180 0 155 (dk_at dksX0_change_1 20 rfl rfl)
theorem dX0_change_47 : decode cX0_change 47 = .ok (.goto 25, 3) := dk_167 0 25 (dk_at dksX0_change_2 0 rfl rfl)
theorem dX0_change_50 : decode cX0_change 50 = .ok (.iload_n 2, 1) := dk_28 (dk_at dksX0_change_2 3 rfl rfl)
theorem dX0_change_51 : decode cX0_change 51 = .ok (.iconst 1, 1) := dk_4 (dk_at dksX0_change_2 4 rfl rfl)
theorem dX0_change_52 : decode cX0_change 52 = .ok (.if_icmp .ne 13, 3) := dk_160 0 13 (dk_at dksX0_change_2 5 rfl rfl)
theorem dX0_change_55 : decode cX0_change 55 = .ok (.aload_n 0, 1) := dk_42 (dk_at dksX0_change_2 8 rfl rfl)
theorem dX0_change_56 : decode cX0_change 56 = .ok (.getfield 46, 3) := dk_180 0 46 (dk_at dksX0_change_2 9 rfl rfl)
theorem dX0_change_59 : decode cX0_change 59 = .ok (.getfield 158, 3) := dk_180 0 158 (dk_at dksX0_change_2 12 rfl rfl)
theorem dX0_change_62 : decode cX0_change 62 = .ok (.goto 10, 3) := dk_167 0 10 (dk_at dksX0_change_2 15 rfl rfl)
theorem dX0_change_65 : decode cX0_change 65 = .ok (.aload_n 0, 1) := dk_42 (dk_at dksX0_change_2 18 rfl rfl)
theorem dX0_change_66 : decode cX0_change 66 = .ok (.getfield 46, 3) := dk_180 0 46 (dk_at dksX0_change_2 19 rfl rfl)
theorem dX0_change_69 : decode cX0_change 69 = .ok (.getfield 161, 3) := dk_180 0 161 (dk_at dksX0_change_3 0 rfl rfl)
theorem dX0_change_72 : decode cX0_change 72 = .ok (.astore 4, 2) := dk_58 4 (dk_at dksX0_change_3 3 rfl rfl)
theorem dX0_change_74 : decode cX0_change 74 = .ok (.aload 4, 2) := dk_25 4 (dk_at dksX0_change_3 5 rfl rfl)
theorem dX0_change_76 : decode cX0_change 76 = .ok (.iload_n 1, 1) := dk_27 (dk_at dksX0_change_3 7 rfl rfl)
theorem dX0_change_77 : decode cX0_change 77 = .ok (.iaload, 1) := dk_46 (dk_at dksX0_change_3 8 rfl rfl)
theorem dX0_change_78 : decode cX0_change 78 = .ok (.istore 5, 2) := dk_54 5 (dk_at dksX0_change_3 9 rfl rfl)
theorem dX0_change_80 : decode cX0_change 80 = .ok (.aload 4, 2) := dk_25 4 (dk_at dksX0_change_3 11 rfl rfl)
theorem dX0_change_82 : decode cX0_change 82 = .ok (.iload_n 1, 1) := dk_27 (dk_at dksX0_change_3 13 rfl rfl)
theorem dX0_change_83 : decode cX0_change 83 = .ok (.iload_n 3, 1) := dk_29 (dk_at dksX0_change_3 14 rfl rfl)
theorem dX0_change_84 : decode cX0_change 84 = .ok (.iastore, 1) := dk_79 (dk_at dksX0_change_3 15 rfl rfl)
theorem dX0_change_85 : decode cX0_change 85 = .ok (.iload 5, 2) := dk_21 5 (dk_at dksX0_change_3 16 rfl rfl)
theorem dX0_change_87 : decode cX0_change 87 = .ok (.ireturn, 1) := dk_172 (dk_at dksX0_change_3 18 rfl rfl)
theorem dX0_change_88 : decode cX0_change 88 = .ok (.astore 4, 2) := dk_58 4 (dk_at dksX0_change_3 19 rfl rfl)
theorem dX0_change_90 : decode cX0_change 90 = .ok (.aload_n 0, 1) := dk_42 (dk_at dksX0_change_3 21 rfl rfl)
theorem dX0_change_91 : decode cX0_change 91 = .ok (.aload 4, 2) := dk_25 4 (dk_at dksX0_change_3 22 rfl rfl)
theorem dX0_change_93 : decode cX0_change 93 = .ok (.invokevirtual 111, 3) := dk_182 0 111 (dk_at dksX0_change_4 0 rfl rfl)
theorem dX0_change_96 : decode cX0_change 96 = .ok (.ireturn, 1) := dk_172 (dk_at dksX0_change_4 3 rfl rfl)
abbrev cX0_isOfShip : ByteArray := prog_1_method_23_code
def yX0_isOfShip : MethodName := ⟨RX0, "isOfShip", "(II)Z"⟩
def dkwX0_isOfShip_1 : List UInt8 := [167, 0, 9, 28, 3, 4, 184, 0, 79, 172]
abbrev dktX0_isOfShip_1 : List UInt8 := dkwX0_isOfShip_1 ++ []
def dkwX0_isOfShip_0 : List UInt8 := [27, 154, 0, 13, 28, 3, 16, 9, 184, 0, 79, 167, 0, 22, 27, 4, 160, 0, 11, 42, 28, 182, 0, 115]
abbrev dktX0_isOfShip_0 : List UInt8 := dkwX0_isOfShip_0 ++ dktX0_isOfShip_1
theorem dksX0_isOfShip_0 : cX0_isOfShip.data.toList.drop 0 = dktX0_isOfShip_0 := by decide +kernel
theorem dksX0_isOfShip_1 : cX0_isOfShip.data.toList.drop 24 = dktX0_isOfShip_1 := dk_seg dksX0_isOfShip_0 24 rfl rfl
theorem dX0_isOfShip_0 : decode cX0_isOfShip 0 = .ok (.iload_n 1, 1) := dk_27 (dk_at dksX0_isOfShip_0 0 rfl rfl)
theorem dX0_isOfShip_1 : decode cX0_isOfShip 1 = .ok (.ifCond .ne 13, 3) := dk_154 0 13 (dk_at dksX0_isOfShip_0 1 rfl rfl)
theorem dX0_isOfShip_4 : decode cX0_isOfShip 4 = .ok (.iload_n 2, 1) := dk_28 (dk_at dksX0_isOfShip_0 4 rfl rfl)
theorem dX0_isOfShip_5 : decode cX0_isOfShip 5 = .ok (.iconst 0, 1) := dk_3 (dk_at dksX0_isOfShip_0 5 rfl rfl)
theorem dX0_isOfShip_6 : decode cX0_isOfShip 6 = .ok (.bipush 9, 2) := dk_16 9 (dk_at dksX0_isOfShip_0 6 rfl rfl)
theorem dX0_isOfShip_8 : decode cX0_isOfShip 8 = .ok (.invokestatic 79, 3) := dk_184 0 79 (dk_at dksX0_isOfShip_0 8 rfl rfl)
theorem dX0_isOfShip_11 : decode cX0_isOfShip 11 = .ok (.goto 22, 3) := dk_167 0 22 (dk_at dksX0_isOfShip_0 11 rfl rfl)
theorem dX0_isOfShip_14 : decode cX0_isOfShip 14 = .ok (.iload_n 1, 1) := dk_27 (dk_at dksX0_isOfShip_0 14 rfl rfl)
theorem dX0_isOfShip_15 : decode cX0_isOfShip 15 = .ok (.iconst 1, 1) := dk_4 (dk_at dksX0_isOfShip_0 15 rfl rfl)
theorem dX0_isOfShip_16 : decode cX0_isOfShip 16 = .ok (.if_icmp .ne 11, 3) := dk_160 0 11 (dk_at dksX0_isOfShip_0 16 rfl rfl)
theorem dX0_isOfShip_19 : decode cX0_isOfShip 19 = .ok (.aload_n 0, 1) := dk_42 (dk_at dksX0_isOfShip_0 19 rfl rfl)
theorem dX0_isOfShip_20 : decode cX0_isOfShip 20 = .ok (.iload_n 2, 1) := dk_28 (dk_at dksX0_isOfShip_0 20 rfl rfl)
theorem dX0_isOfShip_21 : decode cX0_isOfShip 21 = .ok (.invokevirtual 115, 3) := dk_182 0 115 (dk_at dksX0_isOfShip_0 21 rfl rfl)
theorem dX0_isOfShip_24 : decode cX0_isOfShip 24 = .ok (.goto 9, 3) := dk_167 0 9 (dk_at dksX0_isOfShip_1 0 rfl rfl)
theorem dX0_isOfShip_27 : decode cX0_isOfShip 27 = .ok (.iload_n 2, 1) := dk_28 (dk_at dksX0_isOfShip_1 3 rfl rfl)
theorem dX0_isOfShip_28 : decode cX0_isOfShip 28 = .ok (.iconst 0, 1) := dk_3 (dk_at dksX0_isOfShip_1 4 rfl rfl)
theorem dX0_isOfShip_29 : decode cX0_isOfShip 29 = .ok (.iconst 1, 1) := dk_4 (dk_at dksX0_isOfShip_1 5 rfl rfl)
theorem dX0_isOfShip_30 : decode cX0_isOfShip 30 = .ok (.invokestatic 79, 3) := dk_184 0 79 (dk_at dksX0_isOfShip_1 6 rfl rfl)
theorem dX0_isOfShip_33 : decode cX0_isOfShip 33 = .ok (.ireturn, 1) := dk_172 (dk_at dksX0_isOfShip_1 9 rfl rfl)
abbrev cX0_become : ByteArray := prog_1_method_26_code
def yX0_become : MethodName := ⟨RX0, "become", "(II)I"⟩
def dkwX0_become_2 : List UInt8 := [182, 0, 111, 172]
abbrev dktX0_become_2 : List UInt8 := dkwX0_become_2 ++ []
def dkwX0_become_1 : List UInt8 := [108, 42, 180, 0, 59, 27, 28, 16, 10, 112, 184, 0, 151, 83, 45, 182, 0, 172, 172, 78, 42, 45]
abbrev dktX0_become_1 : List UInt8 := dkwX0_become_1 ++ dktX0_become_2
def dkwX0_become_0 : List UInt8 := [42, 27, 28, 3, 16, 69, 184, 0, 79, 182, 0, 168, 78, 42, 180, 0, 46, 180, 0, 147, 27, 28, 16, 10]
abbrev dktX0_become_0 : List UInt8 := dkwX0_become_0 ++ dktX0_become_1
theorem dksX0_become_0 : cX0_become.data.toList.drop 0 = dktX0_become_0 := by decide +kernel
theorem dksX0_become_1 : cX0_become.data.toList.drop 24 = dktX0_become_1 := dk_seg dksX0_become_0 24 rfl rfl
theorem dksX0_become_2 : cX0_become.data.toList.drop 46 = dktX0_become_2 := dk_seg dksX0_become_1 22 rfl rfl
theorem dX0_become_0 : decode cX0_become 0 = .ok (.aload_n 0, 1) := dk_42 (dk_at dksX0_become_0 0 rfl rfl)
theorem dX0_become_1 : decode cX0_become 1 = .ok (.iload_n 1, 1) := dk_27 (dk_at dksX0_become_0 1 rfl rfl)
theorem dX0_become_2 : decode cX0_become 2 = .ok (.iload_n 2, 1) := dk_28 (dk_at dksX0_become_0 2 rfl rfl)
theorem dX0_become_3 : decode cX0_become 3 = .ok (.iconst 0, 1) := dk_3 (dk_at dksX0_become_0 3 rfl rfl)
theorem dX0_become_4 : decode cX0_become 4 = .ok (.bipush 69, 2) := dk_16 69 (dk_at dksX0_become_0 4 rfl rfl)
theorem dX0_become_6 : decode cX0_become 6 = .ok (.invokestatic 79, 3) := dk_184 0 79 (dk_at dksX0_become_0 6 rfl rfl)
theorem dX0_become_9 : decode cX0_become 9 = .ok (.invokevirtual 168, 3) := dk_182 0 168 (dk_at dksX0_become_0 9 rfl rfl)
theorem dX0_become_12 : decode cX0_become 12 = .ok (.astore_n 3, 1) := dk_78 (dk_at dksX0_become_0 12 rfl rfl)
theorem dX0_become_13 : decode cX0_become 13 = .ok (.aload_n 0, 1) := dk_42 (dk_at dksX0_become_0 13 rfl rfl)
theorem dX0_become_14 : decode cX0_become 14 = .ok (.getfield 46, 3) := dk_180 0 46 (dk_at dksX0_become_0 14 rfl rfl)
theorem dX0_become_17 : decode cX0_become 17 = .ok (.getfield 147, 3) := dk_180 0 147 (dk_at dksX0_become_0 17 rfl rfl)
theorem dX0_become_20 : decode cX0_become 20 = .ok (.iload_n 1, 1) := dk_27 (dk_at dksX0_become_0 20 rfl rfl)
theorem dX0_become_21 : decode cX0_become 21 = .ok (.iload_n 2, 1) := dk_28 (dk_at dksX0_become_0 21 rfl rfl)
theorem dX0_become_22 : decode cX0_become 22 = .ok (.bipush 10, 2) := dk_16 10 (dk_at dksX0_become_0 22 rfl rfl)
theorem dX0_become_24 : decode cX0_become 24 = .ok (.idiv, 1) := dk_108 (dk_at dksX0_become_1 0 rfl rfl)
theorem dX0_become_25 : decode cX0_become 25 = .ok (.aload_n 0, 1) := dk_42 (dk_at dksX0_become_1 1 rfl rfl)
theorem dX0_become_26 : decode cX0_become 26 = .ok (.getfield 59, 3) := dk_180 0 59 (dk_at dksX0_become_1 2 rfl rfl)
theorem dX0_become_29 : decode cX0_become 29 = .ok (.iload_n 1, 1) := dk_27 (dk_at dksX0_become_1 5 rfl rfl)
theorem dX0_become_30 : decode cX0_become 30 = .ok (.iload_n 2, 1) := dk_28 (dk_at dksX0_become_1 6 rfl rfl)
theorem dX0_become_31 : decode cX0_become 31 = .ok (.bipush 10, 2) := dk_16 10 (dk_at dksX0_become_1 7 rfl rfl)
theorem dX0_become_33 : decode cX0_become 33 = .ok (.irem, 1) := dk_112 (dk_at dksX0_become_1 9 rfl rfl)
theorem dX0_become_34 : decode cX0_become 34 = .ok (.invokestatic 151, 3) := dk_184 0 151 (dk_at dksX0_become_1 10 rfl rfl)
theorem dX0_become_37 : decode cX0_become 37 = .ok (.aastore, 1) := dk_83 (dk_at dksX0_become_1 13 rfl rfl)
theorem dX0_become_38 : decode cX0_become 38 = .ok (.aload_n 3, 1) := dk_45 (dk_at dksX0_become_1 14 rfl rfl)
theorem dX0_become_39 : decode cX0_become 39 = .ok (.invokevirtual 172, 3) := dk_182 0 172 (dk_at dksX0_become_1 15 rfl rfl)
theorem dX0_become_42 : decode cX0_become 42 = .ok (.ireturn, 1) := dk_172 (dk_at dksX0_become_1 18 rfl rfl)
theorem dX0_become_43 : decode cX0_become 43 = .ok (.astore_n 3, 1) := dk_78 (dk_at dksX0_become_1 19 rfl rfl)
theorem dX0_become_44 : decode cX0_become 44 = .ok (.aload_n 0, 1) := dk_42 (dk_at dksX0_become_1 20 rfl rfl)
theorem dX0_become_45 : decode cX0_become 45 = .ok (.aload_n 3, 1) := dk_45 (dk_at dksX0_become_1 21 rfl rfl)
theorem dX0_become_46 : decode cX0_become 46 = .ok (.invokevirtual 111, 3) := dk_182 0 111 (dk_at dksX0_become_2 0 rfl rfl)
theorem dX0_become_49 : decode cX0_become 49 = .ok (.ireturn, 1) := dk_172 (dk_at dksX0_become_2 3 rfl rfl)
abbrev cX0_as : ByteArray := prog_1_method_27_code
def yX0_as : MethodName := ⟨RX0, "as", "(II)I"⟩
def dkwX0_as_1 : List UInt8 := [180, 0, 176, 172, 78, 42, 45, 182, 0, 111, 172]
abbrev dktX0_as_1 : List UInt8 := dkwX0_as_1 ++ []
def dkwX0_as_0 : List UInt8 := [42, 27, 28, 3, 16, 6, 184, 0, 79, 182, 0, 168, 78, 42, 45, 28, 182, 0, 188, 8, 182, 0, 87, 45]
abbrev dktX0_as_0 : List UInt8 := dkwX0_as_0 ++ dktX0_as_1
theorem dksX0_as_0 : cX0_as.data.toList.drop 0 = dktX0_as_0 := by decide +kernel
theorem dksX0_as_1 : cX0_as.data.toList.drop 24 = dktX0_as_1 := dk_seg dksX0_as_0 24 rfl rfl
theorem dX0_as_0 : decode cX0_as 0 = .ok (.aload_n 0, 1) := dk_42 (dk_at dksX0_as_0 0 rfl rfl)
theorem dX0_as_1 : decode cX0_as 1 = .ok (.iload_n 1, 1) := dk_27 (dk_at dksX0_as_0 1 rfl rfl)
theorem dX0_as_2 : decode cX0_as 2 = .ok (.iload_n 2, 1) := dk_28 (dk_at dksX0_as_0 2 rfl rfl)
theorem dX0_as_3 : decode cX0_as 3 = .ok (.iconst 0, 1) := dk_3 (dk_at dksX0_as_0 3 rfl rfl)
theorem dX0_as_4 : decode cX0_as 4 = .ok (.bipush 6, 2) := dk_16 6 (dk_at dksX0_as_0 4 rfl rfl)
theorem dX0_as_6 : decode cX0_as 6 = .ok (.invokestatic 79, 3) := dk_184 0 79 (dk_at dksX0_as_0 6 rfl rfl)
theorem dX0_as_9 : decode cX0_as 9 = .ok (.invokevirtual 168, 3) := dk_182 0 168 (dk_at dksX0_as_0 9 rfl rfl)
theorem dX0_as_12 : decode cX0_as 12 = .ok (.astore_n 3, 1) := dk_78 (dk_at dksX0_as_0 12 rfl rfl)
theorem dX0_as_13 : decode cX0_as 13 = .ok (.aload_n 0, 1) := dk_42 (dk_at dksX0_as_0 13 rfl rfl)
theorem dX0_as_14 : decode cX0_as 14 = .ok (.aload_n 3, 1) := dk_45 (dk_at dksX0_as_0 14 rfl rfl)
theorem dX0_as_15 : decode cX0_as 15 = .ok (.iload_n 2, 1) := dk_28 (dk_at dksX0_as_0 15 rfl rfl)
theorem dX0_as_16 : decode cX0_as 16 = .ok (.invokevirtual 188, 3) := dk_182 0 188 (dk_at dksX0_as_0 16 rfl rfl)
theorem dX0_as_19 : decode cX0_as 19 = .ok (.iconst 5, 1) := dk_8 (dk_at dksX0_as_0 19 rfl rfl)
theorem dX0_as_20 : decode cX0_as 20 = .ok (.invokevirtual 87, 3) := dk_182 0 87 (dk_at dksX0_as_0 20 rfl rfl)
theorem dX0_as_23 : decode cX0_as 23 = .ok (.aload_n 3, 1) := dk_45 (dk_at dksX0_as_0 23 rfl rfl)
theorem dX0_as_24 : decode cX0_as 24 = .ok (.getfield 176, 3) := dk_180 0 176 (dk_at dksX0_as_1 0 rfl rfl)
theorem dX0_as_27 : decode cX0_as 27 = .ok (.ireturn, 1) := dk_172 (dk_at dksX0_as_1 3 rfl rfl)
theorem dX0_as_28 : decode cX0_as 28 = .ok (.astore_n 3, 1) := dk_78 (dk_at dksX0_as_1 4 rfl rfl)
theorem dX0_as_29 : decode cX0_as 29 = .ok (.aload_n 0, 1) := dk_42 (dk_at dksX0_as_1 5 rfl rfl)
theorem dX0_as_30 : decode cX0_as 30 = .ok (.aload_n 3, 1) := dk_45 (dk_at dksX0_as_1 6 rfl rfl)
theorem dX0_as_31 : decode cX0_as 31 = .ok (.invokevirtual 111, 3) := dk_182 0 111 (dk_at dksX0_as_1 7 rfl rfl)
theorem dX0_as_34 : decode cX0_as 34 = .ok (.ireturn, 1) := dk_172 (dk_at dksX0_as_1 10 rfl rfl)
abbrev cX0_feed : ByteArray := prog_1_method_28_code
def yX0_feed : MethodName := ⟨RX0, "feed", "(JI)I"⟩
def dkwX0_feed_4 : List UInt8 := [180, 0, 191, 172, 58, 4, 42, 25, 4, 182, 0, 111, 172]
abbrev dktX0_feed_4 : List UInt8 := dkwX0_feed_4 ++ []
def dkwX0_feed_3 : List UInt8 := [180, 0, 46, 89, 180, 0, 191, 4, 96, 181, 0, 191, 132, 4, 1, 167, 255, 210, 42, 180, 0, 46]
abbrev dktX0_feed_3 : List UInt8 := dkwX0_feed_3 ++ dktX0_feed_4
def dkwX0_feed_2 : List UInt8 := [180, 0, 46, 180, 0, 194, 42, 180, 0, 46, 180, 0, 191, 31, 16, 8, 21, 4, 104, 123, 136, 145, 84, 42]
abbrev dktX0_feed_2 : List UInt8 := dkwX0_feed_2 ++ dktX0_feed_3
def dkwX0_feed_1 : List UInt8 := [163, 0, 7, 4, 167, 0, 4, 3, 7, 182, 0, 87, 3, 54, 4, 21, 4, 29, 162, 0, 46, 42]
abbrev dktX0_feed_1 : List UInt8 := dkwX0_feed_1 ++ dktX0_feed_2
def dkwX0_feed_0 : List UInt8 := [42, 29, 4, 16, 8, 184, 0, 79, 4, 182, 0, 87, 42, 42, 180, 0, 46, 180, 0, 191, 29, 96, 16, 50]
abbrev dktX0_feed_0 : List UInt8 := dkwX0_feed_0 ++ dktX0_feed_1
theorem dksX0_feed_0 : cX0_feed.data.toList.drop 0 = dktX0_feed_0 := by decide +kernel
theorem dksX0_feed_1 : cX0_feed.data.toList.drop 24 = dktX0_feed_1 := dk_seg dksX0_feed_0 24 rfl rfl
theorem dksX0_feed_2 : cX0_feed.data.toList.drop 46 = dktX0_feed_2 := dk_seg dksX0_feed_1 22 rfl rfl
theorem dksX0_feed_3 : cX0_feed.data.toList.drop 70 = dktX0_feed_3 := dk_seg dksX0_feed_2 24 rfl rfl
theorem dksX0_feed_4 : cX0_feed.data.toList.drop 92 = dktX0_feed_4 := dk_seg dksX0_feed_3 22 rfl rfl
theorem dX0_feed_0 : decode cX0_feed 0 = .ok (.aload_n 0, 1) := dk_42 (dk_at dksX0_feed_0 0 rfl rfl)
theorem dX0_feed_1 : decode cX0_feed 1 = .ok (.iload_n 3, 1) := dk_29 (dk_at dksX0_feed_0 1 rfl rfl)
theorem dX0_feed_2 : decode cX0_feed 2 = .ok (.iconst 1, 1) := dk_4 (dk_at dksX0_feed_0 2 rfl rfl)
theorem dX0_feed_3 : decode cX0_feed 3 = .ok (.bipush 8, 2) := dk_16 8 (dk_at dksX0_feed_0 3 rfl rfl)
theorem dX0_feed_5 : decode cX0_feed 5 = .ok (.invokestatic 79, 3) := dk_184 0 79 (dk_at dksX0_feed_0 5 rfl rfl)
theorem dX0_feed_8 : decode cX0_feed 8 = .ok (.iconst 1, 1) := dk_4 (dk_at dksX0_feed_0 8 rfl rfl)
theorem dX0_feed_9 : decode cX0_feed 9 = .ok (.invokevirtual 87, 3) := dk_182 0 87 (dk_at dksX0_feed_0 9 rfl rfl)
theorem dX0_feed_12 : decode cX0_feed 12 = .ok (.aload_n 0, 1) := dk_42 (dk_at dksX0_feed_0 12 rfl rfl)
theorem dX0_feed_13 : decode cX0_feed 13 = .ok (.aload_n 0, 1) := dk_42 (dk_at dksX0_feed_0 13 rfl rfl)
theorem dX0_feed_14 : decode cX0_feed 14 = .ok (.getfield 46, 3) := dk_180 0 46 (dk_at dksX0_feed_0 14 rfl rfl)
theorem dX0_feed_17 : decode cX0_feed 17 = .ok (.getfield 191, 3) := dk_180 0 191 (dk_at dksX0_feed_0 17 rfl rfl)
theorem dX0_feed_20 : decode cX0_feed 20 = .ok (.iload_n 3, 1) := dk_29 (dk_at dksX0_feed_0 20 rfl rfl)
theorem dX0_feed_21 : decode cX0_feed 21 = .ok (.iadd, 1) := dk_96 (dk_at dksX0_feed_0 21 rfl rfl)
theorem dX0_feed_22 : decode cX0_feed 22 = .ok (.bipush 50, 2) := dk_16 50 (dk_at dksX0_feed_0 22 rfl rfl)
theorem dX0_feed_24 : decode cX0_feed 24 = .ok (.if_icmp .gt 7, 3) := dk_163 0 7 (dk_at dksX0_feed_1 0 rfl rfl)
theorem dX0_feed_27 : decode cX0_feed 27 = .ok (.iconst 1, 1) := dk_4 (dk_at dksX0_feed_1 3 rfl rfl)
theorem dX0_feed_28 : decode cX0_feed 28 = .ok (.goto 4, 3) := dk_167 0 4 (dk_at dksX0_feed_1 4 rfl rfl)
theorem dX0_feed_31 : decode cX0_feed 31 = .ok (.iconst 0, 1) := dk_3 (dk_at dksX0_feed_1 7 rfl rfl)
theorem dX0_feed_32 : decode cX0_feed 32 = .ok (.iconst 4, 1) := dk_7 (dk_at dksX0_feed_1 8 rfl rfl)
theorem dX0_feed_33 : decode cX0_feed 33 = .ok (.invokevirtual 87, 3) := dk_182 0 87 (dk_at dksX0_feed_1 9 rfl rfl)
theorem dX0_feed_36 : decode cX0_feed 36 = .ok (.iconst 0, 1) := dk_3 (dk_at dksX0_feed_1 12 rfl rfl)
theorem dX0_feed_37 : decode cX0_feed 37 = .ok (.istore 4, 2) := dk_54 4 (dk_at dksX0_feed_1 13 rfl rfl)
theorem dX0_feed_39 : decode cX0_feed 39 = .ok (.iload 4, 2) := dk_21 4 (dk_at dksX0_feed_1 15 rfl rfl)
theorem dX0_feed_41 : decode cX0_feed 41 = .ok (.iload_n 3, 1) := dk_29 (dk_at dksX0_feed_1 17 rfl rfl)
theorem dX0_feed_42 : decode cX0_feed 42 = .ok (.if_icmp .ge 46, 3) := dk_162 0 46 (dk_at dksX0_feed_1 18 rfl rfl)
theorem dX0_feed_45 : decode cX0_feed 45 = .ok (.aload_n 0, 1) := dk_42 (dk_at dksX0_feed_1 21 rfl rfl)
theorem dX0_feed_46 : decode cX0_feed 46 = .ok (.getfield 46, 3) := dk_180 0 46 (dk_at dksX0_feed_2 0 rfl rfl)
theorem dX0_feed_49 : decode cX0_feed 49 = .ok (.getfield 194, 3) := dk_180 0 194 (dk_at dksX0_feed_2 3 rfl rfl)
theorem dX0_feed_52 : decode cX0_feed 52 = .ok (.aload_n 0, 1) := dk_42 (dk_at dksX0_feed_2 6 rfl rfl)
theorem dX0_feed_53 : decode cX0_feed 53 = .ok (.getfield 46, 3) := dk_180 0 46 (dk_at dksX0_feed_2 7 rfl rfl)
theorem dX0_feed_56 : decode cX0_feed 56 = .ok (.getfield 191, 3) := dk_180 0 191 (dk_at dksX0_feed_2 10 rfl rfl)
theorem dX0_feed_59 : decode cX0_feed 59 = .ok (.lload_n 1, 1) := dk_31 (dk_at dksX0_feed_2 13 rfl rfl)
theorem dX0_feed_60 : decode cX0_feed 60 = .ok (.bipush 8, 2) := dk_16 8 (dk_at dksX0_feed_2 14 rfl rfl)
theorem dX0_feed_62 : decode cX0_feed 62 = .ok (.iload 4, 2) := dk_21 4 (dk_at dksX0_feed_2 16 rfl rfl)
theorem dX0_feed_64 : decode cX0_feed 64 = .ok (.imul, 1) := dk_104 (dk_at dksX0_feed_2 18 rfl rfl)
theorem dX0_feed_65 : decode cX0_feed 65 = .ok (.lshr, 1) := dk_123 (dk_at dksX0_feed_2 19 rfl rfl)
theorem dX0_feed_66 : decode cX0_feed 66 = .ok (.l2i, 1) := dk_136 (dk_at dksX0_feed_2 20 rfl rfl)
theorem dX0_feed_67 : decode cX0_feed 67 = .ok (.i2b, 1) := dk_145 (dk_at dksX0_feed_2 21 rfl rfl)
theorem dX0_feed_68 : decode cX0_feed 68 = .ok (.bastore, 1) := dk_84 (dk_at dksX0_feed_2 22 rfl rfl)
theorem dX0_feed_69 : decode cX0_feed 69 = .ok (.aload_n 0, 1) := dk_42 (dk_at dksX0_feed_2 23 rfl rfl)
theorem dX0_feed_70 : decode cX0_feed 70 = .ok (.getfield 46, 3) := dk_180 0 46 (dk_at dksX0_feed_3 0 rfl rfl)
theorem dX0_feed_73 : decode cX0_feed 73 = .ok (.dup, 1) := dk_89 (dk_at dksX0_feed_3 3 rfl rfl)
theorem dX0_feed_74 : decode cX0_feed 74 = .ok (.getfield 191, 3) := dk_180 0 191 (dk_at dksX0_feed_3 4 rfl rfl)
theorem dX0_feed_77 : decode cX0_feed 77 = .ok (.iconst 1, 1) := dk_4 (dk_at dksX0_feed_3 7 rfl rfl)
theorem dX0_feed_78 : decode cX0_feed 78 = .ok (.iadd, 1) := dk_96 (dk_at dksX0_feed_3 8 rfl rfl)
theorem dX0_feed_79 : decode cX0_feed 79 = .ok (.putfield 191, 3) := dk_181 0 191 (dk_at dksX0_feed_3 9 rfl rfl)
theorem dX0_feed_82 : decode cX0_feed 82 = .ok (.iinc 4 1, 3) := dk_132 4 1 (dk_at dksX0_feed_3 12 rfl rfl)
theorem dX0_feed_85 : decode cX0_feed 85 = .ok (.goto (-46), 3) := dk_167 255 210 (dk_at dksX0_feed_3 15 rfl rfl)
theorem dX0_feed_88 : decode cX0_feed 88 = .ok (.aload_n 0, 1) := dk_42 (dk_at dksX0_feed_3 18 rfl rfl)
theorem dX0_feed_89 : decode cX0_feed 89 = .ok (.getfield 46, 3) := dk_180 0 46 (dk_at dksX0_feed_3 19 rfl rfl)
theorem dX0_feed_92 : decode cX0_feed 92 = .ok (.getfield 191, 3) := dk_180 0 191 (dk_at dksX0_feed_4 0 rfl rfl)
theorem dX0_feed_95 : decode cX0_feed 95 = .ok (.ireturn, 1) := dk_172 (dk_at dksX0_feed_4 3 rfl rfl)
theorem dX0_feed_96 : decode cX0_feed 96 = .ok (.astore 4, 2) := dk_58 4 (dk_at dksX0_feed_4 4 rfl rfl)
theorem dX0_feed_98 : decode cX0_feed 98 = .ok (.aload_n 0, 1) := dk_42 (dk_at dksX0_feed_4 6 rfl rfl)
theorem dX0_feed_99 : decode cX0_feed 99 = .ok (.aload 4, 2) := dk_25 4 (dk_at dksX0_feed_4 7 rfl rfl)
theorem dX0_feed_101 : decode cX0_feed 101 = .ok (.invokevirtual 111, 3) := dk_182 0 111 (dk_at dksX0_feed_4 9 rfl rfl)
theorem dX0_feed_104 : decode cX0_feed 104 = .ok (.ireturn, 1) := dk_172 (dk_at dksX0_feed_4 12 rfl rfl)
abbrev cX0_text : ByteArray := prog_1_method_29_code
def yX0_text : MethodName := ⟨RX0, "text", "(I)I"⟩
def dkwX0_text_3 : List UInt8 := [180, 0, 217, 100, 172, 77, 42, 44, 182, 0, 111, 172]
abbrev dktX0_text_3 : List UInt8 := dkwX0_text_3 ++ []
def dkwX0_text_2 : List UInt8 := [18, 206, 42, 180, 0, 46, 180, 0, 194, 28, 183, 0, 208, 182, 0, 211, 83, 4, 172, 77, 16, 246, 44]
abbrev dktX0_text_2 : List UInt8 := dkwX0_text_2 ++ dktX0_text_3
def dkwX0_text_1 : List UInt8 := [181, 0, 191, 42, 180, 0, 46, 180, 0, 198, 27, 187, 0, 202, 89, 27, 154, 0, 8, 18, 204, 167, 0, 5]
abbrev dktX0_text_1 : List UInt8 := dkwX0_text_1 ++ dktX0_text_2
def dkwX0_text_0 : List UInt8 := [42, 27, 3, 4, 184, 0, 79, 4, 182, 0, 87, 42, 180, 0, 46, 180, 0, 191, 61, 42, 180, 0, 46, 3]
abbrev dktX0_text_0 : List UInt8 := dkwX0_text_0 ++ dktX0_text_1
theorem dksX0_text_0 : cX0_text.data.toList.drop 0 = dktX0_text_0 := by decide +kernel
theorem dksX0_text_1 : cX0_text.data.toList.drop 24 = dktX0_text_1 := dk_seg dksX0_text_0 24 rfl rfl
theorem dksX0_text_2 : cX0_text.data.toList.drop 48 = dktX0_text_2 := dk_seg dksX0_text_1 24 rfl rfl
theorem dksX0_text_3 : cX0_text.data.toList.drop 71 = dktX0_text_3 := dk_seg dksX0_text_2 23 rfl rfl
theorem dX0_text_0 : decode cX0_text 0 = .ok (.aload_n 0, 1) := dk_42 (dk_at dksX0_text_0 0 rfl rfl)
theorem dX0_text_1 : decode cX0_text 1 = .ok (.iload_n 1, 1) := dk_27 (dk_at dksX0_text_0 1 rfl rfl)
theorem dX0_text_2 : decode cX0_text 2 = .ok (.iconst 0, 1) := dk_3 (dk_at dksX0_text_0 2 rfl rfl)
theorem dX0_text_3 : decode cX0_text 3 = .ok (.iconst 1, 1) := dk_4 (dk_at dksX0_text_0 3 rfl rfl)
theorem dX0_text_4 : decode cX0_text 4 = .ok (.invokestatic 79, 3) := dk_184 0 79 (dk_at dksX0_text_0 4 rfl rfl)
theorem dX0_text_7 : decode cX0_text 7 = .ok (.iconst 1, 1) := dk_4 (dk_at dksX0_text_0 7 rfl rfl)
theorem dX0_text_8 : decode cX0_text 8 = .ok (.invokevirtual 87, 3) := dk_182 0 87 (dk_at dksX0_text_0 8 rfl rfl)
theorem dX0_text_11 : decode cX0_text 11 = .ok (.aload_n 0, 1) := dk_42 (dk_at dksX0_text_0 11 rfl rfl)
theorem dX0_text_12 : decode cX0_text 12 = .ok (.getfield 46, 3) := dk_180 0 46 (dk_at dksX0_text_0 12 rfl rfl)
theorem dX0_text_15 : decode cX0_text 15 = .ok (.getfield 191, 3) := dk_180 0 191 (dk_at dksX0_text_0 15 rfl rfl)
theorem dX0_text_18 : decode cX0_text 18 = .ok (.istore_n 2, 1) := dk_61 (dk_at dksX0_text_0 18 rfl rfl)
theorem dX0_text_19 : decode cX0_text 19 = .ok (.aload_n 0, 1) := dk_42 (dk_at dksX0_text_0 19 rfl rfl)
theorem dX0_text_20 : decode cX0_text 20 = .ok (.getfield 46, 3) := dk_180 0 46 (dk_at dksX0_text_0 20 rfl rfl)
theorem dX0_text_23 : decode cX0_text 23 = .ok (.iconst 0, 1) := dk_3 (dk_at dksX0_text_0 23 rfl rfl)
theorem dX0_text_24 : decode cX0_text 24 = .ok (.putfield 191, 3) := dk_181 0 191 (dk_at dksX0_text_1 0 rfl rfl)
theorem dX0_text_27 : decode cX0_text 27 = .ok (.aload_n 0, 1) := dk_42 (dk_at dksX0_text_1 3 rfl rfl)
theorem dX0_text_28 : decode cX0_text 28 = .ok (.getfield 46, 3) := dk_180 0 46 (dk_at dksX0_text_1 4 rfl rfl)
theorem dX0_text_31 : decode cX0_text 31 = .ok (.getfield 198, 3) := dk_180 0 198 (dk_at dksX0_text_1 7 rfl rfl)
theorem dX0_text_34 : decode cX0_text 34 = .ok (.iload_n 1, 1) := dk_27 (dk_at dksX0_text_1 10 rfl rfl)
theorem dX0_text_35 : decode cX0_text 35 = .ok (.new 202, 3) := dk_187 0 202 (dk_at dksX0_text_1 11 rfl rfl)
theorem dX0_text_38 : decode cX0_text 38 = .ok (.dup, 1) := dk_89 (dk_at dksX0_text_1 14 rfl rfl)
theorem dX0_text_39 : decode cX0_text 39 = .ok (.iload_n 1, 1) := dk_27 (dk_at dksX0_text_1 15 rfl rfl)
theorem dX0_text_40 : decode cX0_text 40 = .ok (.ifCond .ne 8, 3) := dk_154 0 8 (dk_at dksX0_text_1 16 rfl rfl)
theorem dX0_text_43 : decode cX0_text 43 = .ok (.ldc 204, 2) := dk_18 204 (dk_at dksX0_text_1 19 rfl rfl)
theorem dX0_text_45 : decode cX0_text 45 = .ok (.goto 5, 3) := dk_167 0 5 (dk_at dksX0_text_1 21 rfl rfl)
theorem dX0_text_48 : decode cX0_text 48 = .ok (.ldc 206, 2) := dk_18 206 (dk_at dksX0_text_2 0 rfl rfl)
theorem dX0_text_50 : decode cX0_text 50 = .ok (.aload_n 0, 1) := dk_42 (dk_at dksX0_text_2 2 rfl rfl)
theorem dX0_text_51 : decode cX0_text 51 = .ok (.getfield 46, 3) := dk_180 0 46 (dk_at dksX0_text_2 3 rfl rfl)
theorem dX0_text_54 : decode cX0_text 54 = .ok (.getfield 194, 3) := dk_180 0 194 (dk_at dksX0_text_2 6 rfl rfl)
theorem dX0_text_57 : decode cX0_text 57 = .ok (.iload_n 2, 1) := dk_28 (dk_at dksX0_text_2 9 rfl rfl)
theorem dX0_text_58 : decode cX0_text 58 = .ok (.invokespecial 208, 3) := dk_183 0 208 (dk_at dksX0_text_2 10 rfl rfl)
theorem dX0_text_61 : decode cX0_text 61 = .ok (.invokevirtual 211, 3) := dk_182 0 211 (dk_at dksX0_text_2 13 rfl rfl)
theorem dX0_text_64 : decode cX0_text 64 = .ok (.aastore, 1) := dk_83 (dk_at dksX0_text_2 16 rfl rfl)
theorem dX0_text_65 : decode cX0_text 65 = .ok (.iconst 1, 1) := dk_4 (dk_at dksX0_text_2 17 rfl rfl)
theorem dX0_text_66 : decode cX0_text 66 = .ok (.ireturn, 1) := dk_172 (dk_at dksX0_text_2 18 rfl rfl)
theorem dX0_text_67 : decode cX0_text 67 = .ok (.astore_n 2, 1) := dk_77 (dk_at dksX0_text_2 19 rfl rfl)
theorem dX0_text_68 : decode cX0_text 68 = .ok (.bipush (-10), 2) := dk_16 246 (dk_at dksX0_text_2 20 rfl rfl)
theorem dX0_text_70 : decode cX0_text 70 = .ok (.aload_n 2, 1) := dk_44 (dk_at dksX0_text_2 22 rfl rfl)
theorem dX0_text_71 : decode cX0_text 71 = .ok (.getfield 217, 3) := dk_180 0 217 (dk_at dksX0_text_3 0 rfl rfl)
theorem dX0_text_74 : decode cX0_text 74 = .ok (.isub, 1) := dk_100 (dk_at dksX0_text_3 3 rfl rfl)
theorem dX0_text_75 : decode cX0_text 75 = .ok (.ireturn, 1) := dk_172 (dk_at dksX0_text_3 4 rfl rfl)
theorem dX0_text_76 : decode cX0_text 76 = .ok (.astore_n 2, 1) := dk_77 (dk_at dksX0_text_3 5 rfl rfl)
theorem dX0_text_77 : decode cX0_text 77 = .ok (.aload_n 0, 1) := dk_42 (dk_at dksX0_text_3 6 rfl rfl)
theorem dX0_text_78 : decode cX0_text 78 = .ok (.aload_n 2, 1) := dk_44 (dk_at dksX0_text_3 7 rfl rfl)
theorem dX0_text_79 : decode cX0_text 79 = .ok (.invokevirtual 111, 3) := dk_182 0 111 (dk_at dksX0_text_3 8 rfl rfl)
theorem dX0_text_82 : decode cX0_text 82 = .ok (.ireturn, 1) := dk_172 (dk_at dksX0_text_3 11 rfl rfl)
abbrev cX0_law : ByteArray := prog_1_method_30_code
def yX0_law : MethodName := ⟨RX0, "law", "(IIII)I"⟩
def dkwX0_law_2 : List UInt8 := [182, 0, 111, 172]
abbrev dktX0_law_2 : List UInt8 := dkwX0_law_2 ++ []
def dkwX0_law_1 : List UInt8 := [182, 0, 220, 167, 0, 14, 42, 180, 0, 46, 28, 29, 21, 4, 182, 0, 224, 172, 58, 5, 42, 25, 5]
abbrev dktX0_law_1 : List UInt8 := dkwX0_law_1 ++ dktX0_law_2
def dkwX0_law_0 : List UInt8 := [42, 27, 3, 4, 184, 0, 79, 4, 182, 0, 87, 27, 154, 0, 17, 42, 180, 0, 46, 28, 29, 21, 4]
abbrev dktX0_law_0 : List UInt8 := dkwX0_law_0 ++ dktX0_law_1
theorem dksX0_law_0 : cX0_law.data.toList.drop 0 = dktX0_law_0 := by decide +kernel
theorem dksX0_law_1 : cX0_law.data.toList.drop 23 = dktX0_law_1 := dk_seg dksX0_law_0 23 rfl rfl
theorem dksX0_law_2 : cX0_law.data.toList.drop 46 = dktX0_law_2 := dk_seg dksX0_law_1 23 rfl rfl
theorem dX0_law_0 : decode cX0_law 0 = .ok (.aload_n 0, 1) := dk_42 (dk_at dksX0_law_0 0 rfl rfl)
theorem dX0_law_1 : decode cX0_law 1 = .ok (.iload_n 1, 1) := dk_27 (dk_at dksX0_law_0 1 rfl rfl)
theorem dX0_law_2 : decode cX0_law 2 = .ok (.iconst 0, 1) := dk_3 (dk_at dksX0_law_0 2 rfl rfl)
theorem dX0_law_3 : decode cX0_law 3 = .ok (.iconst 1, 1) := dk_4 (dk_at dksX0_law_0 3 rfl rfl)
theorem dX0_law_4 : decode cX0_law 4 = .ok (.invokestatic 79, 3) := dk_184 0 79 (dk_at dksX0_law_0 4 rfl rfl)
theorem dX0_law_7 : decode cX0_law 7 = .ok (.iconst 1, 1) := dk_4 (dk_at dksX0_law_0 7 rfl rfl)
theorem dX0_law_8 : decode cX0_law 8 = .ok (.invokevirtual 87, 3) := dk_182 0 87 (dk_at dksX0_law_0 8 rfl rfl)
theorem dX0_law_11 : decode cX0_law 11 = .ok (.iload_n 1, 1) := dk_27 (dk_at dksX0_law_0 11 rfl rfl)
theorem dX0_law_12 : decode cX0_law 12 = .ok (.ifCond .ne 17, 3) := dk_154 0 17 (dk_at dksX0_law_0 12 rfl rfl)
theorem dX0_law_15 : decode cX0_law 15 = .ok (.aload_n 0, 1) := dk_42 (dk_at dksX0_law_0 15 rfl rfl)
theorem dX0_law_16 : decode cX0_law 16 = .ok (.getfield 46, 3) := dk_180 0 46 (dk_at dksX0_law_0 16 rfl rfl)
theorem dX0_law_19 : decode cX0_law 19 = .ok (.iload_n 2, 1) := dk_28 (dk_at dksX0_law_0 19 rfl rfl)
theorem dX0_law_20 : decode cX0_law 20 = .ok (.iload_n 3, 1) := dk_29 (dk_at dksX0_law_0 20 rfl rfl)
theorem dX0_law_21 : decode cX0_law 21 = .ok (.iload 4, 2) := dk_21 4 (dk_at dksX0_law_0 21 rfl rfl)
theorem dX0_law_23 : decode cX0_law 23 = .ok (.invokevirtual 220, 3) := dk_182 0 220 (dk_at dksX0_law_1 0 rfl rfl)
theorem dX0_law_26 : decode cX0_law 26 = .ok (.goto 14, 3) := dk_167 0 14 (dk_at dksX0_law_1 3 rfl rfl)
theorem dX0_law_29 : decode cX0_law 29 = .ok (.aload_n 0, 1) := dk_42 (dk_at dksX0_law_1 6 rfl rfl)
theorem dX0_law_30 : decode cX0_law 30 = .ok (.getfield 46, 3) := dk_180 0 46 (dk_at dksX0_law_1 7 rfl rfl)
theorem dX0_law_33 : decode cX0_law 33 = .ok (.iload_n 2, 1) := dk_28 (dk_at dksX0_law_1 10 rfl rfl)
theorem dX0_law_34 : decode cX0_law 34 = .ok (.iload_n 3, 1) := dk_29 (dk_at dksX0_law_1 11 rfl rfl)
theorem dX0_law_35 : decode cX0_law 35 = .ok (.iload 4, 2) := dk_21 4 (dk_at dksX0_law_1 12 rfl rfl)
theorem dX0_law_37 : decode cX0_law 37 = .ok (.invokevirtual 224, 3) := dk_182 0 224 (dk_at dksX0_law_1 14 rfl rfl)
theorem dX0_law_40 : decode cX0_law 40 = .ok (.ireturn, 1) := dk_172 (dk_at dksX0_law_1 17 rfl rfl)
theorem dX0_law_41 : decode cX0_law 41 = .ok (.astore 5, 2) := dk_58 5 (dk_at dksX0_law_1 18 rfl rfl)
theorem dX0_law_43 : decode cX0_law 43 = .ok (.aload_n 0, 1) := dk_42 (dk_at dksX0_law_1 20 rfl rfl)
theorem dX0_law_44 : decode cX0_law 44 = .ok (.aload 5, 2) := dk_25 5 (dk_at dksX0_law_1 21 rfl rfl)
theorem dX0_law_46 : decode cX0_law 46 = .ok (.invokevirtual 111, 3) := dk_182 0 111 (dk_at dksX0_law_2 0 rfl rfl)
theorem dX0_law_49 : decode cX0_law 49 = .ok (.ireturn, 1) := dk_172 (dk_at dksX0_law_2 3 rfl rfl)
abbrev cX0_hours : ByteArray := prog_1_method_32_code
def yX0_hours : MethodName := ⟨RX0, "hours", "(I)I"⟩
def dkwX0_hours_1 : List UInt8 := [182, 0, 111, 172]
abbrev dktX0_hours_1 : List UInt8 := dkwX0_hours_1 ++ []
def dkwX0_hours_0 : List UInt8 := [42, 27, 16, 60, 182, 0, 230, 42, 180, 0, 46, 27, 182, 0, 234, 182, 0, 238, 172, 77, 42, 44]
abbrev dktX0_hours_0 : List UInt8 := dkwX0_hours_0 ++ dktX0_hours_1
theorem dksX0_hours_0 : cX0_hours.data.toList.drop 0 = dktX0_hours_0 := by decide +kernel
theorem dksX0_hours_1 : cX0_hours.data.toList.drop 22 = dktX0_hours_1 := dk_seg dksX0_hours_0 22 rfl rfl
theorem dX0_hours_0 : decode cX0_hours 0 = .ok (.aload_n 0, 1) := dk_42 (dk_at dksX0_hours_0 0 rfl rfl)
theorem dX0_hours_1 : decode cX0_hours 1 = .ok (.iload_n 1, 1) := dk_27 (dk_at dksX0_hours_0 1 rfl rfl)
theorem dX0_hours_2 : decode cX0_hours 2 = .ok (.bipush 60, 2) := dk_16 60 (dk_at dksX0_hours_0 2 rfl rfl)
theorem dX0_hours_4 : decode cX0_hours 4 = .ok (.invokevirtual 230, 3) := dk_182 0 230 (dk_at dksX0_hours_0 4 rfl rfl)
theorem dX0_hours_7 : decode cX0_hours 7 = .ok (.aload_n 0, 1) := dk_42 (dk_at dksX0_hours_0 7 rfl rfl)
theorem dX0_hours_8 : decode cX0_hours 8 = .ok (.getfield 46, 3) := dk_180 0 46 (dk_at dksX0_hours_0 8 rfl rfl)
theorem dX0_hours_11 : decode cX0_hours 11 = .ok (.iload_n 1, 1) := dk_27 (dk_at dksX0_hours_0 11 rfl rfl)
theorem dX0_hours_12 : decode cX0_hours 12 = .ok (.invokevirtual 234, 3) := dk_182 0 234 (dk_at dksX0_hours_0 12 rfl rfl)
theorem dX0_hours_15 : decode cX0_hours 15 = .ok (.invokevirtual 238, 3) := dk_182 0 238 (dk_at dksX0_hours_0 15 rfl rfl)
theorem dX0_hours_18 : decode cX0_hours 18 = .ok (.ireturn, 1) := dk_172 (dk_at dksX0_hours_0 18 rfl rfl)
theorem dX0_hours_19 : decode cX0_hours 19 = .ok (.astore_n 2, 1) := dk_77 (dk_at dksX0_hours_0 19 rfl rfl)
theorem dX0_hours_20 : decode cX0_hours 20 = .ok (.aload_n 0, 1) := dk_42 (dk_at dksX0_hours_0 20 rfl rfl)
theorem dX0_hours_21 : decode cX0_hours 21 = .ok (.aload_n 2, 1) := dk_44 (dk_at dksX0_hours_0 21 rfl rfl)
theorem dX0_hours_22 : decode cX0_hours 22 = .ok (.invokevirtual 111, 3) := dk_182 0 111 (dk_at dksX0_hours_1 0 rfl rfl)
theorem dX0_hours_25 : decode cX0_hours 25 = .ok (.ireturn, 1) := dk_172 (dk_at dksX0_hours_1 3 rfl rfl)
abbrev cX0_mustGo : ByteArray := prog_1_method_31_code
def yX0_mustGo : MethodName := ⟨RX0, "mustGo", "(II)V"⟩
def dkwX0_mustGo_1 : List UInt8 := [163, 0, 7, 4, 167, 0, 4, 3, 6, 182, 0, 87, 177]
abbrev dktX0_mustGo_1 : List UInt8 := dkwX0_mustGo_1 ++ []
def dkwX0_mustGo_0 : List UInt8 := [42, 27, 4, 28, 184, 0, 79, 4, 182, 0, 87, 42, 42, 180, 0, 46, 180, 0, 227, 27, 96, 17, 39, 15]
abbrev dktX0_mustGo_0 : List UInt8 := dkwX0_mustGo_0 ++ dktX0_mustGo_1
theorem dksX0_mustGo_0 : cX0_mustGo.data.toList.drop 0 = dktX0_mustGo_0 := by decide +kernel
theorem dksX0_mustGo_1 : cX0_mustGo.data.toList.drop 24 = dktX0_mustGo_1 := dk_seg dksX0_mustGo_0 24 rfl rfl
theorem dX0_mustGo_0 : decode cX0_mustGo 0 = .ok (.aload_n 0, 1) := dk_42 (dk_at dksX0_mustGo_0 0 rfl rfl)
theorem dX0_mustGo_1 : decode cX0_mustGo 1 = .ok (.iload_n 1, 1) := dk_27 (dk_at dksX0_mustGo_0 1 rfl rfl)
theorem dX0_mustGo_2 : decode cX0_mustGo 2 = .ok (.iconst 1, 1) := dk_4 (dk_at dksX0_mustGo_0 2 rfl rfl)
theorem dX0_mustGo_3 : decode cX0_mustGo 3 = .ok (.iload_n 2, 1) := dk_28 (dk_at dksX0_mustGo_0 3 rfl rfl)
theorem dX0_mustGo_4 : decode cX0_mustGo 4 = .ok (.invokestatic 79, 3) := dk_184 0 79 (dk_at dksX0_mustGo_0 4 rfl rfl)
theorem dX0_mustGo_7 : decode cX0_mustGo 7 = .ok (.iconst 1, 1) := dk_4 (dk_at dksX0_mustGo_0 7 rfl rfl)
theorem dX0_mustGo_8 : decode cX0_mustGo 8 = .ok (.invokevirtual 87, 3) := dk_182 0 87 (dk_at dksX0_mustGo_0 8 rfl rfl)
theorem dX0_mustGo_11 : decode cX0_mustGo 11 = .ok (.aload_n 0, 1) := dk_42 (dk_at dksX0_mustGo_0 11 rfl rfl)
theorem dX0_mustGo_12 : decode cX0_mustGo 12 = .ok (.aload_n 0, 1) := dk_42 (dk_at dksX0_mustGo_0 12 rfl rfl)
theorem dX0_mustGo_13 : decode cX0_mustGo 13 = .ok (.getfield 46, 3) := dk_180 0 46 (dk_at dksX0_mustGo_0 13 rfl rfl)
theorem dX0_mustGo_16 : decode cX0_mustGo 16 = .ok (.getfield 227, 3) := dk_180 0 227 (dk_at dksX0_mustGo_0 16 rfl rfl)
theorem dX0_mustGo_19 : decode cX0_mustGo 19 = .ok (.iload_n 1, 1) := dk_27 (dk_at dksX0_mustGo_0 19 rfl rfl)
theorem dX0_mustGo_20 : decode cX0_mustGo 20 = .ok (.iadd, 1) := dk_96 (dk_at dksX0_mustGo_0 20 rfl rfl)
theorem dX0_mustGo_21 : decode cX0_mustGo 21 = .ok (.sipush 9999, 3) := dk_17 39 15 (dk_at dksX0_mustGo_0 21 rfl rfl)
theorem dX0_mustGo_24 : decode cX0_mustGo 24 = .ok (.if_icmp .gt 7, 3) := dk_163 0 7 (dk_at dksX0_mustGo_1 0 rfl rfl)
theorem dX0_mustGo_27 : decode cX0_mustGo 27 = .ok (.iconst 1, 1) := dk_4 (dk_at dksX0_mustGo_1 3 rfl rfl)
theorem dX0_mustGo_28 : decode cX0_mustGo 28 = .ok (.goto 4, 3) := dk_167 0 4 (dk_at dksX0_mustGo_1 4 rfl rfl)
theorem dX0_mustGo_31 : decode cX0_mustGo 31 = .ok (.iconst 0, 1) := dk_3 (dk_at dksX0_mustGo_1 7 rfl rfl)
theorem dX0_mustGo_32 : decode cX0_mustGo 32 = .ok (.iconst 3, 1) := dk_6 (dk_at dksX0_mustGo_1 8 rfl rfl)
theorem dX0_mustGo_33 : decode cX0_mustGo 33 = .ok (.invokevirtual 87, 3) := dk_182 0 87 (dk_at dksX0_mustGo_1 9 rfl rfl)
theorem dX0_mustGo_36 : decode cX0_mustGo 36 = .ok (.return_, 1) := dk_177 (dk_at dksX0_mustGo_1 12 rfl rfl)
abbrev cX0_loose : ByteArray := prog_1_method_33_code
def yX0_loose : MethodName := ⟨RX0, "loose", "(I)I"⟩
def dkwX0_loose_1 : List UInt8 := [167, 255, 241, 42, 180, 0, 46, 182, 0, 238, 172, 77, 42, 44, 182, 0, 111, 172]
abbrev dktX0_loose_1 : List UInt8 := dkwX0_loose_1 ++ []
def dkwX0_loose_0 : List UInt8 := [42, 27, 16, 40, 182, 0, 230, 3, 61, 28, 27, 162, 0, 16, 42, 180, 0, 46, 182, 0, 241, 132, 2, 1]
abbrev dktX0_loose_0 : List UInt8 := dkwX0_loose_0 ++ dktX0_loose_1
theorem dksX0_loose_0 : cX0_loose.data.toList.drop 0 = dktX0_loose_0 := by decide +kernel
theorem dksX0_loose_1 : cX0_loose.data.toList.drop 24 = dktX0_loose_1 := dk_seg dksX0_loose_0 24 rfl rfl
theorem dX0_loose_0 : decode cX0_loose 0 = .ok (.aload_n 0, 1) := dk_42 (dk_at dksX0_loose_0 0 rfl rfl)
theorem dX0_loose_1 : decode cX0_loose 1 = .ok (.iload_n 1, 1) := dk_27 (dk_at dksX0_loose_0 1 rfl rfl)
theorem dX0_loose_2 : decode cX0_loose 2 = .ok (.bipush 40, 2) := dk_16 40 (dk_at dksX0_loose_0 2 rfl rfl)
theorem dX0_loose_4 : decode cX0_loose 4 = .ok (.invokevirtual 230, 3) := dk_182 0 230 (dk_at dksX0_loose_0 4 rfl rfl)
theorem dX0_loose_7 : decode cX0_loose 7 = .ok (.iconst 0, 1) := dk_3 (dk_at dksX0_loose_0 7 rfl rfl)
theorem dX0_loose_8 : decode cX0_loose 8 = .ok (.istore_n 2, 1) := dk_61 (dk_at dksX0_loose_0 8 rfl rfl)
theorem dX0_loose_9 : decode cX0_loose 9 = .ok (.iload_n 2, 1) := dk_28 (dk_at dksX0_loose_0 9 rfl rfl)
theorem dX0_loose_10 : decode cX0_loose 10 = .ok (.iload_n 1, 1) := dk_27 (dk_at dksX0_loose_0 10 rfl rfl)
theorem dX0_loose_11 : decode cX0_loose 11 = .ok (.if_icmp .ge 16, 3) := dk_162 0 16 (dk_at dksX0_loose_0 11 rfl rfl)
theorem dX0_loose_14 : decode cX0_loose 14 = .ok (.aload_n 0, 1) := dk_42 (dk_at dksX0_loose_0 14 rfl rfl)
theorem dX0_loose_15 : decode cX0_loose 15 = .ok (.getfield 46, 3) := dk_180 0 46 (dk_at dksX0_loose_0 15 rfl rfl)
theorem dX0_loose_18 : decode cX0_loose 18 = .ok (.invokevirtual 241, 3) := dk_182 0 241 (dk_at dksX0_loose_0 18 rfl rfl)
theorem dX0_loose_21 : decode cX0_loose 21 = .ok (.iinc 2 1, 3) := dk_132 2 1 (dk_at dksX0_loose_0 21 rfl rfl)
theorem dX0_loose_24 : decode cX0_loose 24 = .ok (.goto (-15), 3) := dk_167 255 241 (dk_at dksX0_loose_1 0 rfl rfl)
theorem dX0_loose_27 : decode cX0_loose 27 = .ok (.aload_n 0, 1) := dk_42 (dk_at dksX0_loose_1 3 rfl rfl)
theorem dX0_loose_28 : decode cX0_loose 28 = .ok (.getfield 46, 3) := dk_180 0 46 (dk_at dksX0_loose_1 4 rfl rfl)
theorem dX0_loose_31 : decode cX0_loose 31 = .ok (.invokevirtual 238, 3) := dk_182 0 238 (dk_at dksX0_loose_1 7 rfl rfl)
theorem dX0_loose_34 : decode cX0_loose 34 = .ok (.ireturn, 1) := dk_172 (dk_at dksX0_loose_1 10 rfl rfl)
theorem dX0_loose_35 : decode cX0_loose 35 = .ok (.astore_n 2, 1) := dk_77 (dk_at dksX0_loose_1 11 rfl rfl)
theorem dX0_loose_36 : decode cX0_loose 36 = .ok (.aload_n 0, 1) := dk_42 (dk_at dksX0_loose_1 12 rfl rfl)
theorem dX0_loose_37 : decode cX0_loose 37 = .ok (.aload_n 2, 1) := dk_44 (dk_at dksX0_loose_1 13 rfl rfl)
theorem dX0_loose_38 : decode cX0_loose 38 = .ok (.invokevirtual 111, 3) := dk_182 0 111 (dk_at dksX0_loose_1 14 rfl rfl)
theorem dX0_loose_41 : decode cX0_loose 41 = .ok (.ireturn, 1) := dk_172 (dk_at dksX0_loose_1 17 rfl rfl)
abbrev cX0_depth : ByteArray := prog_1_method_34_code
def yX0_depth : MethodName := ⟨RX0, "depth", "(II)I"⟩
def dkwX0_depth_2 : List UInt8 := [172]
abbrev dktX0_depth_2 : List UInt8 := dkwX0_depth_2 ++ []
def dkwX0_depth_1 : List UInt8 := [167, 0, 4, 3, 4, 182, 0, 87, 42, 180, 0, 46, 27, 28, 182, 0, 244, 172, 78, 42, 45, 182, 0, 111]
abbrev dktX0_depth_1 : List UInt8 := dkwX0_depth_1 ++ dktX0_depth_2
def dkwX0_depth_0 : List UInt8 := [42, 42, 27, 182, 0, 115, 153, 0, 19, 28, 16, 157, 17, 3, 231, 184, 0, 79, 153, 0, 7, 4]
abbrev dktX0_depth_0 : List UInt8 := dkwX0_depth_0 ++ dktX0_depth_1
theorem dksX0_depth_0 : cX0_depth.data.toList.drop 0 = dktX0_depth_0 := by decide +kernel
theorem dksX0_depth_1 : cX0_depth.data.toList.drop 22 = dktX0_depth_1 := dk_seg dksX0_depth_0 22 rfl rfl
theorem dksX0_depth_2 : cX0_depth.data.toList.drop 46 = dktX0_depth_2 := dk_seg dksX0_depth_1 24 rfl rfl
theorem dX0_depth_0 : decode cX0_depth 0 = .ok (.aload_n 0, 1) := dk_42 (dk_at dksX0_depth_0 0 rfl rfl)
theorem dX0_depth_1 : decode cX0_depth 1 = .ok (.aload_n 0, 1) := dk_42 (dk_at dksX0_depth_0 1 rfl rfl)
theorem dX0_depth_2 : decode cX0_depth 2 = .ok (.iload_n 1, 1) := dk_27 (dk_at dksX0_depth_0 2 rfl rfl)
theorem dX0_depth_3 : decode cX0_depth 3 = .ok (.invokevirtual 115, 3) := dk_182 0 115 (dk_at dksX0_depth_0 3 rfl rfl)
theorem dX0_depth_6 : decode cX0_depth 6 = .ok (.ifCond .eq 19, 3) := dk_153 0 19 (dk_at dksX0_depth_0 6 rfl rfl)
theorem dX0_depth_9 : decode cX0_depth 9 = .ok (.iload_n 2, 1) := dk_28 (dk_at dksX0_depth_0 9 rfl rfl)
theorem dX0_depth_10 : decode cX0_depth 10 = .ok (.bipush (-99), 2) := dk_16 157 (dk_at dksX0_depth_0 10 rfl rfl)
theorem dX0_depth_12 : decode cX0_depth 12 = .ok (.sipush 999, 3) := dk_17 3 231 (dk_at dksX0_depth_0 12 rfl rfl)
theorem dX0_depth_15 : decode cX0_depth 15 = .ok (.invokestatic 79, 3) := dk_184 0 79 (dk_at dksX0_depth_0 15 rfl rfl)
theorem dX0_depth_18 : decode cX0_depth 18 = .ok (.ifCond .eq 7, 3) := dk_153 0 7 (dk_at dksX0_depth_0 18 rfl rfl)
theorem dX0_depth_21 : decode cX0_depth 21 = .ok (.iconst 1, 1) := dk_4 (dk_at dksX0_depth_0 21 rfl rfl)
theorem dX0_depth_22 : decode cX0_depth 22 = .ok (.goto 4, 3) := dk_167 0 4 (dk_at dksX0_depth_1 0 rfl rfl)
theorem dX0_depth_25 : decode cX0_depth 25 = .ok (.iconst 0, 1) := dk_3 (dk_at dksX0_depth_1 3 rfl rfl)
theorem dX0_depth_26 : decode cX0_depth 26 = .ok (.iconst 1, 1) := dk_4 (dk_at dksX0_depth_1 4 rfl rfl)
theorem dX0_depth_27 : decode cX0_depth 27 = .ok (.invokevirtual 87, 3) := dk_182 0 87 (dk_at dksX0_depth_1 5 rfl rfl)
theorem dX0_depth_30 : decode cX0_depth 30 = .ok (.aload_n 0, 1) := dk_42 (dk_at dksX0_depth_1 8 rfl rfl)
theorem dX0_depth_31 : decode cX0_depth 31 = .ok (.getfield 46, 3) := dk_180 0 46 (dk_at dksX0_depth_1 9 rfl rfl)
theorem dX0_depth_34 : decode cX0_depth 34 = .ok (.iload_n 1, 1) := dk_27 (dk_at dksX0_depth_1 12 rfl rfl)
theorem dX0_depth_35 : decode cX0_depth 35 = .ok (.iload_n 2, 1) := dk_28 (dk_at dksX0_depth_1 13 rfl rfl)
theorem dX0_depth_36 : decode cX0_depth 36 = .ok (.invokevirtual 244, 3) := dk_182 0 244 (dk_at dksX0_depth_1 14 rfl rfl)
theorem dX0_depth_39 : decode cX0_depth 39 = .ok (.ireturn, 1) := dk_172 (dk_at dksX0_depth_1 17 rfl rfl)
theorem dX0_depth_40 : decode cX0_depth 40 = .ok (.astore_n 3, 1) := dk_78 (dk_at dksX0_depth_1 18 rfl rfl)
theorem dX0_depth_41 : decode cX0_depth 41 = .ok (.aload_n 0, 1) := dk_42 (dk_at dksX0_depth_1 19 rfl rfl)
theorem dX0_depth_42 : decode cX0_depth 42 = .ok (.aload_n 3, 1) := dk_45 (dk_at dksX0_depth_1 20 rfl rfl)
theorem dX0_depth_43 : decode cX0_depth 43 = .ok (.invokevirtual 111, 3) := dk_182 0 111 (dk_at dksX0_depth_1 21 rfl rfl)
theorem dX0_depth_46 : decode cX0_depth 46 = .ok (.ireturn, 1) := dk_172 (dk_at dksX0_depth_2 0 rfl rfl)
abbrev cX0_then : ByteArray := prog_1_method_35_code
def yX0_then : MethodName := ⟨RX0, "then", "(III)I"⟩
def dkwX0_then_3 : List UInt8 := [180, 0, 161, 28, 46, 172, 58, 4, 42, 25, 4, 182, 0, 111, 172]
abbrev dktX0_then_3 : List UInt8 := dkwX0_then_3 ++ []
def dkwX0_then_2 : List UInt8 := [182, 0, 234, 87, 29, 154, 0, 15, 42, 180, 0, 53, 180, 0, 158, 28, 46, 167, 0, 12, 42, 180, 0, 53]
abbrev dktX0_then_2 : List UInt8 := dkwX0_then_2 ++ dktX0_then_3
def dkwX0_then_1 : List UInt8 := [153, 0, 7, 4, 167, 0, 4, 3, 4, 182, 0, 87, 42, 180, 0, 53, 42, 180, 0, 46, 182, 0, 250, 27]
abbrev dktX0_then_1 : List UInt8 := dkwX0_then_1 ++ dktX0_then_2
def dkwX0_then_0 : List UInt8 := [42, 27, 184, 0, 247, 153, 0, 24, 42, 28, 182, 0, 182, 153, 0, 16, 29, 3, 4, 184, 0, 79]
abbrev dktX0_then_0 : List UInt8 := dkwX0_then_0 ++ dktX0_then_1
theorem dksX0_then_0 : cX0_then.data.toList.drop 0 = dktX0_then_0 := by decide +kernel
theorem dksX0_then_1 : cX0_then.data.toList.drop 22 = dktX0_then_1 := dk_seg dksX0_then_0 22 rfl rfl
theorem dksX0_then_2 : cX0_then.data.toList.drop 46 = dktX0_then_2 := dk_seg dksX0_then_1 24 rfl rfl
theorem dksX0_then_3 : cX0_then.data.toList.drop 70 = dktX0_then_3 := dk_seg dksX0_then_2 24 rfl rfl
theorem dX0_then_0 : decode cX0_then 0 = .ok (.aload_n 0, 1) := dk_42 (dk_at dksX0_then_0 0 rfl rfl)
theorem dX0_then_1 : decode cX0_then 1 = .ok (.iload_n 1, 1) := dk_27 (dk_at dksX0_then_0 1 rfl rfl)
theorem dX0_then_2 : decode cX0_then 2 = .ok (.invokestatic 247, 3) := dk_184 0 247 (dk_at dksX0_then_0 2 rfl rfl)
theorem dX0_then_5 : decode cX0_then 5 = .ok (.ifCond .eq 24, 3) := dk_153 0 24 (dk_at dksX0_then_0 5 rfl rfl)
theorem dX0_then_8 : decode cX0_then 8 = .ok (.aload_n 0, 1) := dk_42 (dk_at dksX0_then_0 8 rfl rfl)
theorem dX0_then_9 : decode cX0_then 9 = .ok (.iload_n 2, 1) := dk_28 (dk_at dksX0_then_0 9 rfl rfl)
theorem dX0_then_10 : decode cX0_then 10 = .ok (.invokevirtual 182, 3) := dk_182 0 182 (dk_at dksX0_then_0 10 rfl rfl)
theorem dX0_then_13 : decode cX0_then 13 = .ok (.ifCond .eq 16, 3) := dk_153 0 16 (dk_at dksX0_then_0 13 rfl rfl)
theorem dX0_then_16 : decode cX0_then 16 = .ok (.iload_n 3, 1) := dk_29 (dk_at dksX0_then_0 16 rfl rfl)
theorem dX0_then_17 : decode cX0_then 17 = .ok (.iconst 0, 1) := dk_3 (dk_at dksX0_then_0 17 rfl rfl)
theorem dX0_then_18 : decode cX0_then 18 = .ok (.iconst 1, 1) := dk_4 (dk_at dksX0_then_0 18 rfl rfl)
theorem dX0_then_19 : decode cX0_then 19 = .ok (.invokestatic 79, 3) := dk_184 0 79 (dk_at dksX0_then_0 19 rfl rfl)
theorem dX0_then_22 : decode cX0_then 22 = .ok (.ifCond .eq 7, 3) := dk_153 0 7 (dk_at dksX0_then_1 0 rfl rfl)
theorem dX0_then_25 : decode cX0_then 25 = .ok (.iconst 1, 1) := dk_4 (dk_at dksX0_then_1 3 rfl rfl)
theorem dX0_then_26 : decode cX0_then 26 = .ok (.goto 4, 3) := dk_167 0 4 (dk_at dksX0_then_1 4 rfl rfl)
theorem dX0_then_29 : decode cX0_then 29 = .ok (.iconst 0, 1) := dk_3 (dk_at dksX0_then_1 7 rfl rfl)
theorem dX0_then_30 : decode cX0_then 30 = .ok (.iconst 1, 1) := dk_4 (dk_at dksX0_then_1 8 rfl rfl)
theorem dX0_then_31 : decode cX0_then 31 = .ok (.invokevirtual 87, 3) := dk_182 0 87 (dk_at dksX0_then_1 9 rfl rfl)
theorem dX0_then_34 : decode cX0_then 34 = .ok (.aload_n 0, 1) := dk_42 (dk_at dksX0_then_1 12 rfl rfl)
theorem dX0_then_35 : decode cX0_then 35 = .ok (.getfield 53, 3) := dk_180 0 53 (dk_at dksX0_then_1 13 rfl rfl)
theorem dX0_then_38 : decode cX0_then 38 = .ok (.aload_n 0, 1) := dk_42 (dk_at dksX0_then_1 16 rfl rfl)
theorem dX0_then_39 : decode cX0_then 39 = .ok (.getfield 46, 3) := dk_180 0 46 (dk_at dksX0_then_1 17 rfl rfl)
theorem dX0_then_42 : decode cX0_then 42 = .ok (.invokevirtual 250, 3) := dk_182 0 250 (dk_at dksX0_then_1 20 rfl rfl)
theorem dX0_then_45 : decode cX0_then 45 = .ok (.iload_n 1, 1) := dk_27 (dk_at dksX0_then_1 23 rfl rfl)
theorem dX0_then_46 : decode cX0_then 46 = .ok (.invokevirtual 234, 3) := dk_182 0 234 (dk_at dksX0_then_2 0 rfl rfl)
theorem dX0_then_49 : decode cX0_then 49 = .ok (.pop, 1) := dk_87 (dk_at dksX0_then_2 3 rfl rfl)
theorem dX0_then_50 : decode cX0_then 50 = .ok (.iload_n 3, 1) := dk_29 (dk_at dksX0_then_2 4 rfl rfl)
theorem dX0_then_51 : decode cX0_then 51 = .ok (.ifCond .ne 15, 3) := dk_154 0 15 (dk_at dksX0_then_2 5 rfl rfl)
theorem dX0_then_54 : decode cX0_then 54 = .ok (.aload_n 0, 1) := dk_42 (dk_at dksX0_then_2 8 rfl rfl)
theorem dX0_then_55 : decode cX0_then 55 = .ok (.getfield 53, 3) := dk_180 0 53 (dk_at dksX0_then_2 9 rfl rfl)
theorem dX0_then_58 : decode cX0_then 58 = .ok (.getfield 158, 3) := dk_180 0 158 (dk_at dksX0_then_2 12 rfl rfl)
theorem dX0_then_61 : decode cX0_then 61 = .ok (.iload_n 2, 1) := dk_28 (dk_at dksX0_then_2 15 rfl rfl)
theorem dX0_then_62 : decode cX0_then 62 = .ok (.iaload, 1) := dk_46 (dk_at dksX0_then_2 16 rfl rfl)
theorem dX0_then_63 : decode cX0_then 63 = .ok (.goto 12, 3) := dk_167 0 12 (dk_at dksX0_then_2 17 rfl rfl)
theorem dX0_then_66 : decode cX0_then 66 = .ok (.aload_n 0, 1) := dk_42 (dk_at dksX0_then_2 20 rfl rfl)
theorem dX0_then_67 : decode cX0_then 67 = .ok (.getfield 53, 3) := dk_180 0 53 (dk_at dksX0_then_2 21 rfl rfl)
theorem dX0_then_70 : decode cX0_then 70 = .ok (.getfield 161, 3) := dk_180 0 161 (dk_at dksX0_then_3 0 rfl rfl)
theorem dX0_then_73 : decode cX0_then 73 = .ok (.iload_n 2, 1) := dk_28 (dk_at dksX0_then_3 3 rfl rfl)
theorem dX0_then_74 : decode cX0_then 74 = .ok (.iaload, 1) := dk_46 (dk_at dksX0_then_3 4 rfl rfl)
theorem dX0_then_75 : decode cX0_then 75 = .ok (.ireturn, 1) := dk_172 (dk_at dksX0_then_3 5 rfl rfl)
theorem dX0_then_76 : decode cX0_then 76 = .ok (.astore 4, 2) := dk_58 4 (dk_at dksX0_then_3 6 rfl rfl)
theorem dX0_then_78 : decode cX0_then 78 = .ok (.aload_n 0, 1) := dk_42 (dk_at dksX0_then_3 8 rfl rfl)
theorem dX0_then_79 : decode cX0_then 79 = .ok (.aload 4, 2) := dk_25 4 (dk_at dksX0_then_3 9 rfl rfl)
theorem dX0_then_81 : decode cX0_then 81 = .ok (.invokevirtual 111, 3) := dk_182 0 111 (dk_at dksX0_then_3 11 rfl rfl)
theorem dX0_then_84 : decode cX0_then 84 = .ok (.ireturn, 1) := dk_172 (dk_at dksX0_then_3 14 rfl rfl)
abbrev cX0_isAhead : ByteArray := prog_1_method_7_code
def yX0_isAhead : MethodName := ⟨RX0, "isAhead", "(I)Z"⟩
def dkwX0_isAhead_0 : List UInt8 := [26, 3, 16, 60, 184, 0, 79, 172]
abbrev dktX0_isAhead_0 : List UInt8 := dkwX0_isAhead_0 ++ []
theorem dksX0_isAhead_0 : cX0_isAhead.data.toList.drop 0 = dktX0_isAhead_0 := by decide +kernel
theorem dX0_isAhead_0 : decode cX0_isAhead 0 = .ok (.iload_n 0, 1) := dk_26 (dk_at dksX0_isAhead_0 0 rfl rfl)
theorem dX0_isAhead_1 : decode cX0_isAhead 1 = .ok (.iconst 0, 1) := dk_3 (dk_at dksX0_isAhead_0 1 rfl rfl)
theorem dX0_isAhead_2 : decode cX0_isAhead 2 = .ok (.bipush 60, 2) := dk_16 60 (dk_at dksX0_isAhead_0 2 rfl rfl)
theorem dX0_isAhead_4 : decode cX0_isAhead 4 = .ok (.invokestatic 79, 3) := dk_184 0 79 (dk_at dksX0_isAhead_0 4 rfl rfl)
theorem dX0_isAhead_7 : decode cX0_isAhead 7 = .ok (.ireturn, 1) := dk_172 (dk_at dksX0_isAhead_0 7 rfl rfl)
abbrev cX0_lost : ByteArray := prog_1_method_36_code
def yX0_lost : MethodName := ⟨RX0, "lost", "(I)I"⟩
def dkwX0_lost_4 : List UInt8 := [2, 130, 126, 184, 1, 4, 172, 77, 42, 44, 182, 0, 111, 172]
abbrev dktX0_lost_4 : List UInt8 := dkwX0_lost_4 ++ []
def dkwX0_lost_3 : List UInt8 := [167, 0, 4, 3, 5, 182, 0, 87, 27, 154, 0, 7, 29, 167, 0, 17, 42, 180, 0, 53, 182, 0, 254, 28]
abbrev dktX0_lost_3 : List UInt8 := dkwX0_lost_3 ++ dktX0_lost_4
def dkwX0_lost_2 : List UInt8 := [160, 0, 16, 42, 180, 0, 53, 182, 1, 1, 132, 3, 1, 167, 255, 229, 42, 29, 16, 60, 163, 0, 7, 4]
abbrev dktX0_lost_2 : List UInt8 := dkwX0_lost_2 ++ dktX0_lost_3
def dkwX0_lost_1 : List UInt8 := [180, 0, 46, 182, 0, 254, 61, 3, 62, 29, 16, 60, 163, 0, 27, 42, 180, 0, 53, 182, 0, 254, 28]
abbrev dktX0_lost_1 : List UInt8 := dkwX0_lost_1 ++ dktX0_lost_2
def dkwX0_lost_0 : List UInt8 := [42, 27, 3, 4, 184, 0, 79, 4, 182, 0, 87, 42, 180, 0, 53, 42, 180, 0, 46, 182, 0, 250, 87, 42]
abbrev dktX0_lost_0 : List UInt8 := dkwX0_lost_0 ++ dktX0_lost_1
theorem dksX0_lost_0 : cX0_lost.data.toList.drop 0 = dktX0_lost_0 := by decide +kernel
theorem dksX0_lost_1 : cX0_lost.data.toList.drop 24 = dktX0_lost_1 := dk_seg dksX0_lost_0 24 rfl rfl
theorem dksX0_lost_2 : cX0_lost.data.toList.drop 47 = dktX0_lost_2 := dk_seg dksX0_lost_1 23 rfl rfl
theorem dksX0_lost_3 : cX0_lost.data.toList.drop 71 = dktX0_lost_3 := dk_seg dksX0_lost_2 24 rfl rfl
theorem dksX0_lost_4 : cX0_lost.data.toList.drop 95 = dktX0_lost_4 := dk_seg dksX0_lost_3 24 rfl rfl
theorem dX0_lost_0 : decode cX0_lost 0 = .ok (.aload_n 0, 1) := dk_42 (dk_at dksX0_lost_0 0 rfl rfl)
theorem dX0_lost_1 : decode cX0_lost 1 = .ok (.iload_n 1, 1) := dk_27 (dk_at dksX0_lost_0 1 rfl rfl)
theorem dX0_lost_2 : decode cX0_lost 2 = .ok (.iconst 0, 1) := dk_3 (dk_at dksX0_lost_0 2 rfl rfl)
theorem dX0_lost_3 : decode cX0_lost 3 = .ok (.iconst 1, 1) := dk_4 (dk_at dksX0_lost_0 3 rfl rfl)
theorem dX0_lost_4 : decode cX0_lost 4 = .ok (.invokestatic 79, 3) := dk_184 0 79 (dk_at dksX0_lost_0 4 rfl rfl)
theorem dX0_lost_7 : decode cX0_lost 7 = .ok (.iconst 1, 1) := dk_4 (dk_at dksX0_lost_0 7 rfl rfl)
theorem dX0_lost_8 : decode cX0_lost 8 = .ok (.invokevirtual 87, 3) := dk_182 0 87 (dk_at dksX0_lost_0 8 rfl rfl)
theorem dX0_lost_11 : decode cX0_lost 11 = .ok (.aload_n 0, 1) := dk_42 (dk_at dksX0_lost_0 11 rfl rfl)
theorem dX0_lost_12 : decode cX0_lost 12 = .ok (.getfield 53, 3) := dk_180 0 53 (dk_at dksX0_lost_0 12 rfl rfl)
theorem dX0_lost_15 : decode cX0_lost 15 = .ok (.aload_n 0, 1) := dk_42 (dk_at dksX0_lost_0 15 rfl rfl)
theorem dX0_lost_16 : decode cX0_lost 16 = .ok (.getfield 46, 3) := dk_180 0 46 (dk_at dksX0_lost_0 16 rfl rfl)
theorem dX0_lost_19 : decode cX0_lost 19 = .ok (.invokevirtual 250, 3) := dk_182 0 250 (dk_at dksX0_lost_0 19 rfl rfl)
theorem dX0_lost_22 : decode cX0_lost 22 = .ok (.pop, 1) := dk_87 (dk_at dksX0_lost_0 22 rfl rfl)
theorem dX0_lost_23 : decode cX0_lost 23 = .ok (.aload_n 0, 1) := dk_42 (dk_at dksX0_lost_0 23 rfl rfl)
theorem dX0_lost_24 : decode cX0_lost 24 = .ok (.getfield 46, 3) := dk_180 0 46 (dk_at dksX0_lost_1 0 rfl rfl)
theorem dX0_lost_27 : decode cX0_lost 27 = .ok (.invokevirtual 254, 3) := dk_182 0 254 (dk_at dksX0_lost_1 3 rfl rfl)
theorem dX0_lost_30 : decode cX0_lost 30 = .ok (.istore_n 2, 1) := dk_61 (dk_at dksX0_lost_1 6 rfl rfl)
theorem dX0_lost_31 : decode cX0_lost 31 = .ok (.iconst 0, 1) := dk_3 (dk_at dksX0_lost_1 7 rfl rfl)
theorem dX0_lost_32 : decode cX0_lost 32 = .ok (.istore_n 3, 1) := dk_62 (dk_at dksX0_lost_1 8 rfl rfl)
theorem dX0_lost_33 : decode cX0_lost 33 = .ok (.iload_n 3, 1) := dk_29 (dk_at dksX0_lost_1 9 rfl rfl)
theorem dX0_lost_34 : decode cX0_lost 34 = .ok (.bipush 60, 2) := dk_16 60 (dk_at dksX0_lost_1 10 rfl rfl)
theorem dX0_lost_36 : decode cX0_lost 36 = .ok (.if_icmp .gt 27, 3) := dk_163 0 27 (dk_at dksX0_lost_1 12 rfl rfl)
theorem dX0_lost_39 : decode cX0_lost 39 = .ok (.aload_n 0, 1) := dk_42 (dk_at dksX0_lost_1 15 rfl rfl)
theorem dX0_lost_40 : decode cX0_lost 40 = .ok (.getfield 53, 3) := dk_180 0 53 (dk_at dksX0_lost_1 16 rfl rfl)
theorem dX0_lost_43 : decode cX0_lost 43 = .ok (.invokevirtual 254, 3) := dk_182 0 254 (dk_at dksX0_lost_1 19 rfl rfl)
theorem dX0_lost_46 : decode cX0_lost 46 = .ok (.iload_n 2, 1) := dk_28 (dk_at dksX0_lost_1 22 rfl rfl)
theorem dX0_lost_47 : decode cX0_lost 47 = .ok (.if_icmp .ne 16, 3) := dk_160 0 16 (dk_at dksX0_lost_2 0 rfl rfl)
theorem dX0_lost_50 : decode cX0_lost 50 = .ok (.aload_n 0, 1) := dk_42 (dk_at dksX0_lost_2 3 rfl rfl)
theorem dX0_lost_51 : decode cX0_lost 51 = .ok (.getfield 53, 3) := dk_180 0 53 (dk_at dksX0_lost_2 4 rfl rfl)
theorem dX0_lost_54 : decode cX0_lost 54 = .ok (.invokevirtual 257, 3) := dk_182 1 1 (dk_at dksX0_lost_2 7 rfl rfl)
theorem dX0_lost_57 : decode cX0_lost 57 = .ok (.iinc 3 1, 3) := dk_132 3 1 (dk_at dksX0_lost_2 10 rfl rfl)
theorem dX0_lost_60 : decode cX0_lost 60 = .ok (.goto (-27), 3) := dk_167 255 229 (dk_at dksX0_lost_2 13 rfl rfl)
theorem dX0_lost_63 : decode cX0_lost 63 = .ok (.aload_n 0, 1) := dk_42 (dk_at dksX0_lost_2 16 rfl rfl)
theorem dX0_lost_64 : decode cX0_lost 64 = .ok (.iload_n 3, 1) := dk_29 (dk_at dksX0_lost_2 17 rfl rfl)
theorem dX0_lost_65 : decode cX0_lost 65 = .ok (.bipush 60, 2) := dk_16 60 (dk_at dksX0_lost_2 18 rfl rfl)
theorem dX0_lost_67 : decode cX0_lost 67 = .ok (.if_icmp .gt 7, 3) := dk_163 0 7 (dk_at dksX0_lost_2 20 rfl rfl)
theorem dX0_lost_70 : decode cX0_lost 70 = .ok (.iconst 1, 1) := dk_4 (dk_at dksX0_lost_2 23 rfl rfl)
theorem dX0_lost_71 : decode cX0_lost 71 = .ok (.goto 4, 3) := dk_167 0 4 (dk_at dksX0_lost_3 0 rfl rfl)
theorem dX0_lost_74 : decode cX0_lost 74 = .ok (.iconst 0, 1) := dk_3 (dk_at dksX0_lost_3 3 rfl rfl)
theorem dX0_lost_75 : decode cX0_lost 75 = .ok (.iconst 2, 1) := dk_5 (dk_at dksX0_lost_3 4 rfl rfl)
theorem dX0_lost_76 : decode cX0_lost 76 = .ok (.invokevirtual 87, 3) := dk_182 0 87 (dk_at dksX0_lost_3 5 rfl rfl)
theorem dX0_lost_79 : decode cX0_lost 79 = .ok (.iload_n 1, 1) := dk_27 (dk_at dksX0_lost_3 8 rfl rfl)
theorem dX0_lost_80 : decode cX0_lost 80 = .ok (.ifCond .ne 7, 3) := dk_154 0 7 (dk_at dksX0_lost_3 9 rfl rfl)
theorem dX0_lost_83 : decode cX0_lost 83 = .ok (.iload_n 3, 1) := dk_29 (dk_at dksX0_lost_3 12 rfl rfl)
theorem dX0_lost_84 : decode cX0_lost 84 = .ok (.goto 17, 3) := dk_167 0 17 (dk_at dksX0_lost_3 13 rfl rfl)
theorem dX0_lost_87 : decode cX0_lost 87 = .ok (.aload_n 0, 1) := dk_42 (dk_at dksX0_lost_3 16 rfl rfl)
theorem dX0_lost_88 : decode cX0_lost 88 = .ok (.getfield 53, 3) := dk_180 0 53 (dk_at dksX0_lost_3 17 rfl rfl)
theorem dX0_lost_91 : decode cX0_lost 91 = .ok (.invokevirtual 254, 3) := dk_182 0 254 (dk_at dksX0_lost_3 20 rfl rfl)
theorem dX0_lost_94 : decode cX0_lost 94 = .ok (.iload_n 2, 1) := dk_28 (dk_at dksX0_lost_3 23 rfl rfl)
theorem dX0_lost_95 : decode cX0_lost 95 = .ok (.iconst (-1), 1) := dk_2 (dk_at dksX0_lost_4 0 rfl rfl)
theorem dX0_lost_96 : decode cX0_lost 96 = .ok (.ixor, 1) := dk_130 (dk_at dksX0_lost_4 1 rfl rfl)
theorem dX0_lost_97 : decode cX0_lost 97 = .ok (.iand, 1) := dk_126 (dk_at dksX0_lost_4 2 rfl rfl)
theorem dX0_lost_98 : decode cX0_lost 98 = .ok (.invokestatic 260, 3) := dk_184 1 4 (dk_at dksX0_lost_4 3 rfl rfl)
theorem dX0_lost_101 : decode cX0_lost 101 = .ok (.ireturn, 1) := dk_172 (dk_at dksX0_lost_4 6 rfl rfl)
theorem dX0_lost_102 : decode cX0_lost 102 = .ok (.astore_n 2, 1) := dk_77 (dk_at dksX0_lost_4 7 rfl rfl)
theorem dX0_lost_103 : decode cX0_lost 103 = .ok (.aload_n 0, 1) := dk_42 (dk_at dksX0_lost_4 8 rfl rfl)
theorem dX0_lost_104 : decode cX0_lost 104 = .ok (.aload_n 2, 1) := dk_44 (dk_at dksX0_lost_4 9 rfl rfl)
theorem dX0_lost_105 : decode cX0_lost 105 = .ok (.invokevirtual 111, 3) := dk_182 0 111 (dk_at dksX0_lost_4 10 rfl rfl)
theorem dX0_lost_108 : decode cX0_lost 108 = .ok (.ireturn, 1) := dk_172 (dk_at dksX0_lost_4 13 rfl rfl)
abbrev cX0_setting : ByteArray := prog_1_method_38_code
def yX0_setting : MethodName := ⟨RX0, "setting", "(II)I"⟩
def dkwX0_setting_3 : List UInt8 := [167, 0, 4, 3, 5, 182, 0, 87, 29, 172, 78, 42, 45, 182, 0, 111, 172]
abbrev dktX0_setting_3 : List UInt8 := dkwX0_setting_3 ++ []
def dkwX0_setting_2 : List UInt8 := [27, 28, 29, 182, 1, 9, 154, 0, 9, 132, 3, 1, 167, 255, 237, 42, 29, 16, 99, 163, 0, 7, 4]
abbrev dktX0_setting_2 : List UInt8 := dkwX0_setting_2 ++ dktX0_setting_3
def dkwX0_setting_1 : List UInt8 := [184, 0, 79, 153, 0, 7, 4, 167, 0, 4, 3, 4, 182, 0, 87, 3, 62, 29, 16, 99, 163, 0, 19, 42]
abbrev dktX0_setting_1 : List UInt8 := dkwX0_setting_1 ++ dktX0_setting_2
def dkwX0_setting_0 : List UInt8 := [42, 27, 3, 4, 42, 180, 0, 46, 180, 0, 96, 120, 4, 100, 184, 0, 79, 153, 0, 17, 28, 3, 16, 20]
abbrev dktX0_setting_0 : List UInt8 := dkwX0_setting_0 ++ dktX0_setting_1
theorem dksX0_setting_0 : cX0_setting.data.toList.drop 0 = dktX0_setting_0 := by decide +kernel
theorem dksX0_setting_1 : cX0_setting.data.toList.drop 24 = dktX0_setting_1 := dk_seg dksX0_setting_0 24 rfl rfl
theorem dksX0_setting_2 : cX0_setting.data.toList.drop 48 = dktX0_setting_2 := dk_seg dksX0_setting_1 24 rfl rfl
theorem dksX0_setting_3 : cX0_setting.data.toList.drop 71 = dktX0_setting_3 := dk_seg dksX0_setting_2 23 rfl rfl
theorem dX0_setting_0 : decode cX0_setting 0 = .ok (.aload_n 0, 1) := dk_42 (dk_at dksX0_setting_0 0 rfl rfl)
theorem dX0_setting_1 : decode cX0_setting 1 = .ok (.iload_n 1, 1) := dk_27 (dk_at dksX0_setting_0 1 rfl rfl)
theorem dX0_setting_2 : decode cX0_setting 2 = .ok (.iconst 0, 1) := dk_3 (dk_at dksX0_setting_0 2 rfl rfl)
theorem dX0_setting_3 : decode cX0_setting 3 = .ok (.iconst 1, 1) := dk_4 (dk_at dksX0_setting_0 3 rfl rfl)
theorem dX0_setting_4 : decode cX0_setting 4 = .ok (.aload_n 0, 1) := dk_42 (dk_at dksX0_setting_0 4 rfl rfl)
theorem dX0_setting_5 : decode cX0_setting 5 = .ok (.getfield 46, 3) := dk_180 0 46 (dk_at dksX0_setting_0 5 rfl rfl)
theorem dX0_setting_8 : decode cX0_setting 8 = .ok (.getfield 96, 3) := dk_180 0 96 (dk_at dksX0_setting_0 8 rfl rfl)
theorem dX0_setting_11 : decode cX0_setting 11 = .ok (.ishl, 1) := dk_120 (dk_at dksX0_setting_0 11 rfl rfl)
theorem dX0_setting_12 : decode cX0_setting 12 = .ok (.iconst 1, 1) := dk_4 (dk_at dksX0_setting_0 12 rfl rfl)
theorem dX0_setting_13 : decode cX0_setting 13 = .ok (.isub, 1) := dk_100 (dk_at dksX0_setting_0 13 rfl rfl)
theorem dX0_setting_14 : decode cX0_setting 14 = .ok (.invokestatic 79, 3) := dk_184 0 79 (dk_at dksX0_setting_0 14 rfl rfl)
theorem dX0_setting_17 : decode cX0_setting 17 = .ok (.ifCond .eq 17, 3) := dk_153 0 17 (dk_at dksX0_setting_0 17 rfl rfl)
theorem dX0_setting_20 : decode cX0_setting 20 = .ok (.iload_n 2, 1) := dk_28 (dk_at dksX0_setting_0 20 rfl rfl)
theorem dX0_setting_21 : decode cX0_setting 21 = .ok (.iconst 0, 1) := dk_3 (dk_at dksX0_setting_0 21 rfl rfl)
theorem dX0_setting_22 : decode cX0_setting 22 = .ok (.bipush 20, 2) := dk_16 20 (dk_at dksX0_setting_0 22 rfl rfl)
theorem dX0_setting_24 : decode cX0_setting 24 = .ok (.invokestatic 79, 3) := dk_184 0 79 (dk_at dksX0_setting_1 0 rfl rfl)
theorem dX0_setting_27 : decode cX0_setting 27 = .ok (.ifCond .eq 7, 3) := dk_153 0 7 (dk_at dksX0_setting_1 3 rfl rfl)
theorem dX0_setting_30 : decode cX0_setting 30 = .ok (.iconst 1, 1) := dk_4 (dk_at dksX0_setting_1 6 rfl rfl)
theorem dX0_setting_31 : decode cX0_setting 31 = .ok (.goto 4, 3) := dk_167 0 4 (dk_at dksX0_setting_1 7 rfl rfl)
theorem dX0_setting_34 : decode cX0_setting 34 = .ok (.iconst 0, 1) := dk_3 (dk_at dksX0_setting_1 10 rfl rfl)
theorem dX0_setting_35 : decode cX0_setting 35 = .ok (.iconst 1, 1) := dk_4 (dk_at dksX0_setting_1 11 rfl rfl)
theorem dX0_setting_36 : decode cX0_setting 36 = .ok (.invokevirtual 87, 3) := dk_182 0 87 (dk_at dksX0_setting_1 12 rfl rfl)
theorem dX0_setting_39 : decode cX0_setting 39 = .ok (.iconst 0, 1) := dk_3 (dk_at dksX0_setting_1 15 rfl rfl)
theorem dX0_setting_40 : decode cX0_setting 40 = .ok (.istore_n 3, 1) := dk_62 (dk_at dksX0_setting_1 16 rfl rfl)
theorem dX0_setting_41 : decode cX0_setting 41 = .ok (.iload_n 3, 1) := dk_29 (dk_at dksX0_setting_1 17 rfl rfl)
theorem dX0_setting_42 : decode cX0_setting 42 = .ok (.bipush 99, 2) := dk_16 99 (dk_at dksX0_setting_1 18 rfl rfl)
theorem dX0_setting_44 : decode cX0_setting 44 = .ok (.if_icmp .gt 19, 3) := dk_163 0 19 (dk_at dksX0_setting_1 20 rfl rfl)
theorem dX0_setting_47 : decode cX0_setting 47 = .ok (.aload_n 0, 1) := dk_42 (dk_at dksX0_setting_1 23 rfl rfl)
theorem dX0_setting_48 : decode cX0_setting 48 = .ok (.iload_n 1, 1) := dk_27 (dk_at dksX0_setting_2 0 rfl rfl)
theorem dX0_setting_49 : decode cX0_setting 49 = .ok (.iload_n 2, 1) := dk_28 (dk_at dksX0_setting_2 1 rfl rfl)
theorem dX0_setting_50 : decode cX0_setting 50 = .ok (.iload_n 3, 1) := dk_29 (dk_at dksX0_setting_2 2 rfl rfl)
theorem dX0_setting_51 : decode cX0_setting 51 = .ok (.invokevirtual 265, 3) := dk_182 1 9 (dk_at dksX0_setting_2 3 rfl rfl)
theorem dX0_setting_54 : decode cX0_setting 54 = .ok (.ifCond .ne 9, 3) := dk_154 0 9 (dk_at dksX0_setting_2 6 rfl rfl)
theorem dX0_setting_57 : decode cX0_setting 57 = .ok (.iinc 3 1, 3) := dk_132 3 1 (dk_at dksX0_setting_2 9 rfl rfl)
theorem dX0_setting_60 : decode cX0_setting 60 = .ok (.goto (-19), 3) := dk_167 255 237 (dk_at dksX0_setting_2 12 rfl rfl)
theorem dX0_setting_63 : decode cX0_setting 63 = .ok (.aload_n 0, 1) := dk_42 (dk_at dksX0_setting_2 15 rfl rfl)
theorem dX0_setting_64 : decode cX0_setting 64 = .ok (.iload_n 3, 1) := dk_29 (dk_at dksX0_setting_2 16 rfl rfl)
theorem dX0_setting_65 : decode cX0_setting 65 = .ok (.bipush 99, 2) := dk_16 99 (dk_at dksX0_setting_2 17 rfl rfl)
theorem dX0_setting_67 : decode cX0_setting 67 = .ok (.if_icmp .gt 7, 3) := dk_163 0 7 (dk_at dksX0_setting_2 19 rfl rfl)
theorem dX0_setting_70 : decode cX0_setting 70 = .ok (.iconst 1, 1) := dk_4 (dk_at dksX0_setting_2 22 rfl rfl)
theorem dX0_setting_71 : decode cX0_setting 71 = .ok (.goto 4, 3) := dk_167 0 4 (dk_at dksX0_setting_3 0 rfl rfl)
theorem dX0_setting_74 : decode cX0_setting 74 = .ok (.iconst 0, 1) := dk_3 (dk_at dksX0_setting_3 3 rfl rfl)
theorem dX0_setting_75 : decode cX0_setting 75 = .ok (.iconst 2, 1) := dk_5 (dk_at dksX0_setting_3 4 rfl rfl)
theorem dX0_setting_76 : decode cX0_setting 76 = .ok (.invokevirtual 87, 3) := dk_182 0 87 (dk_at dksX0_setting_3 5 rfl rfl)
theorem dX0_setting_79 : decode cX0_setting 79 = .ok (.iload_n 3, 1) := dk_29 (dk_at dksX0_setting_3 8 rfl rfl)
theorem dX0_setting_80 : decode cX0_setting 80 = .ok (.ireturn, 1) := dk_172 (dk_at dksX0_setting_3 9 rfl rfl)
theorem dX0_setting_81 : decode cX0_setting 81 = .ok (.astore_n 3, 1) := dk_78 (dk_at dksX0_setting_3 10 rfl rfl)
theorem dX0_setting_82 : decode cX0_setting 82 = .ok (.aload_n 0, 1) := dk_42 (dk_at dksX0_setting_3 11 rfl rfl)
theorem dX0_setting_83 : decode cX0_setting 83 = .ok (.aload_n 3, 1) := dk_45 (dk_at dksX0_setting_3 12 rfl rfl)
theorem dX0_setting_84 : decode cX0_setting 84 = .ok (.invokevirtual 111, 3) := dk_182 0 111 (dk_at dksX0_setting_3 13 rfl rfl)
theorem dX0_setting_87 : decode cX0_setting 87 = .ok (.ireturn, 1) := dk_172 (dk_at dksX0_setting_3 16 rfl rfl)
abbrev cX0_areInBy : ByteArray := prog_1_method_37_code
def yX0_areInBy : MethodName := ⟨RX0, "areInBy", "(III)Z"⟩
def dkwX0_areInBy_1 : List UInt8 := [182, 0, 134, 27, 126, 27, 160, 0, 7, 4, 167, 0, 4, 3, 172]
abbrev dktX0_areInBy_1 : List UInt8 := dkwX0_areInBy_1 ++ []
def dkwX0_areInBy_0 : List UInt8 := [42, 180, 0, 53, 42, 180, 0, 46, 182, 0, 250, 29, 181, 0, 127, 42, 180, 0, 53, 28, 182, 0, 234, 3]
abbrev dktX0_areInBy_0 : List UInt8 := dkwX0_areInBy_0 ++ dktX0_areInBy_1
theorem dksX0_areInBy_0 : cX0_areInBy.data.toList.drop 0 = dktX0_areInBy_0 := by decide +kernel
theorem dksX0_areInBy_1 : cX0_areInBy.data.toList.drop 24 = dktX0_areInBy_1 := dk_seg dksX0_areInBy_0 24 rfl rfl
theorem dX0_areInBy_0 : decode cX0_areInBy 0 = .ok (.aload_n 0, 1) := dk_42 (dk_at dksX0_areInBy_0 0 rfl rfl)
theorem dX0_areInBy_1 : decode cX0_areInBy 1 = .ok (.getfield 53, 3) := dk_180 0 53 (dk_at dksX0_areInBy_0 1 rfl rfl)
theorem dX0_areInBy_4 : decode cX0_areInBy 4 = .ok (.aload_n 0, 1) := dk_42 (dk_at dksX0_areInBy_0 4 rfl rfl)
theorem dX0_areInBy_5 : decode cX0_areInBy 5 = .ok (.getfield 46, 3) := dk_180 0 46 (dk_at dksX0_areInBy_0 5 rfl rfl)
theorem dX0_areInBy_8 : decode cX0_areInBy 8 = .ok (.invokevirtual 250, 3) := dk_182 0 250 (dk_at dksX0_areInBy_0 8 rfl rfl)
theorem dX0_areInBy_11 : decode cX0_areInBy 11 = .ok (.iload_n 3, 1) := dk_29 (dk_at dksX0_areInBy_0 11 rfl rfl)
theorem dX0_areInBy_12 : decode cX0_areInBy 12 = .ok (.putfield 127, 3) := dk_181 0 127 (dk_at dksX0_areInBy_0 12 rfl rfl)
theorem dX0_areInBy_15 : decode cX0_areInBy 15 = .ok (.aload_n 0, 1) := dk_42 (dk_at dksX0_areInBy_0 15 rfl rfl)
theorem dX0_areInBy_16 : decode cX0_areInBy 16 = .ok (.getfield 53, 3) := dk_180 0 53 (dk_at dksX0_areInBy_0 16 rfl rfl)
theorem dX0_areInBy_19 : decode cX0_areInBy 19 = .ok (.iload_n 2, 1) := dk_28 (dk_at dksX0_areInBy_0 19 rfl rfl)
theorem dX0_areInBy_20 : decode cX0_areInBy 20 = .ok (.invokevirtual 234, 3) := dk_182 0 234 (dk_at dksX0_areInBy_0 20 rfl rfl)
theorem dX0_areInBy_23 : decode cX0_areInBy 23 = .ok (.iconst 0, 1) := dk_3 (dk_at dksX0_areInBy_0 23 rfl rfl)
theorem dX0_areInBy_24 : decode cX0_areInBy 24 = .ok (.invokevirtual 134, 3) := dk_182 0 134 (dk_at dksX0_areInBy_1 0 rfl rfl)
theorem dX0_areInBy_27 : decode cX0_areInBy 27 = .ok (.iload_n 1, 1) := dk_27 (dk_at dksX0_areInBy_1 3 rfl rfl)
theorem dX0_areInBy_28 : decode cX0_areInBy 28 = .ok (.iand, 1) := dk_126 (dk_at dksX0_areInBy_1 4 rfl rfl)
theorem dX0_areInBy_29 : decode cX0_areInBy 29 = .ok (.iload_n 1, 1) := dk_27 (dk_at dksX0_areInBy_1 5 rfl rfl)
theorem dX0_areInBy_30 : decode cX0_areInBy 30 = .ok (.if_icmp .ne 7, 3) := dk_160 0 7 (dk_at dksX0_areInBy_1 6 rfl rfl)
theorem dX0_areInBy_33 : decode cX0_areInBy 33 = .ok (.iconst 1, 1) := dk_4 (dk_at dksX0_areInBy_1 9 rfl rfl)
theorem dX0_areInBy_34 : decode cX0_areInBy 34 = .ok (.goto 4, 3) := dk_167 0 4 (dk_at dksX0_areInBy_1 10 rfl rfl)
theorem dX0_areInBy_37 : decode cX0_areInBy 37 = .ok (.iconst 0, 1) := dk_3 (dk_at dksX0_areInBy_1 13 rfl rfl)
theorem dX0_areInBy_38 : decode cX0_areInBy 38 = .ok (.ireturn, 1) := dk_172 (dk_at dksX0_areInBy_1 14 rfl rfl)
abbrev cX0_leastFalse : ByteArray := prog_1_method_39_code
def yX0_leastFalse : MethodName := ⟨RX0, "leastFalse", "(I)I"⟩
def dkwX0_leastFalse_5 : List UInt8 := [154, 0, 7, 28, 167, 0, 4, 29, 172, 77, 42, 44, 182, 0, 111, 172]
abbrev dktX0_leastFalse_5 : List UInt8 := dkwX0_leastFalse_5 ++ []
def dkwX0_leastFalse_4 : List UInt8 := [162, 0, 8, 21, 4, 167, 0, 4, 28, 61, 29, 21, 5, 184, 1, 12, 62, 132, 4, 1, 167, 255, 161, 27]
abbrev dktX0_leastFalse_4 : List UInt8 := dkwX0_leastFalse_4 ++ dktX0_leastFalse_5
def dkwX0_leastFalse_3 : List UInt8 := [182, 0, 123, 160, 0, 7, 3, 167, 0, 4, 4, 96, 54, 5, 132, 6, 1, 167, 255, 200, 21, 5, 29]
abbrev dktX0_leastFalse_3 : List UInt8 := dkwX0_leastFalse_3 ++ dktX0_leastFalse_4
def dkwX0_leastFalse_2 : List UInt8 := [180, 0, 46, 21, 6, 42, 180, 0, 46, 180, 0, 144, 21, 4, 100, 182, 0, 244, 42, 180, 0, 46, 21, 6]
abbrev dktX0_leastFalse_2 : List UInt8 := dkwX0_leastFalse_2 ++ dktX0_leastFalse_3
def dkwX0_leastFalse_1 : List UInt8 := [163, 0, 94, 3, 54, 5, 3, 54, 6, 21, 6, 42, 180, 0, 46, 180, 0, 93, 162, 0, 50, 21, 5, 42]
abbrev dktX0_leastFalse_1 : List UInt8 := dkwX0_leastFalse_1 ++ dktX0_leastFalse_2
def dkwX0_leastFalse_0 : List UInt8 := [42, 27, 3, 4, 184, 0, 79, 4, 182, 0, 87, 3, 61, 16, 9, 62, 4, 54, 4, 21, 4, 16, 99]
abbrev dktX0_leastFalse_0 : List UInt8 := dkwX0_leastFalse_0 ++ dktX0_leastFalse_1
theorem dksX0_leastFalse_0 : cX0_leastFalse.data.toList.drop 0 = dktX0_leastFalse_0 := by decide +kernel
theorem dksX0_leastFalse_1 : cX0_leastFalse.data.toList.drop 23 = dktX0_leastFalse_1 := dk_seg dksX0_leastFalse_0 23 rfl rfl
theorem dksX0_leastFalse_2 : cX0_leastFalse.data.toList.drop 47 = dktX0_leastFalse_2 := dk_seg dksX0_leastFalse_1 24 rfl rfl
theorem dksX0_leastFalse_3 : cX0_leastFalse.data.toList.drop 71 = dktX0_leastFalse_3 := dk_seg dksX0_leastFalse_2 24 rfl rfl
theorem dksX0_leastFalse_4 : cX0_leastFalse.data.toList.drop 94 = dktX0_leastFalse_4 := dk_seg dksX0_leastFalse_3 23 rfl rfl
theorem dksX0_leastFalse_5 : cX0_leastFalse.data.toList.drop 118 = dktX0_leastFalse_5 := dk_seg dksX0_leastFalse_4 24 rfl rfl
theorem dX0_leastFalse_0 : decode cX0_leastFalse 0 = .ok (.aload_n 0, 1) := dk_42 (dk_at dksX0_leastFalse_0 0 rfl rfl)
theorem dX0_leastFalse_1 : decode cX0_leastFalse 1 = .ok (.iload_n 1, 1) := dk_27 (dk_at dksX0_leastFalse_0 1 rfl rfl)
theorem dX0_leastFalse_2 : decode cX0_leastFalse 2 = .ok (.iconst 0, 1) := dk_3 (dk_at dksX0_leastFalse_0 2 rfl rfl)
theorem dX0_leastFalse_3 : decode cX0_leastFalse 3 = .ok (.iconst 1, 1) := dk_4 (dk_at dksX0_leastFalse_0 3 rfl rfl)
theorem dX0_leastFalse_4 : decode cX0_leastFalse 4 = .ok (.invokestatic 79, 3) := dk_184 0 79 (dk_at dksX0_leastFalse_0 4 rfl rfl)
theorem dX0_leastFalse_7 : decode cX0_leastFalse 7 = .ok (.iconst 1, 1) := dk_4 (dk_at dksX0_leastFalse_0 7 rfl rfl)
theorem dX0_leastFalse_8 : decode cX0_leastFalse 8 = .ok (.invokevirtual 87, 3) := dk_182 0 87 (dk_at dksX0_leastFalse_0 8 rfl rfl)
theorem dX0_leastFalse_11 : decode cX0_leastFalse 11 = .ok (.iconst 0, 1) := dk_3 (dk_at dksX0_leastFalse_0 11 rfl rfl)
theorem dX0_leastFalse_12 : decode cX0_leastFalse 12 = .ok (.istore_n 2, 1) := dk_61 (dk_at dksX0_leastFalse_0 12 rfl rfl)
theorem dX0_leastFalse_13 : decode cX0_leastFalse 13 = .ok (.bipush 9, 2) := dk_16 9 (dk_at dksX0_leastFalse_0 13 rfl rfl)
theorem dX0_leastFalse_15 : decode cX0_leastFalse 15 = .ok (.istore_n 3, 1) := dk_62 (dk_at dksX0_leastFalse_0 15 rfl rfl)
theorem dX0_leastFalse_16 : decode cX0_leastFalse 16 = .ok (.iconst 1, 1) := dk_4 (dk_at dksX0_leastFalse_0 16 rfl rfl)
theorem dX0_leastFalse_17 : decode cX0_leastFalse 17 = .ok (.istore 4, 2) := dk_54 4 (dk_at dksX0_leastFalse_0 17 rfl rfl)
theorem dX0_leastFalse_19 : decode cX0_leastFalse 19 = .ok (.iload 4, 2) := dk_21 4 (dk_at dksX0_leastFalse_0 19 rfl rfl)
theorem dX0_leastFalse_21 : decode cX0_leastFalse 21 = .ok (.bipush 99, 2) := dk_16 99 (dk_at dksX0_leastFalse_0 21 rfl rfl)
theorem dX0_leastFalse_23 : decode cX0_leastFalse 23 = .ok (.if_icmp .gt 94, 3) := dk_163 0 94 (dk_at dksX0_leastFalse_1 0 rfl rfl)
theorem dX0_leastFalse_26 : decode cX0_leastFalse 26 = .ok (.iconst 0, 1) := dk_3 (dk_at dksX0_leastFalse_1 3 rfl rfl)
theorem dX0_leastFalse_27 : decode cX0_leastFalse 27 = .ok (.istore 5, 2) := dk_54 5 (dk_at dksX0_leastFalse_1 4 rfl rfl)
theorem dX0_leastFalse_29 : decode cX0_leastFalse 29 = .ok (.iconst 0, 1) := dk_3 (dk_at dksX0_leastFalse_1 6 rfl rfl)
theorem dX0_leastFalse_30 : decode cX0_leastFalse 30 = .ok (.istore 6, 2) := dk_54 6 (dk_at dksX0_leastFalse_1 7 rfl rfl)
theorem dX0_leastFalse_32 : decode cX0_leastFalse 32 = .ok (.iload 6, 2) := dk_21 6 (dk_at dksX0_leastFalse_1 9 rfl rfl)
theorem dX0_leastFalse_34 : decode cX0_leastFalse 34 = .ok (.aload_n 0, 1) := dk_42 (dk_at dksX0_leastFalse_1 11 rfl rfl)
theorem dX0_leastFalse_35 : decode cX0_leastFalse 35 = .ok (.getfield 46, 3) := dk_180 0 46 (dk_at dksX0_leastFalse_1 12 rfl rfl)
theorem dX0_leastFalse_38 : decode cX0_leastFalse 38 = .ok (.getfield 93, 3) := dk_180 0 93 (dk_at dksX0_leastFalse_1 15 rfl rfl)
theorem dX0_leastFalse_41 : decode cX0_leastFalse 41 = .ok (.if_icmp .ge 50, 3) := dk_162 0 50 (dk_at dksX0_leastFalse_1 18 rfl rfl)
theorem dX0_leastFalse_44 : decode cX0_leastFalse 44 = .ok (.iload 5, 2) := dk_21 5 (dk_at dksX0_leastFalse_1 21 rfl rfl)
theorem dX0_leastFalse_46 : decode cX0_leastFalse 46 = .ok (.aload_n 0, 1) := dk_42 (dk_at dksX0_leastFalse_1 23 rfl rfl)
theorem dX0_leastFalse_47 : decode cX0_leastFalse 47 = .ok (.getfield 46, 3) := dk_180 0 46 (dk_at dksX0_leastFalse_2 0 rfl rfl)
theorem dX0_leastFalse_50 : decode cX0_leastFalse 50 = .ok (.iload 6, 2) := dk_21 6 (dk_at dksX0_leastFalse_2 3 rfl rfl)
theorem dX0_leastFalse_52 : decode cX0_leastFalse 52 = .ok (.aload_n 0, 1) := dk_42 (dk_at dksX0_leastFalse_2 5 rfl rfl)
theorem dX0_leastFalse_53 : decode cX0_leastFalse 53 = .ok (.getfield 46, 3) := dk_180 0 46 (dk_at dksX0_leastFalse_2 6 rfl rfl)
theorem dX0_leastFalse_56 : decode cX0_leastFalse 56 = .ok (.getfield 144, 3) := dk_180 0 144 (dk_at dksX0_leastFalse_2 9 rfl rfl)
theorem dX0_leastFalse_59 : decode cX0_leastFalse 59 = .ok (.iload 4, 2) := dk_21 4 (dk_at dksX0_leastFalse_2 12 rfl rfl)
theorem dX0_leastFalse_61 : decode cX0_leastFalse 61 = .ok (.isub, 1) := dk_100 (dk_at dksX0_leastFalse_2 14 rfl rfl)
theorem dX0_leastFalse_62 : decode cX0_leastFalse 62 = .ok (.invokevirtual 244, 3) := dk_182 0 244 (dk_at dksX0_leastFalse_2 15 rfl rfl)
theorem dX0_leastFalse_65 : decode cX0_leastFalse 65 = .ok (.aload_n 0, 1) := dk_42 (dk_at dksX0_leastFalse_2 18 rfl rfl)
theorem dX0_leastFalse_66 : decode cX0_leastFalse 66 = .ok (.getfield 46, 3) := dk_180 0 46 (dk_at dksX0_leastFalse_2 19 rfl rfl)
theorem dX0_leastFalse_69 : decode cX0_leastFalse 69 = .ok (.iload 6, 2) := dk_21 6 (dk_at dksX0_leastFalse_2 22 rfl rfl)
theorem dX0_leastFalse_71 : decode cX0_leastFalse 71 = .ok (.invokevirtual 123, 3) := dk_182 0 123 (dk_at dksX0_leastFalse_3 0 rfl rfl)
theorem dX0_leastFalse_74 : decode cX0_leastFalse 74 = .ok (.if_icmp .ne 7, 3) := dk_160 0 7 (dk_at dksX0_leastFalse_3 3 rfl rfl)
theorem dX0_leastFalse_77 : decode cX0_leastFalse 77 = .ok (.iconst 0, 1) := dk_3 (dk_at dksX0_leastFalse_3 6 rfl rfl)
theorem dX0_leastFalse_78 : decode cX0_leastFalse 78 = .ok (.goto 4, 3) := dk_167 0 4 (dk_at dksX0_leastFalse_3 7 rfl rfl)
theorem dX0_leastFalse_81 : decode cX0_leastFalse 81 = .ok (.iconst 1, 1) := dk_4 (dk_at dksX0_leastFalse_3 10 rfl rfl)
theorem dX0_leastFalse_82 : decode cX0_leastFalse 82 = .ok (.iadd, 1) := dk_96 (dk_at dksX0_leastFalse_3 11 rfl rfl)
theorem dX0_leastFalse_83 : decode cX0_leastFalse 83 = .ok (.istore 5, 2) := dk_54 5 (dk_at dksX0_leastFalse_3 12 rfl rfl)
theorem dX0_leastFalse_85 : decode cX0_leastFalse 85 = .ok (.iinc 6 1, 3) := dk_132 6 1 (dk_at dksX0_leastFalse_3 14 rfl rfl)
theorem dX0_leastFalse_88 : decode cX0_leastFalse 88 = .ok (.goto (-56), 3) := dk_167 255 200 (dk_at dksX0_leastFalse_3 17 rfl rfl)
theorem dX0_leastFalse_91 : decode cX0_leastFalse 91 = .ok (.iload 5, 2) := dk_21 5 (dk_at dksX0_leastFalse_3 20 rfl rfl)
theorem dX0_leastFalse_93 : decode cX0_leastFalse 93 = .ok (.iload_n 3, 1) := dk_29 (dk_at dksX0_leastFalse_3 22 rfl rfl)
theorem dX0_leastFalse_94 : decode cX0_leastFalse 94 = .ok (.if_icmp .ge 8, 3) := dk_162 0 8 (dk_at dksX0_leastFalse_4 0 rfl rfl)
theorem dX0_leastFalse_97 : decode cX0_leastFalse 97 = .ok (.iload 4, 2) := dk_21 4 (dk_at dksX0_leastFalse_4 3 rfl rfl)
theorem dX0_leastFalse_99 : decode cX0_leastFalse 99 = .ok (.goto 4, 3) := dk_167 0 4 (dk_at dksX0_leastFalse_4 5 rfl rfl)
theorem dX0_leastFalse_102 : decode cX0_leastFalse 102 = .ok (.iload_n 2, 1) := dk_28 (dk_at dksX0_leastFalse_4 8 rfl rfl)
theorem dX0_leastFalse_103 : decode cX0_leastFalse 103 = .ok (.istore_n 2, 1) := dk_61 (dk_at dksX0_leastFalse_4 9 rfl rfl)
theorem dX0_leastFalse_104 : decode cX0_leastFalse 104 = .ok (.iload_n 3, 1) := dk_29 (dk_at dksX0_leastFalse_4 10 rfl rfl)
theorem dX0_leastFalse_105 : decode cX0_leastFalse 105 = .ok (.iload 5, 2) := dk_21 5 (dk_at dksX0_leastFalse_4 11 rfl rfl)
theorem dX0_leastFalse_107 : decode cX0_leastFalse 107 = .ok (.invokestatic 268, 3) := dk_184 1 12 (dk_at dksX0_leastFalse_4 13 rfl rfl)
theorem dX0_leastFalse_110 : decode cX0_leastFalse 110 = .ok (.istore_n 3, 1) := dk_62 (dk_at dksX0_leastFalse_4 16 rfl rfl)
theorem dX0_leastFalse_111 : decode cX0_leastFalse 111 = .ok (.iinc 4 1, 3) := dk_132 4 1 (dk_at dksX0_leastFalse_4 17 rfl rfl)
theorem dX0_leastFalse_114 : decode cX0_leastFalse 114 = .ok (.goto (-95), 3) := dk_167 255 161 (dk_at dksX0_leastFalse_4 20 rfl rfl)
theorem dX0_leastFalse_117 : decode cX0_leastFalse 117 = .ok (.iload_n 1, 1) := dk_27 (dk_at dksX0_leastFalse_4 23 rfl rfl)
theorem dX0_leastFalse_118 : decode cX0_leastFalse 118 = .ok (.ifCond .ne 7, 3) := dk_154 0 7 (dk_at dksX0_leastFalse_5 0 rfl rfl)
theorem dX0_leastFalse_121 : decode cX0_leastFalse 121 = .ok (.iload_n 2, 1) := dk_28 (dk_at dksX0_leastFalse_5 3 rfl rfl)
theorem dX0_leastFalse_122 : decode cX0_leastFalse 122 = .ok (.goto 4, 3) := dk_167 0 4 (dk_at dksX0_leastFalse_5 4 rfl rfl)
theorem dX0_leastFalse_125 : decode cX0_leastFalse 125 = .ok (.iload_n 3, 1) := dk_29 (dk_at dksX0_leastFalse_5 7 rfl rfl)
theorem dX0_leastFalse_126 : decode cX0_leastFalse 126 = .ok (.ireturn, 1) := dk_172 (dk_at dksX0_leastFalse_5 8 rfl rfl)
theorem dX0_leastFalse_127 : decode cX0_leastFalse 127 = .ok (.astore_n 2, 1) := dk_77 (dk_at dksX0_leastFalse_5 9 rfl rfl)
theorem dX0_leastFalse_128 : decode cX0_leastFalse 128 = .ok (.aload_n 0, 1) := dk_42 (dk_at dksX0_leastFalse_5 10 rfl rfl)
theorem dX0_leastFalse_129 : decode cX0_leastFalse 129 = .ok (.aload_n 2, 1) := dk_44 (dk_at dksX0_leastFalse_5 11 rfl rfl)
theorem dX0_leastFalse_130 : decode cX0_leastFalse 130 = .ok (.invokevirtual 111, 3) := dk_182 0 111 (dk_at dksX0_leastFalse_5 12 rfl rfl)
theorem dX0_leastFalse_133 : decode cX0_leastFalse 133 = .ok (.ireturn, 1) := dk_172 (dk_at dksX0_leastFalse_5 15 rfl rfl)
abbrev cX0_which : ByteArray := prog_1_method_41_code
def yX0_which : MethodName := ⟨RX0, "which", "(II)I"⟩
def dkwX0_which_6 : List UInt8 := [182, 0, 87, 28, 154, 0, 8, 21, 4, 167, 0, 5, 21, 5, 172, 78, 42, 45, 182, 0, 111, 172]
abbrev dktX0_which_6 : List UInt8 := dkwX0_which_6 ++ []
def dkwX0_which_5 : List UInt8 := [132, 6, 1, 167, 255, 203, 42, 28, 153, 0, 8, 21, 4, 158, 0, 7, 4, 167, 0, 4, 3, 5]
abbrev dktX0_which_5 : List UInt8 := dkwX0_which_5 ++ dktX0_which_6
def dkwX0_which_4 : List UInt8 := [167, 0, 5, 21, 5, 54, 5, 21, 4, 21, 7, 153, 0, 7, 4, 167, 0, 4, 3, 96, 54, 4]
abbrev dktX0_which_4 : List UInt8 := dkwX0_which_4 ++ dktX0_which_5
def dkwX0_which_3 : List UInt8 := [163, 0, 52, 42, 45, 21, 6, 182, 1, 30, 54, 7, 21, 7, 153, 0, 13, 21, 4, 154, 0, 8, 21, 6]
abbrev dktX0_which_3 : List UInt8 := dkwX0_which_3 ++ dktX0_which_4
def dkwX0_which_2 : List UInt8 := [4, 167, 0, 4, 3, 5, 182, 0, 87, 3, 54, 4, 2, 54, 5, 3, 54, 6, 21, 6, 16, 99]
abbrev dktX0_which_2 : List UInt8 := dkwX0_which_2 ++ dktX0_which_3
def dkwX0_which_1 : List UInt8 := [182, 0, 87, 42, 27, 182, 1, 23, 78, 42, 45, 182, 1, 27, 42, 180, 0, 46, 180, 0, 93, 160, 0, 7]
abbrev dktX0_which_1 : List UInt8 := dkwX0_which_1 ++ dktX0_which_2
def dkwX0_which_0 : List UInt8 := [42, 27, 184, 1, 20, 153, 0, 16, 28, 3, 4, 184, 0, 79, 153, 0, 7, 4, 167, 0, 4, 3, 4]
abbrev dktX0_which_0 : List UInt8 := dkwX0_which_0 ++ dktX0_which_1
theorem dksX0_which_0 : cX0_which.data.toList.drop 0 = dktX0_which_0 := by decide +kernel
theorem dksX0_which_1 : cX0_which.data.toList.drop 23 = dktX0_which_1 := dk_seg dksX0_which_0 23 rfl rfl
theorem dksX0_which_2 : cX0_which.data.toList.drop 47 = dktX0_which_2 := dk_seg dksX0_which_1 24 rfl rfl
theorem dksX0_which_3 : cX0_which.data.toList.drop 69 = dktX0_which_3 := dk_seg dksX0_which_2 22 rfl rfl
theorem dksX0_which_4 : cX0_which.data.toList.drop 93 = dktX0_which_4 := dk_seg dksX0_which_3 24 rfl rfl
theorem dksX0_which_5 : cX0_which.data.toList.drop 115 = dktX0_which_5 := dk_seg dksX0_which_4 22 rfl rfl
theorem dksX0_which_6 : cX0_which.data.toList.drop 137 = dktX0_which_6 := dk_seg dksX0_which_5 22 rfl rfl
theorem dX0_which_0 : decode cX0_which 0 = .ok (.aload_n 0, 1) := dk_42 (dk_at dksX0_which_0 0 rfl rfl)
theorem dX0_which_1 : decode cX0_which 1 = .ok (.iload_n 1, 1) := dk_27 (dk_at dksX0_which_0 1 rfl rfl)
theorem dX0_which_2 : decode cX0_which 2 = .ok (.invokestatic 276, 3) := dk_184 1 20 (dk_at dksX0_which_0 2 rfl rfl)
theorem dX0_which_5 : decode cX0_which 5 = .ok (.ifCond .eq 16, 3) := dk_153 0 16 (dk_at dksX0_which_0 5 rfl rfl)
theorem dX0_which_8 : decode cX0_which 8 = .ok (.iload_n 2, 1) := dk_28 (dk_at dksX0_which_0 8 rfl rfl)
theorem dX0_which_9 : decode cX0_which 9 = .ok (.iconst 0, 1) := dk_3 (dk_at dksX0_which_0 9 rfl rfl)
theorem dX0_which_10 : decode cX0_which 10 = .ok (.iconst 1, 1) := dk_4 (dk_at dksX0_which_0 10 rfl rfl)
theorem dX0_which_11 : decode cX0_which 11 = .ok (.invokestatic 79, 3) := dk_184 0 79 (dk_at dksX0_which_0 11 rfl rfl)
theorem dX0_which_14 : decode cX0_which 14 = .ok (.ifCond .eq 7, 3) := dk_153 0 7 (dk_at dksX0_which_0 14 rfl rfl)
theorem dX0_which_17 : decode cX0_which 17 = .ok (.iconst 1, 1) := dk_4 (dk_at dksX0_which_0 17 rfl rfl)
theorem dX0_which_18 : decode cX0_which 18 = .ok (.goto 4, 3) := dk_167 0 4 (dk_at dksX0_which_0 18 rfl rfl)
theorem dX0_which_21 : decode cX0_which 21 = .ok (.iconst 0, 1) := dk_3 (dk_at dksX0_which_0 21 rfl rfl)
theorem dX0_which_22 : decode cX0_which 22 = .ok (.iconst 1, 1) := dk_4 (dk_at dksX0_which_0 22 rfl rfl)
theorem dX0_which_23 : decode cX0_which 23 = .ok (.invokevirtual 87, 3) := dk_182 0 87 (dk_at dksX0_which_1 0 rfl rfl)
theorem dX0_which_26 : decode cX0_which 26 = .ok (.aload_n 0, 1) := dk_42 (dk_at dksX0_which_1 3 rfl rfl)
theorem dX0_which_27 : decode cX0_which 27 = .ok (.iload_n 1, 1) := dk_27 (dk_at dksX0_which_1 4 rfl rfl)
theorem dX0_which_28 : decode cX0_which 28 = .ok (.invokevirtual 279, 3) := dk_182 1 23 (dk_at dksX0_which_1 5 rfl rfl)
theorem dX0_which_31 : decode cX0_which 31 = .ok (.astore_n 3, 1) := dk_78 (dk_at dksX0_which_1 8 rfl rfl)
theorem dX0_which_32 : decode cX0_which 32 = .ok (.aload_n 0, 1) := dk_42 (dk_at dksX0_which_1 9 rfl rfl)
theorem dX0_which_33 : decode cX0_which 33 = .ok (.aload_n 3, 1) := dk_45 (dk_at dksX0_which_1 10 rfl rfl)
theorem dX0_which_34 : decode cX0_which 34 = .ok (.invokevirtual 283, 3) := dk_182 1 27 (dk_at dksX0_which_1 11 rfl rfl)
theorem dX0_which_37 : decode cX0_which 37 = .ok (.aload_n 0, 1) := dk_42 (dk_at dksX0_which_1 14 rfl rfl)
theorem dX0_which_38 : decode cX0_which 38 = .ok (.getfield 46, 3) := dk_180 0 46 (dk_at dksX0_which_1 15 rfl rfl)
theorem dX0_which_41 : decode cX0_which 41 = .ok (.getfield 93, 3) := dk_180 0 93 (dk_at dksX0_which_1 18 rfl rfl)
theorem dX0_which_44 : decode cX0_which 44 = .ok (.if_icmp .ne 7, 3) := dk_160 0 7 (dk_at dksX0_which_1 21 rfl rfl)
theorem dX0_which_47 : decode cX0_which 47 = .ok (.iconst 1, 1) := dk_4 (dk_at dksX0_which_2 0 rfl rfl)
theorem dX0_which_48 : decode cX0_which 48 = .ok (.goto 4, 3) := dk_167 0 4 (dk_at dksX0_which_2 1 rfl rfl)
theorem dX0_which_51 : decode cX0_which 51 = .ok (.iconst 0, 1) := dk_3 (dk_at dksX0_which_2 4 rfl rfl)
theorem dX0_which_52 : decode cX0_which 52 = .ok (.iconst 2, 1) := dk_5 (dk_at dksX0_which_2 5 rfl rfl)
theorem dX0_which_53 : decode cX0_which 53 = .ok (.invokevirtual 87, 3) := dk_182 0 87 (dk_at dksX0_which_2 6 rfl rfl)
theorem dX0_which_56 : decode cX0_which 56 = .ok (.iconst 0, 1) := dk_3 (dk_at dksX0_which_2 9 rfl rfl)
theorem dX0_which_57 : decode cX0_which 57 = .ok (.istore 4, 2) := dk_54 4 (dk_at dksX0_which_2 10 rfl rfl)
theorem dX0_which_59 : decode cX0_which 59 = .ok (.iconst (-1), 1) := dk_2 (dk_at dksX0_which_2 12 rfl rfl)
theorem dX0_which_60 : decode cX0_which 60 = .ok (.istore 5, 2) := dk_54 5 (dk_at dksX0_which_2 13 rfl rfl)
theorem dX0_which_62 : decode cX0_which 62 = .ok (.iconst 0, 1) := dk_3 (dk_at dksX0_which_2 15 rfl rfl)
theorem dX0_which_63 : decode cX0_which 63 = .ok (.istore 6, 2) := dk_54 6 (dk_at dksX0_which_2 16 rfl rfl)
theorem dX0_which_65 : decode cX0_which 65 = .ok (.iload 6, 2) := dk_21 6 (dk_at dksX0_which_2 18 rfl rfl)
theorem dX0_which_67 : decode cX0_which 67 = .ok (.bipush 99, 2) := dk_16 99 (dk_at dksX0_which_2 20 rfl rfl)
theorem dX0_which_69 : decode cX0_which 69 = .ok (.if_icmp .gt 52, 3) := dk_163 0 52 (dk_at dksX0_which_3 0 rfl rfl)
theorem dX0_which_72 : decode cX0_which 72 = .ok (.aload_n 0, 1) := dk_42 (dk_at dksX0_which_3 3 rfl rfl)
theorem dX0_which_73 : decode cX0_which 73 = .ok (.aload_n 3, 1) := dk_45 (dk_at dksX0_which_3 4 rfl rfl)
theorem dX0_which_74 : decode cX0_which 74 = .ok (.iload 6, 2) := dk_21 6 (dk_at dksX0_which_3 5 rfl rfl)
theorem dX0_which_76 : decode cX0_which 76 = .ok (.invokevirtual 286, 3) := dk_182 1 30 (dk_at dksX0_which_3 7 rfl rfl)
theorem dX0_which_79 : decode cX0_which 79 = .ok (.istore 7, 2) := dk_54 7 (dk_at dksX0_which_3 10 rfl rfl)
theorem dX0_which_81 : decode cX0_which 81 = .ok (.iload 7, 2) := dk_21 7 (dk_at dksX0_which_3 12 rfl rfl)
theorem dX0_which_83 : decode cX0_which 83 = .ok (.ifCond .eq 13, 3) := dk_153 0 13 (dk_at dksX0_which_3 14 rfl rfl)
theorem dX0_which_86 : decode cX0_which 86 = .ok (.iload 4, 2) := dk_21 4 (dk_at dksX0_which_3 17 rfl rfl)
theorem dX0_which_88 : decode cX0_which 88 = .ok (.ifCond .ne 8, 3) := dk_154 0 8 (dk_at dksX0_which_3 19 rfl rfl)
theorem dX0_which_91 : decode cX0_which 91 = .ok (.iload 6, 2) := dk_21 6 (dk_at dksX0_which_3 22 rfl rfl)
theorem dX0_which_93 : decode cX0_which 93 = .ok (.goto 5, 3) := dk_167 0 5 (dk_at dksX0_which_4 0 rfl rfl)
theorem dX0_which_96 : decode cX0_which 96 = .ok (.iload 5, 2) := dk_21 5 (dk_at dksX0_which_4 3 rfl rfl)
theorem dX0_which_98 : decode cX0_which 98 = .ok (.istore 5, 2) := dk_54 5 (dk_at dksX0_which_4 5 rfl rfl)
theorem dX0_which_100 : decode cX0_which 100 = .ok (.iload 4, 2) := dk_21 4 (dk_at dksX0_which_4 7 rfl rfl)
theorem dX0_which_102 : decode cX0_which 102 = .ok (.iload 7, 2) := dk_21 7 (dk_at dksX0_which_4 9 rfl rfl)
theorem dX0_which_104 : decode cX0_which 104 = .ok (.ifCond .eq 7, 3) := dk_153 0 7 (dk_at dksX0_which_4 11 rfl rfl)
theorem dX0_which_107 : decode cX0_which 107 = .ok (.iconst 1, 1) := dk_4 (dk_at dksX0_which_4 14 rfl rfl)
theorem dX0_which_108 : decode cX0_which 108 = .ok (.goto 4, 3) := dk_167 0 4 (dk_at dksX0_which_4 15 rfl rfl)
theorem dX0_which_111 : decode cX0_which 111 = .ok (.iconst 0, 1) := dk_3 (dk_at dksX0_which_4 18 rfl rfl)
theorem dX0_which_112 : decode cX0_which 112 = .ok (.iadd, 1) := dk_96 (dk_at dksX0_which_4 19 rfl rfl)
theorem dX0_which_113 : decode cX0_which 113 = .ok (.istore 4, 2) := dk_54 4 (dk_at dksX0_which_4 20 rfl rfl)
theorem dX0_which_115 : decode cX0_which 115 = .ok (.iinc 6 1, 3) := dk_132 6 1 (dk_at dksX0_which_5 0 rfl rfl)
theorem dX0_which_118 : decode cX0_which 118 = .ok (.goto (-53), 3) := dk_167 255 203 (dk_at dksX0_which_5 3 rfl rfl)
theorem dX0_which_121 : decode cX0_which 121 = .ok (.aload_n 0, 1) := dk_42 (dk_at dksX0_which_5 6 rfl rfl)
theorem dX0_which_122 : decode cX0_which 122 = .ok (.iload_n 2, 1) := dk_28 (dk_at dksX0_which_5 7 rfl rfl)
theorem dX0_which_123 : decode cX0_which 123 = .ok (.ifCond .eq 8, 3) := dk_153 0 8 (dk_at dksX0_which_5 8 rfl rfl)
theorem dX0_which_126 : decode cX0_which 126 = .ok (.iload 4, 2) := dk_21 4 (dk_at dksX0_which_5 11 rfl rfl)
theorem dX0_which_128 : decode cX0_which 128 = .ok (.ifCond .le 7, 3) := dk_158 0 7 (dk_at dksX0_which_5 13 rfl rfl)
theorem dX0_which_131 : decode cX0_which 131 = .ok (.iconst 1, 1) := dk_4 (dk_at dksX0_which_5 16 rfl rfl)
theorem dX0_which_132 : decode cX0_which 132 = .ok (.goto 4, 3) := dk_167 0 4 (dk_at dksX0_which_5 17 rfl rfl)
theorem dX0_which_135 : decode cX0_which 135 = .ok (.iconst 0, 1) := dk_3 (dk_at dksX0_which_5 20 rfl rfl)
theorem dX0_which_136 : decode cX0_which 136 = .ok (.iconst 2, 1) := dk_5 (dk_at dksX0_which_5 21 rfl rfl)
theorem dX0_which_137 : decode cX0_which 137 = .ok (.invokevirtual 87, 3) := dk_182 0 87 (dk_at dksX0_which_6 0 rfl rfl)
theorem dX0_which_140 : decode cX0_which 140 = .ok (.iload_n 2, 1) := dk_28 (dk_at dksX0_which_6 3 rfl rfl)
theorem dX0_which_141 : decode cX0_which 141 = .ok (.ifCond .ne 8, 3) := dk_154 0 8 (dk_at dksX0_which_6 4 rfl rfl)
theorem dX0_which_144 : decode cX0_which 144 = .ok (.iload 4, 2) := dk_21 4 (dk_at dksX0_which_6 7 rfl rfl)
theorem dX0_which_146 : decode cX0_which 146 = .ok (.goto 5, 3) := dk_167 0 5 (dk_at dksX0_which_6 9 rfl rfl)
theorem dX0_which_149 : decode cX0_which 149 = .ok (.iload 5, 2) := dk_21 5 (dk_at dksX0_which_6 12 rfl rfl)
theorem dX0_which_151 : decode cX0_which 151 = .ok (.ireturn, 1) := dk_172 (dk_at dksX0_which_6 14 rfl rfl)
theorem dX0_which_152 : decode cX0_which 152 = .ok (.astore_n 3, 1) := dk_78 (dk_at dksX0_which_6 15 rfl rfl)
theorem dX0_which_153 : decode cX0_which 153 = .ok (.aload_n 0, 1) := dk_42 (dk_at dksX0_which_6 16 rfl rfl)
theorem dX0_which_154 : decode cX0_which 154 = .ok (.aload_n 3, 1) := dk_45 (dk_at dksX0_which_6 17 rfl rfl)
theorem dX0_which_155 : decode cX0_which 155 = .ok (.invokevirtual 111, 3) := dk_182 0 111 (dk_at dksX0_which_6 18 rfl rfl)
theorem dX0_which_158 : decode cX0_which 158 = .ok (.ireturn, 1) := dk_172 (dk_at dksX0_which_6 21 rfl rfl)
abbrev cX0_isSheet : ByteArray := prog_1_method_8_code
def yX0_isSheet : MethodName := ⟨RX0, "isSheet", "(I)Z"⟩
def dkwX0_isSheet_0 : List UInt8 := [26, 3, 6, 184, 0, 79, 172]
abbrev dktX0_isSheet_0 : List UInt8 := dkwX0_isSheet_0 ++ []
theorem dksX0_isSheet_0 : cX0_isSheet.data.toList.drop 0 = dktX0_isSheet_0 := by decide +kernel
theorem dX0_isSheet_0 : decode cX0_isSheet 0 = .ok (.iload_n 0, 1) := dk_26 (dk_at dksX0_isSheet_0 0 rfl rfl)
theorem dX0_isSheet_1 : decode cX0_isSheet 1 = .ok (.iconst 0, 1) := dk_3 (dk_at dksX0_isSheet_0 1 rfl rfl)
theorem dX0_isSheet_2 : decode cX0_isSheet 2 = .ok (.iconst 3, 1) := dk_6 (dk_at dksX0_isSheet_0 2 rfl rfl)
theorem dX0_isSheet_3 : decode cX0_isSheet 3 = .ok (.invokestatic 79, 3) := dk_184 0 79 (dk_at dksX0_isSheet_0 3 rfl rfl)
theorem dX0_isSheet_6 : decode cX0_isSheet 6 = .ok (.ireturn, 1) := dk_172 (dk_at dksX0_isSheet_0 6 rfl rfl)
abbrev cX0_sheetAt : ByteArray := prog_1_method_10_code
def yX0_sheetAt : MethodName := ⟨RX0, "sheetAt", "(I)LOldLight$Sheet;"⟩
def dkwX0_sheetAt_1 : List UInt8 := [180, 0, 69, 27, 50, 180, 0, 83, 192, 0, 91, 176]
abbrev dktX0_sheetAt_1 : List UInt8 := dkwX0_sheetAt_1 ++ []
def dkwX0_sheetAt_0 : List UInt8 := [42, 42, 180, 0, 69, 27, 50, 180, 0, 83, 198, 0, 7, 4, 167, 0, 4, 3, 5, 182, 0, 87, 42]
abbrev dktX0_sheetAt_0 : List UInt8 := dkwX0_sheetAt_0 ++ dktX0_sheetAt_1
theorem dksX0_sheetAt_0 : cX0_sheetAt.data.toList.drop 0 = dktX0_sheetAt_0 := by decide +kernel
theorem dksX0_sheetAt_1 : cX0_sheetAt.data.toList.drop 23 = dktX0_sheetAt_1 := dk_seg dksX0_sheetAt_0 23 rfl rfl
theorem dX0_sheetAt_0 : decode cX0_sheetAt 0 = .ok (.aload_n 0, 1) := dk_42 (dk_at dksX0_sheetAt_0 0 rfl rfl)
theorem dX0_sheetAt_1 : decode cX0_sheetAt 1 = .ok (.aload_n 0, 1) := dk_42 (dk_at dksX0_sheetAt_0 1 rfl rfl)
theorem dX0_sheetAt_2 : decode cX0_sheetAt 2 = .ok (.getfield 69, 3) := dk_180 0 69 (dk_at dksX0_sheetAt_0 2 rfl rfl)
theorem dX0_sheetAt_5 : decode cX0_sheetAt 5 = .ok (.iload_n 1, 1) := dk_27 (dk_at dksX0_sheetAt_0 5 rfl rfl)
theorem dX0_sheetAt_6 : decode cX0_sheetAt 6 = .ok (.aaload, 1) := dk_50 (dk_at dksX0_sheetAt_0 6 rfl rfl)
theorem dX0_sheetAt_7 : decode cX0_sheetAt 7 = .ok (.getfield 83, 3) := dk_180 0 83 (dk_at dksX0_sheetAt_0 7 rfl rfl)
theorem dX0_sheetAt_10 : decode cX0_sheetAt 10 = .ok (.ifnull 7, 3) := dk_198 0 7 (dk_at dksX0_sheetAt_0 10 rfl rfl)
theorem dX0_sheetAt_13 : decode cX0_sheetAt 13 = .ok (.iconst 1, 1) := dk_4 (dk_at dksX0_sheetAt_0 13 rfl rfl)
theorem dX0_sheetAt_14 : decode cX0_sheetAt 14 = .ok (.goto 4, 3) := dk_167 0 4 (dk_at dksX0_sheetAt_0 14 rfl rfl)
theorem dX0_sheetAt_17 : decode cX0_sheetAt 17 = .ok (.iconst 0, 1) := dk_3 (dk_at dksX0_sheetAt_0 17 rfl rfl)
theorem dX0_sheetAt_18 : decode cX0_sheetAt 18 = .ok (.iconst 2, 1) := dk_5 (dk_at dksX0_sheetAt_0 18 rfl rfl)
theorem dX0_sheetAt_19 : decode cX0_sheetAt 19 = .ok (.invokevirtual 87, 3) := dk_182 0 87 (dk_at dksX0_sheetAt_0 19 rfl rfl)
theorem dX0_sheetAt_22 : decode cX0_sheetAt 22 = .ok (.aload_n 0, 1) := dk_42 (dk_at dksX0_sheetAt_0 22 rfl rfl)
theorem dX0_sheetAt_23 : decode cX0_sheetAt 23 = .ok (.getfield 69, 3) := dk_180 0 69 (dk_at dksX0_sheetAt_1 0 rfl rfl)
theorem dX0_sheetAt_26 : decode cX0_sheetAt 26 = .ok (.iload_n 1, 1) := dk_27 (dk_at dksX0_sheetAt_1 3 rfl rfl)
theorem dX0_sheetAt_27 : decode cX0_sheetAt 27 = .ok (.aaload, 1) := dk_50 (dk_at dksX0_sheetAt_1 4 rfl rfl)
theorem dX0_sheetAt_28 : decode cX0_sheetAt 28 = .ok (.getfield 83, 3) := dk_180 0 83 (dk_at dksX0_sheetAt_1 5 rfl rfl)
theorem dX0_sheetAt_31 : decode cX0_sheetAt 31 = .ok (.checkcast 91, 3) := dk_192 0 91 (dk_at dksX0_sheetAt_1 8 rfl rfl)
theorem dX0_sheetAt_34 : decode cX0_sheetAt 34 = .ok (.areturn, 1) := dk_176 (dk_at dksX0_sheetAt_1 11 rfl rfl)
abbrev cX0_isShownSo : ByteArray := prog_1_method_40_code
def yX0_isShownSo : MethodName := ⟨RX0, "isShownSo", "(LOldLight$Sheet;I)Z"⟩
def dkwX0_isShownSo_2 : List UInt8 := [160, 0, 7, 4, 167, 0, 4, 3, 62, 132, 4, 1, 167, 255, 203, 29, 172]
abbrev dktX0_isShownSo_2 : List UInt8 := dkwX0_isShownSo_2 ++ []
def dkwX0_isShownSo_1 : List UInt8 := [182, 1, 17, 155, 0, 22, 43, 21, 4, 182, 1, 17, 42, 180, 0, 46, 21, 4, 28, 182, 0, 130]
abbrev dktX0_isShownSo_1 : List UInt8 := dkwX0_isShownSo_1 ++ dktX0_isShownSo_2
def dkwX0_isShownSo_0 : List UInt8 := [4, 62, 3, 54, 4, 21, 4, 42, 180, 0, 46, 180, 0, 93, 162, 0, 47, 29, 153, 0, 43, 43, 21, 4]
abbrev dktX0_isShownSo_0 : List UInt8 := dkwX0_isShownSo_0 ++ dktX0_isShownSo_1
theorem dksX0_isShownSo_0 : cX0_isShownSo.data.toList.drop 0 = dktX0_isShownSo_0 := by decide +kernel
theorem dksX0_isShownSo_1 : cX0_isShownSo.data.toList.drop 24 = dktX0_isShownSo_1 := dk_seg dksX0_isShownSo_0 24 rfl rfl
theorem dksX0_isShownSo_2 : cX0_isShownSo.data.toList.drop 46 = dktX0_isShownSo_2 := dk_seg dksX0_isShownSo_1 22 rfl rfl
theorem dX0_isShownSo_0 : decode cX0_isShownSo 0 = .ok (.iconst 1, 1) := dk_4 (dk_at dksX0_isShownSo_0 0 rfl rfl)
theorem dX0_isShownSo_1 : decode cX0_isShownSo 1 = .ok (.istore_n 3, 1) := dk_62 (dk_at dksX0_isShownSo_0 1 rfl rfl)
theorem dX0_isShownSo_2 : decode cX0_isShownSo 2 = .ok (.iconst 0, 1) := dk_3 (dk_at dksX0_isShownSo_0 2 rfl rfl)
theorem dX0_isShownSo_3 : decode cX0_isShownSo 3 = .ok (.istore 4, 2) := dk_54 4 (dk_at dksX0_isShownSo_0 3 rfl rfl)
theorem dX0_isShownSo_5 : decode cX0_isShownSo 5 = .ok (.iload 4, 2) := dk_21 4 (dk_at dksX0_isShownSo_0 5 rfl rfl)
theorem dX0_isShownSo_7 : decode cX0_isShownSo 7 = .ok (.aload_n 0, 1) := dk_42 (dk_at dksX0_isShownSo_0 7 rfl rfl)
theorem dX0_isShownSo_8 : decode cX0_isShownSo 8 = .ok (.getfield 46, 3) := dk_180 0 46 (dk_at dksX0_isShownSo_0 8 rfl rfl)
theorem dX0_isShownSo_11 : decode cX0_isShownSo 11 = .ok (.getfield 93, 3) := dk_180 0 93 (dk_at dksX0_isShownSo_0 11 rfl rfl)
theorem dX0_isShownSo_14 : decode cX0_isShownSo 14 = .ok (.if_icmp .ge 47, 3) := dk_162 0 47 (dk_at dksX0_isShownSo_0 14 rfl rfl)
theorem dX0_isShownSo_17 : decode cX0_isShownSo 17 = .ok (.iload_n 3, 1) := dk_29 (dk_at dksX0_isShownSo_0 17 rfl rfl)
theorem dX0_isShownSo_18 : decode cX0_isShownSo 18 = .ok (.ifCond .eq 43, 3) := dk_153 0 43 (dk_at dksX0_isShownSo_0 18 rfl rfl)
theorem dX0_isShownSo_21 : decode cX0_isShownSo 21 = .ok (.aload_n 1, 1) := dk_43 (dk_at dksX0_isShownSo_0 21 rfl rfl)
theorem dX0_isShownSo_22 : decode cX0_isShownSo 22 = .ok (.iload 4, 2) := dk_21 4 (dk_at dksX0_isShownSo_0 22 rfl rfl)
theorem dX0_isShownSo_24 : decode cX0_isShownSo 24 = .ok (.invokevirtual 273, 3) := dk_182 1 17 (dk_at dksX0_isShownSo_1 0 rfl rfl)
theorem dX0_isShownSo_27 : decode cX0_isShownSo 27 = .ok (.ifCond .lt 22, 3) := dk_155 0 22 (dk_at dksX0_isShownSo_1 3 rfl rfl)
theorem dX0_isShownSo_30 : decode cX0_isShownSo 30 = .ok (.aload_n 1, 1) := dk_43 (dk_at dksX0_isShownSo_1 6 rfl rfl)
theorem dX0_isShownSo_31 : decode cX0_isShownSo 31 = .ok (.iload 4, 2) := dk_21 4 (dk_at dksX0_isShownSo_1 7 rfl rfl)
theorem dX0_isShownSo_33 : decode cX0_isShownSo 33 = .ok (.invokevirtual 273, 3) := dk_182 1 17 (dk_at dksX0_isShownSo_1 9 rfl rfl)
theorem dX0_isShownSo_36 : decode cX0_isShownSo 36 = .ok (.aload_n 0, 1) := dk_42 (dk_at dksX0_isShownSo_1 12 rfl rfl)
theorem dX0_isShownSo_37 : decode cX0_isShownSo 37 = .ok (.getfield 46, 3) := dk_180 0 46 (dk_at dksX0_isShownSo_1 13 rfl rfl)
theorem dX0_isShownSo_40 : decode cX0_isShownSo 40 = .ok (.iload 4, 2) := dk_21 4 (dk_at dksX0_isShownSo_1 16 rfl rfl)
theorem dX0_isShownSo_42 : decode cX0_isShownSo 42 = .ok (.iload_n 2, 1) := dk_28 (dk_at dksX0_isShownSo_1 18 rfl rfl)
theorem dX0_isShownSo_43 : decode cX0_isShownSo 43 = .ok (.invokevirtual 130, 3) := dk_182 0 130 (dk_at dksX0_isShownSo_1 19 rfl rfl)
theorem dX0_isShownSo_46 : decode cX0_isShownSo 46 = .ok (.if_icmp .ne 7, 3) := dk_160 0 7 (dk_at dksX0_isShownSo_2 0 rfl rfl)
theorem dX0_isShownSo_49 : decode cX0_isShownSo 49 = .ok (.iconst 1, 1) := dk_4 (dk_at dksX0_isShownSo_2 3 rfl rfl)
theorem dX0_isShownSo_50 : decode cX0_isShownSo 50 = .ok (.goto 4, 3) := dk_167 0 4 (dk_at dksX0_isShownSo_2 4 rfl rfl)
theorem dX0_isShownSo_53 : decode cX0_isShownSo 53 = .ok (.iconst 0, 1) := dk_3 (dk_at dksX0_isShownSo_2 7 rfl rfl)
theorem dX0_isShownSo_54 : decode cX0_isShownSo 54 = .ok (.istore_n 3, 1) := dk_62 (dk_at dksX0_isShownSo_2 8 rfl rfl)
theorem dX0_isShownSo_55 : decode cX0_isShownSo 55 = .ok (.iinc 4 1, 3) := dk_132 4 1 (dk_at dksX0_isShownSo_2 9 rfl rfl)
theorem dX0_isShownSo_58 : decode cX0_isShownSo 58 = .ok (.goto (-53), 3) := dk_167 255 203 (dk_at dksX0_isShownSo_2 12 rfl rfl)
theorem dX0_isShownSo_61 : decode cX0_isShownSo 61 = .ok (.iload_n 3, 1) := dk_29 (dk_at dksX0_isShownSo_2 15 rfl rfl)
theorem dX0_isShownSo_62 : decode cX0_isShownSo 62 = .ok (.ireturn, 1) := dk_172 (dk_at dksX0_isShownSo_2 16 rfl rfl)
abbrev cX0_struck : ByteArray := prog_1_method_42_code
def yX0_struck : MethodName := ⟨RX0, "struck", "(I)I"⟩
def dkwX0_struck_2 : List UInt8 := [182, 0, 111, 172]
abbrev dktX0_struck_2 : List UInt8 := dkwX0_struck_2 ++ []
def dkwX0_struck_1 : List UInt8 := [182, 0, 234, 87, 42, 180, 0, 53, 182, 0, 254, 42, 180, 0, 53, 27, 182, 0, 134, 126, 172, 77, 42, 44]
abbrev dktX0_struck_1 : List UInt8 := dkwX0_struck_1 ++ dktX0_struck_2
def dkwX0_struck_0 : List UInt8 := [42, 42, 27, 182, 0, 115, 4, 182, 0, 87, 42, 180, 0, 53, 42, 180, 0, 46, 182, 0, 250, 16, 60]
abbrev dktX0_struck_0 : List UInt8 := dkwX0_struck_0 ++ dktX0_struck_1
theorem dksX0_struck_0 : cX0_struck.data.toList.drop 0 = dktX0_struck_0 := by decide +kernel
theorem dksX0_struck_1 : cX0_struck.data.toList.drop 23 = dktX0_struck_1 := dk_seg dksX0_struck_0 23 rfl rfl
theorem dksX0_struck_2 : cX0_struck.data.toList.drop 47 = dktX0_struck_2 := dk_seg dksX0_struck_1 24 rfl rfl
theorem dX0_struck_0 : decode cX0_struck 0 = .ok (.aload_n 0, 1) := dk_42 (dk_at dksX0_struck_0 0 rfl rfl)
theorem dX0_struck_1 : decode cX0_struck 1 = .ok (.aload_n 0, 1) := dk_42 (dk_at dksX0_struck_0 1 rfl rfl)
theorem dX0_struck_2 : decode cX0_struck 2 = .ok (.iload_n 1, 1) := dk_27 (dk_at dksX0_struck_0 2 rfl rfl)
theorem dX0_struck_3 : decode cX0_struck 3 = .ok (.invokevirtual 115, 3) := dk_182 0 115 (dk_at dksX0_struck_0 3 rfl rfl)
theorem dX0_struck_6 : decode cX0_struck 6 = .ok (.iconst 1, 1) := dk_4 (dk_at dksX0_struck_0 6 rfl rfl)
theorem dX0_struck_7 : decode cX0_struck 7 = .ok (.invokevirtual 87, 3) := dk_182 0 87 (dk_at dksX0_struck_0 7 rfl rfl)
theorem dX0_struck_10 : decode cX0_struck 10 = .ok (.aload_n 0, 1) := dk_42 (dk_at dksX0_struck_0 10 rfl rfl)
theorem dX0_struck_11 : decode cX0_struck 11 = .ok (.getfield 53, 3) := dk_180 0 53 (dk_at dksX0_struck_0 11 rfl rfl)
theorem dX0_struck_14 : decode cX0_struck 14 = .ok (.aload_n 0, 1) := dk_42 (dk_at dksX0_struck_0 14 rfl rfl)
theorem dX0_struck_15 : decode cX0_struck 15 = .ok (.getfield 46, 3) := dk_180 0 46 (dk_at dksX0_struck_0 15 rfl rfl)
theorem dX0_struck_18 : decode cX0_struck 18 = .ok (.invokevirtual 250, 3) := dk_182 0 250 (dk_at dksX0_struck_0 18 rfl rfl)
theorem dX0_struck_21 : decode cX0_struck 21 = .ok (.bipush 60, 2) := dk_16 60 (dk_at dksX0_struck_0 21 rfl rfl)
theorem dX0_struck_23 : decode cX0_struck 23 = .ok (.invokevirtual 234, 3) := dk_182 0 234 (dk_at dksX0_struck_1 0 rfl rfl)
theorem dX0_struck_26 : decode cX0_struck 26 = .ok (.pop, 1) := dk_87 (dk_at dksX0_struck_1 3 rfl rfl)
theorem dX0_struck_27 : decode cX0_struck 27 = .ok (.aload_n 0, 1) := dk_42 (dk_at dksX0_struck_1 4 rfl rfl)
theorem dX0_struck_28 : decode cX0_struck 28 = .ok (.getfield 53, 3) := dk_180 0 53 (dk_at dksX0_struck_1 5 rfl rfl)
theorem dX0_struck_31 : decode cX0_struck 31 = .ok (.invokevirtual 254, 3) := dk_182 0 254 (dk_at dksX0_struck_1 8 rfl rfl)
theorem dX0_struck_34 : decode cX0_struck 34 = .ok (.aload_n 0, 1) := dk_42 (dk_at dksX0_struck_1 11 rfl rfl)
theorem dX0_struck_35 : decode cX0_struck 35 = .ok (.getfield 53, 3) := dk_180 0 53 (dk_at dksX0_struck_1 12 rfl rfl)
theorem dX0_struck_38 : decode cX0_struck 38 = .ok (.iload_n 1, 1) := dk_27 (dk_at dksX0_struck_1 15 rfl rfl)
theorem dX0_struck_39 : decode cX0_struck 39 = .ok (.invokevirtual 134, 3) := dk_182 0 134 (dk_at dksX0_struck_1 16 rfl rfl)
theorem dX0_struck_42 : decode cX0_struck 42 = .ok (.iand, 1) := dk_126 (dk_at dksX0_struck_1 19 rfl rfl)
theorem dX0_struck_43 : decode cX0_struck 43 = .ok (.ireturn, 1) := dk_172 (dk_at dksX0_struck_1 20 rfl rfl)
theorem dX0_struck_44 : decode cX0_struck 44 = .ok (.astore_n 2, 1) := dk_77 (dk_at dksX0_struck_1 21 rfl rfl)
theorem dX0_struck_45 : decode cX0_struck 45 = .ok (.aload_n 0, 1) := dk_42 (dk_at dksX0_struck_1 22 rfl rfl)
theorem dX0_struck_46 : decode cX0_struck 46 = .ok (.aload_n 2, 1) := dk_44 (dk_at dksX0_struck_1 23 rfl rfl)
theorem dX0_struck_47 : decode cX0_struck 47 = .ok (.invokevirtual 111, 3) := dk_182 0 111 (dk_at dksX0_struck_2 0 rfl rfl)
theorem dX0_struck_50 : decode cX0_struck 50 = .ok (.ireturn, 1) := dk_172 (dk_at dksX0_struck_2 3 rfl rfl)
abbrev cX0_dark : ByteArray := prog_1_method_44_code
def yX0_dark : MethodName := ⟨RX0, "dark", "(I)I"⟩
def dkwX0_dark_4 : List UInt8 := [4, 167, 0, 4, 3, 5, 182, 0, 87, 28, 172, 77, 42, 44, 182, 0, 111, 172]
abbrev dktX0_dark_4 : List UInt8 := dkwX0_dark_4 ++ []
def dkwX0_dark_3 : List UInt8 := [182, 1, 37, 153, 0, 7, 29, 167, 0, 4, 28, 61, 132, 3, 1, 167, 255, 185, 42, 28, 2, 159, 0, 7]
abbrev dktX0_dark_3 : List UInt8 := dkwX0_dark_3 ++ dktX0_dark_4
def dkwX0_dark_2 : List UInt8 := [54, 4, 29, 42, 180, 0, 46, 180, 0, 99, 2, 130, 126, 154, 0, 21, 21, 4, 153, 0, 16, 42, 29, 27]
abbrev dktX0_dark_2 : List UInt8 := dkwX0_dark_2 ++ dktX0_dark_3
def dkwX0_dark_1 : List UInt8 := [163, 0, 66, 28, 2, 159, 0, 14, 29, 184, 1, 34, 28, 184, 1, 34, 162, 0, 7, 4, 167, 0, 4, 3]
abbrev dktX0_dark_1 : List UInt8 := dkwX0_dark_1 ++ dktX0_dark_2
def dkwX0_dark_0 : List UInt8 := [42, 27, 3, 16, 20, 184, 0, 79, 4, 182, 0, 87, 2, 61, 3, 62, 29, 42, 180, 0, 46, 180, 0, 99]
abbrev dktX0_dark_0 : List UInt8 := dkwX0_dark_0 ++ dktX0_dark_1
theorem dksX0_dark_0 : cX0_dark.data.toList.drop 0 = dktX0_dark_0 := by decide +kernel
theorem dksX0_dark_1 : cX0_dark.data.toList.drop 24 = dktX0_dark_1 := dk_seg dksX0_dark_0 24 rfl rfl
theorem dksX0_dark_2 : cX0_dark.data.toList.drop 48 = dktX0_dark_2 := dk_seg dksX0_dark_1 24 rfl rfl
theorem dksX0_dark_3 : cX0_dark.data.toList.drop 72 = dktX0_dark_3 := dk_seg dksX0_dark_2 24 rfl rfl
theorem dksX0_dark_4 : cX0_dark.data.toList.drop 96 = dktX0_dark_4 := dk_seg dksX0_dark_3 24 rfl rfl
theorem dX0_dark_0 : decode cX0_dark 0 = .ok (.aload_n 0, 1) := dk_42 (dk_at dksX0_dark_0 0 rfl rfl)
theorem dX0_dark_1 : decode cX0_dark 1 = .ok (.iload_n 1, 1) := dk_27 (dk_at dksX0_dark_0 1 rfl rfl)
theorem dX0_dark_2 : decode cX0_dark 2 = .ok (.iconst 0, 1) := dk_3 (dk_at dksX0_dark_0 2 rfl rfl)
theorem dX0_dark_3 : decode cX0_dark 3 = .ok (.bipush 20, 2) := dk_16 20 (dk_at dksX0_dark_0 3 rfl rfl)
theorem dX0_dark_5 : decode cX0_dark 5 = .ok (.invokestatic 79, 3) := dk_184 0 79 (dk_at dksX0_dark_0 5 rfl rfl)
theorem dX0_dark_8 : decode cX0_dark 8 = .ok (.iconst 1, 1) := dk_4 (dk_at dksX0_dark_0 8 rfl rfl)
theorem dX0_dark_9 : decode cX0_dark 9 = .ok (.invokevirtual 87, 3) := dk_182 0 87 (dk_at dksX0_dark_0 9 rfl rfl)
theorem dX0_dark_12 : decode cX0_dark 12 = .ok (.iconst (-1), 1) := dk_2 (dk_at dksX0_dark_0 12 rfl rfl)
theorem dX0_dark_13 : decode cX0_dark 13 = .ok (.istore_n 2, 1) := dk_61 (dk_at dksX0_dark_0 13 rfl rfl)
theorem dX0_dark_14 : decode cX0_dark 14 = .ok (.iconst 0, 1) := dk_3 (dk_at dksX0_dark_0 14 rfl rfl)
theorem dX0_dark_15 : decode cX0_dark 15 = .ok (.istore_n 3, 1) := dk_62 (dk_at dksX0_dark_0 15 rfl rfl)
theorem dX0_dark_16 : decode cX0_dark 16 = .ok (.iload_n 3, 1) := dk_29 (dk_at dksX0_dark_0 16 rfl rfl)
theorem dX0_dark_17 : decode cX0_dark 17 = .ok (.aload_n 0, 1) := dk_42 (dk_at dksX0_dark_0 17 rfl rfl)
theorem dX0_dark_18 : decode cX0_dark 18 = .ok (.getfield 46, 3) := dk_180 0 46 (dk_at dksX0_dark_0 18 rfl rfl)
theorem dX0_dark_21 : decode cX0_dark 21 = .ok (.getfield 99, 3) := dk_180 0 99 (dk_at dksX0_dark_0 21 rfl rfl)
theorem dX0_dark_24 : decode cX0_dark 24 = .ok (.if_icmp .gt 66, 3) := dk_163 0 66 (dk_at dksX0_dark_1 0 rfl rfl)
theorem dX0_dark_27 : decode cX0_dark 27 = .ok (.iload_n 2, 1) := dk_28 (dk_at dksX0_dark_1 3 rfl rfl)
theorem dX0_dark_28 : decode cX0_dark 28 = .ok (.iconst (-1), 1) := dk_2 (dk_at dksX0_dark_1 4 rfl rfl)
theorem dX0_dark_29 : decode cX0_dark 29 = .ok (.if_icmp .eq 14, 3) := dk_159 0 14 (dk_at dksX0_dark_1 5 rfl rfl)
theorem dX0_dark_32 : decode cX0_dark 32 = .ok (.iload_n 3, 1) := dk_29 (dk_at dksX0_dark_1 8 rfl rfl)
theorem dX0_dark_33 : decode cX0_dark 33 = .ok (.invokestatic 290, 3) := dk_184 1 34 (dk_at dksX0_dark_1 9 rfl rfl)
theorem dX0_dark_36 : decode cX0_dark 36 = .ok (.iload_n 2, 1) := dk_28 (dk_at dksX0_dark_1 12 rfl rfl)
theorem dX0_dark_37 : decode cX0_dark 37 = .ok (.invokestatic 290, 3) := dk_184 1 34 (dk_at dksX0_dark_1 13 rfl rfl)
theorem dX0_dark_40 : decode cX0_dark 40 = .ok (.if_icmp .ge 7, 3) := dk_162 0 7 (dk_at dksX0_dark_1 16 rfl rfl)
theorem dX0_dark_43 : decode cX0_dark 43 = .ok (.iconst 1, 1) := dk_4 (dk_at dksX0_dark_1 19 rfl rfl)
theorem dX0_dark_44 : decode cX0_dark 44 = .ok (.goto 4, 3) := dk_167 0 4 (dk_at dksX0_dark_1 20 rfl rfl)
theorem dX0_dark_47 : decode cX0_dark 47 = .ok (.iconst 0, 1) := dk_3 (dk_at dksX0_dark_1 23 rfl rfl)
theorem dX0_dark_48 : decode cX0_dark 48 = .ok (.istore 4, 2) := dk_54 4 (dk_at dksX0_dark_2 0 rfl rfl)
theorem dX0_dark_50 : decode cX0_dark 50 = .ok (.iload_n 3, 1) := dk_29 (dk_at dksX0_dark_2 2 rfl rfl)
theorem dX0_dark_51 : decode cX0_dark 51 = .ok (.aload_n 0, 1) := dk_42 (dk_at dksX0_dark_2 3 rfl rfl)
theorem dX0_dark_52 : decode cX0_dark 52 = .ok (.getfield 46, 3) := dk_180 0 46 (dk_at dksX0_dark_2 4 rfl rfl)
theorem dX0_dark_55 : decode cX0_dark 55 = .ok (.getfield 99, 3) := dk_180 0 99 (dk_at dksX0_dark_2 7 rfl rfl)
theorem dX0_dark_58 : decode cX0_dark 58 = .ok (.iconst (-1), 1) := dk_2 (dk_at dksX0_dark_2 10 rfl rfl)
theorem dX0_dark_59 : decode cX0_dark 59 = .ok (.ixor, 1) := dk_130 (dk_at dksX0_dark_2 11 rfl rfl)
theorem dX0_dark_60 : decode cX0_dark 60 = .ok (.iand, 1) := dk_126 (dk_at dksX0_dark_2 12 rfl rfl)
theorem dX0_dark_61 : decode cX0_dark 61 = .ok (.ifCond .ne 21, 3) := dk_154 0 21 (dk_at dksX0_dark_2 13 rfl rfl)
theorem dX0_dark_64 : decode cX0_dark 64 = .ok (.iload 4, 2) := dk_21 4 (dk_at dksX0_dark_2 16 rfl rfl)
theorem dX0_dark_66 : decode cX0_dark 66 = .ok (.ifCond .eq 16, 3) := dk_153 0 16 (dk_at dksX0_dark_2 18 rfl rfl)
theorem dX0_dark_69 : decode cX0_dark 69 = .ok (.aload_n 0, 1) := dk_42 (dk_at dksX0_dark_2 21 rfl rfl)
theorem dX0_dark_70 : decode cX0_dark 70 = .ok (.iload_n 3, 1) := dk_29 (dk_at dksX0_dark_2 22 rfl rfl)
theorem dX0_dark_71 : decode cX0_dark 71 = .ok (.iload_n 1, 1) := dk_27 (dk_at dksX0_dark_2 23 rfl rfl)
theorem dX0_dark_72 : decode cX0_dark 72 = .ok (.invokevirtual 293, 3) := dk_182 1 37 (dk_at dksX0_dark_3 0 rfl rfl)
theorem dX0_dark_75 : decode cX0_dark 75 = .ok (.ifCond .eq 7, 3) := dk_153 0 7 (dk_at dksX0_dark_3 3 rfl rfl)
theorem dX0_dark_78 : decode cX0_dark 78 = .ok (.iload_n 3, 1) := dk_29 (dk_at dksX0_dark_3 6 rfl rfl)
theorem dX0_dark_79 : decode cX0_dark 79 = .ok (.goto 4, 3) := dk_167 0 4 (dk_at dksX0_dark_3 7 rfl rfl)
theorem dX0_dark_82 : decode cX0_dark 82 = .ok (.iload_n 2, 1) := dk_28 (dk_at dksX0_dark_3 10 rfl rfl)
theorem dX0_dark_83 : decode cX0_dark 83 = .ok (.istore_n 2, 1) := dk_61 (dk_at dksX0_dark_3 11 rfl rfl)
theorem dX0_dark_84 : decode cX0_dark 84 = .ok (.iinc 3 1, 3) := dk_132 3 1 (dk_at dksX0_dark_3 12 rfl rfl)
theorem dX0_dark_87 : decode cX0_dark 87 = .ok (.goto (-71), 3) := dk_167 255 185 (dk_at dksX0_dark_3 15 rfl rfl)
theorem dX0_dark_90 : decode cX0_dark 90 = .ok (.aload_n 0, 1) := dk_42 (dk_at dksX0_dark_3 18 rfl rfl)
theorem dX0_dark_91 : decode cX0_dark 91 = .ok (.iload_n 2, 1) := dk_28 (dk_at dksX0_dark_3 19 rfl rfl)
theorem dX0_dark_92 : decode cX0_dark 92 = .ok (.iconst (-1), 1) := dk_2 (dk_at dksX0_dark_3 20 rfl rfl)
theorem dX0_dark_93 : decode cX0_dark 93 = .ok (.if_icmp .eq 7, 3) := dk_159 0 7 (dk_at dksX0_dark_3 21 rfl rfl)
theorem dX0_dark_96 : decode cX0_dark 96 = .ok (.iconst 1, 1) := dk_4 (dk_at dksX0_dark_4 0 rfl rfl)
theorem dX0_dark_97 : decode cX0_dark 97 = .ok (.goto 4, 3) := dk_167 0 4 (dk_at dksX0_dark_4 1 rfl rfl)
theorem dX0_dark_100 : decode cX0_dark 100 = .ok (.iconst 0, 1) := dk_3 (dk_at dksX0_dark_4 4 rfl rfl)
theorem dX0_dark_101 : decode cX0_dark 101 = .ok (.iconst 2, 1) := dk_5 (dk_at dksX0_dark_4 5 rfl rfl)
theorem dX0_dark_102 : decode cX0_dark 102 = .ok (.invokevirtual 87, 3) := dk_182 0 87 (dk_at dksX0_dark_4 6 rfl rfl)
theorem dX0_dark_105 : decode cX0_dark 105 = .ok (.iload_n 2, 1) := dk_28 (dk_at dksX0_dark_4 9 rfl rfl)
theorem dX0_dark_106 : decode cX0_dark 106 = .ok (.ireturn, 1) := dk_172 (dk_at dksX0_dark_4 10 rfl rfl)
theorem dX0_dark_107 : decode cX0_dark 107 = .ok (.astore_n 2, 1) := dk_77 (dk_at dksX0_dark_4 11 rfl rfl)
theorem dX0_dark_108 : decode cX0_dark 108 = .ok (.aload_n 0, 1) := dk_42 (dk_at dksX0_dark_4 12 rfl rfl)
theorem dX0_dark_109 : decode cX0_dark 109 = .ok (.aload_n 2, 1) := dk_44 (dk_at dksX0_dark_4 13 rfl rfl)
theorem dX0_dark_110 : decode cX0_dark 110 = .ok (.invokevirtual 111, 3) := dk_182 0 111 (dk_at dksX0_dark_4 14 rfl rfl)
theorem dX0_dark_113 : decode cX0_dark 113 = .ok (.ireturn, 1) := dk_172 (dk_at dksX0_dark_4 17 rfl rfl)
abbrev cX0_isSafeWithout : ByteArray := prog_1_method_43_code
def yX0_isSafeWithout : MethodName := ⟨RX0, "isSafeWithout", "(II)Z"⟩
def dkwX0_isSafeWithout_2 : List UInt8 := [3, 172]
abbrev dktX0_isSafeWithout_2 : List UInt8 := dkwX0_isSafeWithout_2 ++ []
def dkwX0_isSafeWithout_1 : List UInt8 := [180, 0, 53, 28, 182, 0, 234, 182, 0, 254, 42, 180, 0, 46, 182, 0, 254, 160, 0, 7, 4, 167, 0, 4]
abbrev dktX0_isSafeWithout_1 : List UInt8 := dkwX0_isSafeWithout_1 ++ dktX0_isSafeWithout_2
def dkwX0_isSafeWithout_0 : List UInt8 := [42, 180, 0, 53, 42, 180, 0, 46, 182, 0, 250, 89, 180, 0, 99, 27, 2, 130, 126, 181, 0, 99, 42]
abbrev dktX0_isSafeWithout_0 : List UInt8 := dkwX0_isSafeWithout_0 ++ dktX0_isSafeWithout_1
theorem dksX0_isSafeWithout_0 : cX0_isSafeWithout.data.toList.drop 0 = dktX0_isSafeWithout_0 := by decide +kernel
theorem dksX0_isSafeWithout_1 : cX0_isSafeWithout.data.toList.drop 23 = dktX0_isSafeWithout_1 := dk_seg dksX0_isSafeWithout_0 23 rfl rfl
theorem dksX0_isSafeWithout_2 : cX0_isSafeWithout.data.toList.drop 47 = dktX0_isSafeWithout_2 := dk_seg dksX0_isSafeWithout_1 24 rfl rfl
theorem dX0_isSafeWithout_0 : decode cX0_isSafeWithout 0 = .ok (.aload_n 0, 1) := dk_42 (dk_at dksX0_isSafeWithout_0 0 rfl rfl)
theorem dX0_isSafeWithout_1 : decode cX0_isSafeWithout 1 = .ok (.getfield 53, 3) := dk_180 0 53 (dk_at dksX0_isSafeWithout_0 1 rfl rfl)
theorem dX0_isSafeWithout_4 : decode cX0_isSafeWithout 4 = .ok (.aload_n 0, 1) := dk_42 (dk_at dksX0_isSafeWithout_0 4 rfl rfl)
theorem dX0_isSafeWithout_5 : decode cX0_isSafeWithout 5 = .ok (.getfield 46, 3) := dk_180 0 46 (dk_at dksX0_isSafeWithout_0 5 rfl rfl)
theorem dX0_isSafeWithout_8 : decode cX0_isSafeWithout 8 = .ok (.invokevirtual 250, 3) := dk_182 0 250 (dk_at dksX0_isSafeWithout_0 8 rfl rfl)
theorem dX0_isSafeWithout_11 : decode cX0_isSafeWithout 11 = .ok (.dup, 1) := dk_89 (dk_at dksX0_isSafeWithout_0 11 rfl rfl)
theorem dX0_isSafeWithout_12 : decode cX0_isSafeWithout 12 = .ok (.getfield 99, 3) := dk_180 0 99 (dk_at dksX0_isSafeWithout_0 12 rfl rfl)
theorem dX0_isSafeWithout_15 : decode cX0_isSafeWithout 15 = .ok (.iload_n 1, 1) := dk_27 (dk_at dksX0_isSafeWithout_0 15 rfl rfl)
theorem dX0_isSafeWithout_16 : decode cX0_isSafeWithout 16 = .ok (.iconst (-1), 1) := dk_2 (dk_at dksX0_isSafeWithout_0 16 rfl rfl)
theorem dX0_isSafeWithout_17 : decode cX0_isSafeWithout 17 = .ok (.ixor, 1) := dk_130 (dk_at dksX0_isSafeWithout_0 17 rfl rfl)
theorem dX0_isSafeWithout_18 : decode cX0_isSafeWithout 18 = .ok (.iand, 1) := dk_126 (dk_at dksX0_isSafeWithout_0 18 rfl rfl)
theorem dX0_isSafeWithout_19 : decode cX0_isSafeWithout 19 = .ok (.putfield 99, 3) := dk_181 0 99 (dk_at dksX0_isSafeWithout_0 19 rfl rfl)
theorem dX0_isSafeWithout_22 : decode cX0_isSafeWithout 22 = .ok (.aload_n 0, 1) := dk_42 (dk_at dksX0_isSafeWithout_0 22 rfl rfl)
theorem dX0_isSafeWithout_23 : decode cX0_isSafeWithout 23 = .ok (.getfield 53, 3) := dk_180 0 53 (dk_at dksX0_isSafeWithout_1 0 rfl rfl)
theorem dX0_isSafeWithout_26 : decode cX0_isSafeWithout 26 = .ok (.iload_n 2, 1) := dk_28 (dk_at dksX0_isSafeWithout_1 3 rfl rfl)
theorem dX0_isSafeWithout_27 : decode cX0_isSafeWithout 27 = .ok (.invokevirtual 234, 3) := dk_182 0 234 (dk_at dksX0_isSafeWithout_1 4 rfl rfl)
theorem dX0_isSafeWithout_30 : decode cX0_isSafeWithout 30 = .ok (.invokevirtual 254, 3) := dk_182 0 254 (dk_at dksX0_isSafeWithout_1 7 rfl rfl)
theorem dX0_isSafeWithout_33 : decode cX0_isSafeWithout 33 = .ok (.aload_n 0, 1) := dk_42 (dk_at dksX0_isSafeWithout_1 10 rfl rfl)
theorem dX0_isSafeWithout_34 : decode cX0_isSafeWithout 34 = .ok (.getfield 46, 3) := dk_180 0 46 (dk_at dksX0_isSafeWithout_1 11 rfl rfl)
theorem dX0_isSafeWithout_37 : decode cX0_isSafeWithout 37 = .ok (.invokevirtual 254, 3) := dk_182 0 254 (dk_at dksX0_isSafeWithout_1 14 rfl rfl)
theorem dX0_isSafeWithout_40 : decode cX0_isSafeWithout 40 = .ok (.if_icmp .ne 7, 3) := dk_160 0 7 (dk_at dksX0_isSafeWithout_1 17 rfl rfl)
theorem dX0_isSafeWithout_43 : decode cX0_isSafeWithout 43 = .ok (.iconst 1, 1) := dk_4 (dk_at dksX0_isSafeWithout_1 20 rfl rfl)
theorem dX0_isSafeWithout_44 : decode cX0_isSafeWithout 44 = .ok (.goto 4, 3) := dk_167 0 4 (dk_at dksX0_isSafeWithout_1 21 rfl rfl)
theorem dX0_isSafeWithout_47 : decode cX0_isSafeWithout 47 = .ok (.iconst 0, 1) := dk_3 (dk_at dksX0_isSafeWithout_2 0 rfl rfl)
theorem dX0_isSafeWithout_48 : decode cX0_isSafeWithout 48 = .ok (.ireturn, 1) := dk_172 (dk_at dksX0_isSafeWithout_2 1 rfl rfl)
abbrev cX0_deep : ByteArray := prog_1_method_45_code
def yX0_deep : MethodName := ⟨RX0, "deep", "(II)I"⟩
def dkwX0_deep_3 : List UInt8 := [167, 0, 4, 3, 5, 182, 0, 87, 29, 172, 78, 42, 45, 182, 0, 111, 172]
abbrev dktX0_deep_3 : List UInt8 := dkwX0_deep_3 ++ []
def dkwX0_deep_2 : List UInt8 := [29, 100, 182, 0, 244, 28, 162, 0, 9, 132, 3, 1, 167, 255, 226, 42, 29, 16, 99, 163, 0, 7, 4]
abbrev dktX0_deep_2 : List UInt8 := dkwX0_deep_2 ++ dktX0_deep_3
def dkwX0_deep_1 : List UInt8 := [4, 182, 0, 87, 3, 62, 29, 16, 99, 163, 0, 30, 42, 180, 0, 46, 27, 42, 180, 0, 46, 180, 0, 144]
abbrev dktX0_deep_1 : List UInt8 := dkwX0_deep_1 ++ dktX0_deep_2
def dkwX0_deep_0 : List UInt8 := [42, 42, 27, 182, 0, 115, 153, 0, 17, 28, 3, 16, 19, 184, 0, 79, 153, 0, 7, 4, 167, 0, 4, 3]
abbrev dktX0_deep_0 : List UInt8 := dkwX0_deep_0 ++ dktX0_deep_1
theorem dksX0_deep_0 : cX0_deep.data.toList.drop 0 = dktX0_deep_0 := by decide +kernel
theorem dksX0_deep_1 : cX0_deep.data.toList.drop 24 = dktX0_deep_1 := dk_seg dksX0_deep_0 24 rfl rfl
theorem dksX0_deep_2 : cX0_deep.data.toList.drop 48 = dktX0_deep_2 := dk_seg dksX0_deep_1 24 rfl rfl
theorem dksX0_deep_3 : cX0_deep.data.toList.drop 71 = dktX0_deep_3 := dk_seg dksX0_deep_2 23 rfl rfl
theorem dX0_deep_0 : decode cX0_deep 0 = .ok (.aload_n 0, 1) := dk_42 (dk_at dksX0_deep_0 0 rfl rfl)
theorem dX0_deep_1 : decode cX0_deep 1 = .ok (.aload_n 0, 1) := dk_42 (dk_at dksX0_deep_0 1 rfl rfl)
theorem dX0_deep_2 : decode cX0_deep 2 = .ok (.iload_n 1, 1) := dk_27 (dk_at dksX0_deep_0 2 rfl rfl)
theorem dX0_deep_3 : decode cX0_deep 3 = .ok (.invokevirtual 115, 3) := dk_182 0 115 (dk_at dksX0_deep_0 3 rfl rfl)
theorem dX0_deep_6 : decode cX0_deep 6 = .ok (.ifCond .eq 17, 3) := dk_153 0 17 (dk_at dksX0_deep_0 6 rfl rfl)
theorem dX0_deep_9 : decode cX0_deep 9 = .ok (.iload_n 2, 1) := dk_28 (dk_at dksX0_deep_0 9 rfl rfl)
theorem dX0_deep_10 : decode cX0_deep 10 = .ok (.iconst 0, 1) := dk_3 (dk_at dksX0_deep_0 10 rfl rfl)
theorem dX0_deep_11 : decode cX0_deep 11 = .ok (.bipush 19, 2) := dk_16 19 (dk_at dksX0_deep_0 11 rfl rfl)
theorem dX0_deep_13 : decode cX0_deep 13 = .ok (.invokestatic 79, 3) := dk_184 0 79 (dk_at dksX0_deep_0 13 rfl rfl)
theorem dX0_deep_16 : decode cX0_deep 16 = .ok (.ifCond .eq 7, 3) := dk_153 0 7 (dk_at dksX0_deep_0 16 rfl rfl)
theorem dX0_deep_19 : decode cX0_deep 19 = .ok (.iconst 1, 1) := dk_4 (dk_at dksX0_deep_0 19 rfl rfl)
theorem dX0_deep_20 : decode cX0_deep 20 = .ok (.goto 4, 3) := dk_167 0 4 (dk_at dksX0_deep_0 20 rfl rfl)
theorem dX0_deep_23 : decode cX0_deep 23 = .ok (.iconst 0, 1) := dk_3 (dk_at dksX0_deep_0 23 rfl rfl)
theorem dX0_deep_24 : decode cX0_deep 24 = .ok (.iconst 1, 1) := dk_4 (dk_at dksX0_deep_1 0 rfl rfl)
theorem dX0_deep_25 : decode cX0_deep 25 = .ok (.invokevirtual 87, 3) := dk_182 0 87 (dk_at dksX0_deep_1 1 rfl rfl)
theorem dX0_deep_28 : decode cX0_deep 28 = .ok (.iconst 0, 1) := dk_3 (dk_at dksX0_deep_1 4 rfl rfl)
theorem dX0_deep_29 : decode cX0_deep 29 = .ok (.istore_n 3, 1) := dk_62 (dk_at dksX0_deep_1 5 rfl rfl)
theorem dX0_deep_30 : decode cX0_deep 30 = .ok (.iload_n 3, 1) := dk_29 (dk_at dksX0_deep_1 6 rfl rfl)
theorem dX0_deep_31 : decode cX0_deep 31 = .ok (.bipush 99, 2) := dk_16 99 (dk_at dksX0_deep_1 7 rfl rfl)
theorem dX0_deep_33 : decode cX0_deep 33 = .ok (.if_icmp .gt 30, 3) := dk_163 0 30 (dk_at dksX0_deep_1 9 rfl rfl)
theorem dX0_deep_36 : decode cX0_deep 36 = .ok (.aload_n 0, 1) := dk_42 (dk_at dksX0_deep_1 12 rfl rfl)
theorem dX0_deep_37 : decode cX0_deep 37 = .ok (.getfield 46, 3) := dk_180 0 46 (dk_at dksX0_deep_1 13 rfl rfl)
theorem dX0_deep_40 : decode cX0_deep 40 = .ok (.iload_n 1, 1) := dk_27 (dk_at dksX0_deep_1 16 rfl rfl)
theorem dX0_deep_41 : decode cX0_deep 41 = .ok (.aload_n 0, 1) := dk_42 (dk_at dksX0_deep_1 17 rfl rfl)
theorem dX0_deep_42 : decode cX0_deep 42 = .ok (.getfield 46, 3) := dk_180 0 46 (dk_at dksX0_deep_1 18 rfl rfl)
theorem dX0_deep_45 : decode cX0_deep 45 = .ok (.getfield 144, 3) := dk_180 0 144 (dk_at dksX0_deep_1 21 rfl rfl)
theorem dX0_deep_48 : decode cX0_deep 48 = .ok (.iload_n 3, 1) := dk_29 (dk_at dksX0_deep_2 0 rfl rfl)
theorem dX0_deep_49 : decode cX0_deep 49 = .ok (.isub, 1) := dk_100 (dk_at dksX0_deep_2 1 rfl rfl)
theorem dX0_deep_50 : decode cX0_deep 50 = .ok (.invokevirtual 244, 3) := dk_182 0 244 (dk_at dksX0_deep_2 2 rfl rfl)
theorem dX0_deep_53 : decode cX0_deep 53 = .ok (.iload_n 2, 1) := dk_28 (dk_at dksX0_deep_2 5 rfl rfl)
theorem dX0_deep_54 : decode cX0_deep 54 = .ok (.if_icmp .ge 9, 3) := dk_162 0 9 (dk_at dksX0_deep_2 6 rfl rfl)
theorem dX0_deep_57 : decode cX0_deep 57 = .ok (.iinc 3 1, 3) := dk_132 3 1 (dk_at dksX0_deep_2 9 rfl rfl)
theorem dX0_deep_60 : decode cX0_deep 60 = .ok (.goto (-30), 3) := dk_167 255 226 (dk_at dksX0_deep_2 12 rfl rfl)
theorem dX0_deep_63 : decode cX0_deep 63 = .ok (.aload_n 0, 1) := dk_42 (dk_at dksX0_deep_2 15 rfl rfl)
theorem dX0_deep_64 : decode cX0_deep 64 = .ok (.iload_n 3, 1) := dk_29 (dk_at dksX0_deep_2 16 rfl rfl)
theorem dX0_deep_65 : decode cX0_deep 65 = .ok (.bipush 99, 2) := dk_16 99 (dk_at dksX0_deep_2 17 rfl rfl)
theorem dX0_deep_67 : decode cX0_deep 67 = .ok (.if_icmp .gt 7, 3) := dk_163 0 7 (dk_at dksX0_deep_2 19 rfl rfl)
theorem dX0_deep_70 : decode cX0_deep 70 = .ok (.iconst 1, 1) := dk_4 (dk_at dksX0_deep_2 22 rfl rfl)
theorem dX0_deep_71 : decode cX0_deep 71 = .ok (.goto 4, 3) := dk_167 0 4 (dk_at dksX0_deep_3 0 rfl rfl)
theorem dX0_deep_74 : decode cX0_deep 74 = .ok (.iconst 0, 1) := dk_3 (dk_at dksX0_deep_3 3 rfl rfl)
theorem dX0_deep_75 : decode cX0_deep 75 = .ok (.iconst 2, 1) := dk_5 (dk_at dksX0_deep_3 4 rfl rfl)
theorem dX0_deep_76 : decode cX0_deep 76 = .ok (.invokevirtual 87, 3) := dk_182 0 87 (dk_at dksX0_deep_3 5 rfl rfl)
theorem dX0_deep_79 : decode cX0_deep 79 = .ok (.iload_n 3, 1) := dk_29 (dk_at dksX0_deep_3 8 rfl rfl)
theorem dX0_deep_80 : decode cX0_deep 80 = .ok (.ireturn, 1) := dk_172 (dk_at dksX0_deep_3 9 rfl rfl)
theorem dX0_deep_81 : decode cX0_deep 81 = .ok (.astore_n 3, 1) := dk_78 (dk_at dksX0_deep_3 10 rfl rfl)
theorem dX0_deep_82 : decode cX0_deep 82 = .ok (.aload_n 0, 1) := dk_42 (dk_at dksX0_deep_3 11 rfl rfl)
theorem dX0_deep_83 : decode cX0_deep 83 = .ok (.aload_n 3, 1) := dk_45 (dk_at dksX0_deep_3 12 rfl rfl)
theorem dX0_deep_84 : decode cX0_deep 84 = .ok (.invokevirtual 111, 3) := dk_182 0 111 (dk_at dksX0_deep_3 13 rfl rfl)
theorem dX0_deep_87 : decode cX0_deep 87 = .ok (.ireturn, 1) := dk_172 (dk_at dksX0_deep_3 16 rfl rfl)
abbrev cX0_draws : ByteArray := prog_1_method_47_code
def yX0_draws : MethodName := ⟨RX0, "draws", "(I)I"⟩
def dkwX0_draws_3 : List UInt8 := [44, 182, 0, 111, 172]
abbrev dktX0_draws_3 : List UInt8 := dkwX0_draws_3 ++ []
def dkwX0_draws_2 : List UInt8 := [132, 2, 255, 167, 255, 240, 42, 28, 155, 0, 7, 4, 167, 0, 4, 3, 5, 182, 0, 87, 28, 172, 77, 42]
abbrev dktX0_draws_2 : List UInt8 := dkwX0_draws_2 ++ dktX0_draws_3
def dkwX0_draws_1 : List UInt8 := [167, 0, 4, 3, 6, 182, 0, 87, 16, 9, 61, 28, 155, 0, 18, 42, 27, 28, 182, 1, 40, 154, 0, 9]
abbrev dktX0_draws_1 : List UInt8 := dkwX0_draws_1 ++ dktX0_draws_2
def dkwX0_draws_0 : List UInt8 := [42, 42, 27, 182, 0, 182, 4, 182, 0, 87, 42, 42, 180, 0, 46, 180, 0, 161, 27, 46, 154, 0, 7, 4]
abbrev dktX0_draws_0 : List UInt8 := dkwX0_draws_0 ++ dktX0_draws_1
theorem dksX0_draws_0 : cX0_draws.data.toList.drop 0 = dktX0_draws_0 := by decide +kernel
theorem dksX0_draws_1 : cX0_draws.data.toList.drop 24 = dktX0_draws_1 := dk_seg dksX0_draws_0 24 rfl rfl
theorem dksX0_draws_2 : cX0_draws.data.toList.drop 48 = dktX0_draws_2 := dk_seg dksX0_draws_1 24 rfl rfl
theorem dksX0_draws_3 : cX0_draws.data.toList.drop 72 = dktX0_draws_3 := dk_seg dksX0_draws_2 24 rfl rfl
theorem dX0_draws_0 : decode cX0_draws 0 = .ok (.aload_n 0, 1) := dk_42 (dk_at dksX0_draws_0 0 rfl rfl)
theorem dX0_draws_1 : decode cX0_draws 1 = .ok (.aload_n 0, 1) := dk_42 (dk_at dksX0_draws_0 1 rfl rfl)
theorem dX0_draws_2 : decode cX0_draws 2 = .ok (.iload_n 1, 1) := dk_27 (dk_at dksX0_draws_0 2 rfl rfl)
theorem dX0_draws_3 : decode cX0_draws 3 = .ok (.invokevirtual 182, 3) := dk_182 0 182 (dk_at dksX0_draws_0 3 rfl rfl)
theorem dX0_draws_6 : decode cX0_draws 6 = .ok (.iconst 1, 1) := dk_4 (dk_at dksX0_draws_0 6 rfl rfl)
theorem dX0_draws_7 : decode cX0_draws 7 = .ok (.invokevirtual 87, 3) := dk_182 0 87 (dk_at dksX0_draws_0 7 rfl rfl)
theorem dX0_draws_10 : decode cX0_draws 10 = .ok (.aload_n 0, 1) := dk_42 (dk_at dksX0_draws_0 10 rfl rfl)
theorem dX0_draws_11 : decode cX0_draws 11 = .ok (.aload_n 0, 1) := dk_42 (dk_at dksX0_draws_0 11 rfl rfl)
theorem dX0_draws_12 : decode cX0_draws 12 = .ok (.getfield 46, 3) := dk_180 0 46 (dk_at dksX0_draws_0 12 rfl rfl)
theorem dX0_draws_15 : decode cX0_draws 15 = .ok (.getfield 161, 3) := dk_180 0 161 (dk_at dksX0_draws_0 15 rfl rfl)
theorem dX0_draws_18 : decode cX0_draws 18 = .ok (.iload_n 1, 1) := dk_27 (dk_at dksX0_draws_0 18 rfl rfl)
theorem dX0_draws_19 : decode cX0_draws 19 = .ok (.iaload, 1) := dk_46 (dk_at dksX0_draws_0 19 rfl rfl)
theorem dX0_draws_20 : decode cX0_draws 20 = .ok (.ifCond .ne 7, 3) := dk_154 0 7 (dk_at dksX0_draws_0 20 rfl rfl)
theorem dX0_draws_23 : decode cX0_draws 23 = .ok (.iconst 1, 1) := dk_4 (dk_at dksX0_draws_0 23 rfl rfl)
theorem dX0_draws_24 : decode cX0_draws 24 = .ok (.goto 4, 3) := dk_167 0 4 (dk_at dksX0_draws_1 0 rfl rfl)
theorem dX0_draws_27 : decode cX0_draws 27 = .ok (.iconst 0, 1) := dk_3 (dk_at dksX0_draws_1 3 rfl rfl)
theorem dX0_draws_28 : decode cX0_draws 28 = .ok (.iconst 3, 1) := dk_6 (dk_at dksX0_draws_1 4 rfl rfl)
theorem dX0_draws_29 : decode cX0_draws 29 = .ok (.invokevirtual 87, 3) := dk_182 0 87 (dk_at dksX0_draws_1 5 rfl rfl)
theorem dX0_draws_32 : decode cX0_draws 32 = .ok (.bipush 9, 2) := dk_16 9 (dk_at dksX0_draws_1 8 rfl rfl)
theorem dX0_draws_34 : decode cX0_draws 34 = .ok (.istore_n 2, 1) := dk_61 (dk_at dksX0_draws_1 10 rfl rfl)
theorem dX0_draws_35 : decode cX0_draws 35 = .ok (.iload_n 2, 1) := dk_28 (dk_at dksX0_draws_1 11 rfl rfl)
theorem dX0_draws_36 : decode cX0_draws 36 = .ok (.ifCond .lt 18, 3) := dk_155 0 18 (dk_at dksX0_draws_1 12 rfl rfl)
theorem dX0_draws_39 : decode cX0_draws 39 = .ok (.aload_n 0, 1) := dk_42 (dk_at dksX0_draws_1 15 rfl rfl)
theorem dX0_draws_40 : decode cX0_draws 40 = .ok (.iload_n 1, 1) := dk_27 (dk_at dksX0_draws_1 16 rfl rfl)
theorem dX0_draws_41 : decode cX0_draws 41 = .ok (.iload_n 2, 1) := dk_28 (dk_at dksX0_draws_1 17 rfl rfl)
theorem dX0_draws_42 : decode cX0_draws 42 = .ok (.invokevirtual 296, 3) := dk_182 1 40 (dk_at dksX0_draws_1 18 rfl rfl)
theorem dX0_draws_45 : decode cX0_draws 45 = .ok (.ifCond .ne 9, 3) := dk_154 0 9 (dk_at dksX0_draws_1 21 rfl rfl)
theorem dX0_draws_48 : decode cX0_draws 48 = .ok (.iinc 2 (-1), 3) := dk_132 2 255 (dk_at dksX0_draws_2 0 rfl rfl)
theorem dX0_draws_51 : decode cX0_draws 51 = .ok (.goto (-16), 3) := dk_167 255 240 (dk_at dksX0_draws_2 3 rfl rfl)
theorem dX0_draws_54 : decode cX0_draws 54 = .ok (.aload_n 0, 1) := dk_42 (dk_at dksX0_draws_2 6 rfl rfl)
theorem dX0_draws_55 : decode cX0_draws 55 = .ok (.iload_n 2, 1) := dk_28 (dk_at dksX0_draws_2 7 rfl rfl)
theorem dX0_draws_56 : decode cX0_draws 56 = .ok (.ifCond .lt 7, 3) := dk_155 0 7 (dk_at dksX0_draws_2 8 rfl rfl)
theorem dX0_draws_59 : decode cX0_draws 59 = .ok (.iconst 1, 1) := dk_4 (dk_at dksX0_draws_2 11 rfl rfl)
theorem dX0_draws_60 : decode cX0_draws 60 = .ok (.goto 4, 3) := dk_167 0 4 (dk_at dksX0_draws_2 12 rfl rfl)
theorem dX0_draws_63 : decode cX0_draws 63 = .ok (.iconst 0, 1) := dk_3 (dk_at dksX0_draws_2 15 rfl rfl)
theorem dX0_draws_64 : decode cX0_draws 64 = .ok (.iconst 2, 1) := dk_5 (dk_at dksX0_draws_2 16 rfl rfl)
theorem dX0_draws_65 : decode cX0_draws 65 = .ok (.invokevirtual 87, 3) := dk_182 0 87 (dk_at dksX0_draws_2 17 rfl rfl)
theorem dX0_draws_68 : decode cX0_draws 68 = .ok (.iload_n 2, 1) := dk_28 (dk_at dksX0_draws_2 20 rfl rfl)
theorem dX0_draws_69 : decode cX0_draws 69 = .ok (.ireturn, 1) := dk_172 (dk_at dksX0_draws_2 21 rfl rfl)
theorem dX0_draws_70 : decode cX0_draws 70 = .ok (.astore_n 2, 1) := dk_77 (dk_at dksX0_draws_2 22 rfl rfl)
theorem dX0_draws_71 : decode cX0_draws 71 = .ok (.aload_n 0, 1) := dk_42 (dk_at dksX0_draws_2 23 rfl rfl)
theorem dX0_draws_72 : decode cX0_draws 72 = .ok (.aload_n 2, 1) := dk_44 (dk_at dksX0_draws_3 0 rfl rfl)
theorem dX0_draws_73 : decode cX0_draws 73 = .ok (.invokevirtual 111, 3) := dk_182 0 111 (dk_at dksX0_draws_3 1 rfl rfl)
theorem dX0_draws_76 : decode cX0_draws 76 = .ok (.ireturn, 1) := dk_172 (dk_at dksX0_draws_3 4 rfl rfl)
abbrev cX0_isInWith : ByteArray := prog_1_method_46_code
def yX0_isInWith : MethodName := ⟨RX0, "isInWith", "(II)Z"⟩
def dkwX0_isInWith_1 : List UInt8 := [182, 0, 234, 180, 0, 158, 27, 46, 154, 0, 7, 4, 167, 0, 4, 3, 172]
abbrev dktX0_isInWith_1 : List UInt8 := dkwX0_isInWith_1 ++ []
def dkwX0_isInWith_0 : List UInt8 := [42, 180, 0, 53, 42, 180, 0, 46, 182, 0, 250, 180, 0, 155, 27, 28, 79, 42, 180, 0, 53, 16, 60]
abbrev dktX0_isInWith_0 : List UInt8 := dkwX0_isInWith_0 ++ dktX0_isInWith_1
theorem dksX0_isInWith_0 : cX0_isInWith.data.toList.drop 0 = dktX0_isInWith_0 := by decide +kernel
theorem dksX0_isInWith_1 : cX0_isInWith.data.toList.drop 23 = dktX0_isInWith_1 := dk_seg dksX0_isInWith_0 23 rfl rfl
theorem dX0_isInWith_0 : decode cX0_isInWith 0 = .ok (.aload_n 0, 1) := dk_42 (dk_at dksX0_isInWith_0 0 rfl rfl)
theorem dX0_isInWith_1 : decode cX0_isInWith 1 = .ok (.getfield 53, 3) := dk_180 0 53 (dk_at dksX0_isInWith_0 1 rfl rfl)
theorem dX0_isInWith_4 : decode cX0_isInWith 4 = .ok (.aload_n 0, 1) := dk_42 (dk_at dksX0_isInWith_0 4 rfl rfl)
theorem dX0_isInWith_5 : decode cX0_isInWith 5 = .ok (.getfield 46, 3) := dk_180 0 46 (dk_at dksX0_isInWith_0 5 rfl rfl)
theorem dX0_isInWith_8 : decode cX0_isInWith 8 = .ok (.invokevirtual 250, 3) := dk_182 0 250 (dk_at dksX0_isInWith_0 8 rfl rfl)
theorem dX0_isInWith_11 : decode cX0_isInWith 11 = .ok (.getfield 155, 3) := dk_180 0 155 (dk_at dksX0_isInWith_0 11 rfl rfl)
theorem dX0_isInWith_14 : decode cX0_isInWith 14 = .ok (.iload_n 1, 1) := dk_27 (dk_at dksX0_isInWith_0 14 rfl rfl)
theorem dX0_isInWith_15 : decode cX0_isInWith 15 = .ok (.iload_n 2, 1) := dk_28 (dk_at dksX0_isInWith_0 15 rfl rfl)
theorem dX0_isInWith_16 : decode cX0_isInWith 16 = .ok (.iastore, 1) := dk_79 (dk_at dksX0_isInWith_0 16 rfl rfl)
theorem dX0_isInWith_17 : decode cX0_isInWith 17 = .ok (.aload_n 0, 1) := dk_42 (dk_at dksX0_isInWith_0 17 rfl rfl)
theorem dX0_isInWith_18 : decode cX0_isInWith 18 = .ok (.getfield 53, 3) := dk_180 0 53 (dk_at dksX0_isInWith_0 18 rfl rfl)
theorem dX0_isInWith_21 : decode cX0_isInWith 21 = .ok (.bipush 60, 2) := dk_16 60 (dk_at dksX0_isInWith_0 21 rfl rfl)
theorem dX0_isInWith_23 : decode cX0_isInWith 23 = .ok (.invokevirtual 234, 3) := dk_182 0 234 (dk_at dksX0_isInWith_1 0 rfl rfl)
theorem dX0_isInWith_26 : decode cX0_isInWith 26 = .ok (.getfield 158, 3) := dk_180 0 158 (dk_at dksX0_isInWith_1 3 rfl rfl)
theorem dX0_isInWith_29 : decode cX0_isInWith 29 = .ok (.iload_n 1, 1) := dk_27 (dk_at dksX0_isInWith_1 6 rfl rfl)
theorem dX0_isInWith_30 : decode cX0_isInWith 30 = .ok (.iaload, 1) := dk_46 (dk_at dksX0_isInWith_1 7 rfl rfl)
theorem dX0_isInWith_31 : decode cX0_isInWith 31 = .ok (.ifCond .ne 7, 3) := dk_154 0 7 (dk_at dksX0_isInWith_1 8 rfl rfl)
theorem dX0_isInWith_34 : decode cX0_isInWith 34 = .ok (.iconst 1, 1) := dk_4 (dk_at dksX0_isInWith_1 11 rfl rfl)
theorem dX0_isInWith_35 : decode cX0_isInWith 35 = .ok (.goto 4, 3) := dk_167 0 4 (dk_at dksX0_isInWith_1 12 rfl rfl)
theorem dX0_isInWith_38 : decode cX0_isInWith 38 = .ok (.iconst 0, 1) := dk_3 (dk_at dksX0_isInWith_1 15 rfl rfl)
theorem dX0_isInWith_39 : decode cX0_isInWith 39 = .ok (.ireturn, 1) := dk_172 (dk_at dksX0_isInWith_1 16 rfl rfl)
abbrev cX0_traffic : ByteArray := prog_1_method_48_code
def yX0_traffic : MethodName := ⟨RX0, "traffic", "(II)I"⟩
def dkwX0_traffic_5 : List UInt8 := [29, 167, 0, 5, 21, 4, 172, 78, 42, 45, 182, 0, 111, 172]
abbrev dktX0_traffic_5 : List UInt8 := dkwX0_traffic_5 ++ []
def dkwX0_traffic_4 : List UInt8 := [167, 0, 4, 29, 62, 21, 4, 21, 6, 184, 1, 43, 54, 4, 132, 5, 1, 167, 255, 194, 28, 154, 0, 7]
abbrev dktX0_traffic_4 : List UInt8 := dkwX0_traffic_4 ++ dktX0_traffic_5
def dkwX0_traffic_3 : List UInt8 := [42, 180, 0, 53, 182, 0, 254, 2, 130, 126, 184, 1, 34, 54, 6, 21, 6, 21, 4, 164, 0, 8, 21, 5]
abbrev dktX0_traffic_3 : List UInt8 := dkwX0_traffic_3 ++ dktX0_traffic_4
def dkwX0_traffic_2 : List UInt8 := [3, 54, 5, 21, 5, 42, 180, 0, 53, 180, 0, 93, 162, 0, 56, 42, 180, 0, 53, 21, 5, 182, 0, 134]
abbrev dktX0_traffic_2 : List UInt8 := dkwX0_traffic_2 ++ dktX0_traffic_3
def dkwX0_traffic_1 : List UInt8 := [182, 0, 87, 42, 180, 0, 53, 42, 180, 0, 46, 182, 0, 250, 27, 182, 0, 234, 87, 3, 62, 2, 54, 4]
abbrev dktX0_traffic_1 : List UInt8 := dkwX0_traffic_1 ++ dktX0_traffic_2
def dkwX0_traffic_0 : List UInt8 := [42, 27, 184, 0, 247, 153, 0, 16, 28, 3, 4, 184, 0, 79, 153, 0, 7, 4, 167, 0, 4, 3, 4]
abbrev dktX0_traffic_0 : List UInt8 := dkwX0_traffic_0 ++ dktX0_traffic_1
theorem dksX0_traffic_0 : cX0_traffic.data.toList.drop 0 = dktX0_traffic_0 := by decide +kernel
theorem dksX0_traffic_1 : cX0_traffic.data.toList.drop 23 = dktX0_traffic_1 := dk_seg dksX0_traffic_0 23 rfl rfl
theorem dksX0_traffic_2 : cX0_traffic.data.toList.drop 47 = dktX0_traffic_2 := dk_seg dksX0_traffic_1 24 rfl rfl
theorem dksX0_traffic_3 : cX0_traffic.data.toList.drop 71 = dktX0_traffic_3 := dk_seg dksX0_traffic_2 24 rfl rfl
theorem dksX0_traffic_4 : cX0_traffic.data.toList.drop 95 = dktX0_traffic_4 := dk_seg dksX0_traffic_3 24 rfl rfl
theorem dksX0_traffic_5 : cX0_traffic.data.toList.drop 119 = dktX0_traffic_5 := dk_seg dksX0_traffic_4 24 rfl rfl
theorem dX0_traffic_0 : decode cX0_traffic 0 = .ok (.aload_n 0, 1) := dk_42 (dk_at dksX0_traffic_0 0 rfl rfl)
theorem dX0_traffic_1 : decode cX0_traffic 1 = .ok (.iload_n 1, 1) := dk_27 (dk_at dksX0_traffic_0 1 rfl rfl)
theorem dX0_traffic_2 : decode cX0_traffic 2 = .ok (.invokestatic 247, 3) := dk_184 0 247 (dk_at dksX0_traffic_0 2 rfl rfl)
theorem dX0_traffic_5 : decode cX0_traffic 5 = .ok (.ifCond .eq 16, 3) := dk_153 0 16 (dk_at dksX0_traffic_0 5 rfl rfl)
theorem dX0_traffic_8 : decode cX0_traffic 8 = .ok (.iload_n 2, 1) := dk_28 (dk_at dksX0_traffic_0 8 rfl rfl)
theorem dX0_traffic_9 : decode cX0_traffic 9 = .ok (.iconst 0, 1) := dk_3 (dk_at dksX0_traffic_0 9 rfl rfl)
theorem dX0_traffic_10 : decode cX0_traffic 10 = .ok (.iconst 1, 1) := dk_4 (dk_at dksX0_traffic_0 10 rfl rfl)
theorem dX0_traffic_11 : decode cX0_traffic 11 = .ok (.invokestatic 79, 3) := dk_184 0 79 (dk_at dksX0_traffic_0 11 rfl rfl)
theorem dX0_traffic_14 : decode cX0_traffic 14 = .ok (.ifCond .eq 7, 3) := dk_153 0 7 (dk_at dksX0_traffic_0 14 rfl rfl)
theorem dX0_traffic_17 : decode cX0_traffic 17 = .ok (.iconst 1, 1) := dk_4 (dk_at dksX0_traffic_0 17 rfl rfl)
theorem dX0_traffic_18 : decode cX0_traffic 18 = .ok (.goto 4, 3) := dk_167 0 4 (dk_at dksX0_traffic_0 18 rfl rfl)
theorem dX0_traffic_21 : decode cX0_traffic 21 = .ok (.iconst 0, 1) := dk_3 (dk_at dksX0_traffic_0 21 rfl rfl)
theorem dX0_traffic_22 : decode cX0_traffic 22 = .ok (.iconst 1, 1) := dk_4 (dk_at dksX0_traffic_0 22 rfl rfl)
theorem dX0_traffic_23 : decode cX0_traffic 23 = .ok (.invokevirtual 87, 3) := dk_182 0 87 (dk_at dksX0_traffic_1 0 rfl rfl)
theorem dX0_traffic_26 : decode cX0_traffic 26 = .ok (.aload_n 0, 1) := dk_42 (dk_at dksX0_traffic_1 3 rfl rfl)
theorem dX0_traffic_27 : decode cX0_traffic 27 = .ok (.getfield 53, 3) := dk_180 0 53 (dk_at dksX0_traffic_1 4 rfl rfl)
theorem dX0_traffic_30 : decode cX0_traffic 30 = .ok (.aload_n 0, 1) := dk_42 (dk_at dksX0_traffic_1 7 rfl rfl)
theorem dX0_traffic_31 : decode cX0_traffic 31 = .ok (.getfield 46, 3) := dk_180 0 46 (dk_at dksX0_traffic_1 8 rfl rfl)
theorem dX0_traffic_34 : decode cX0_traffic 34 = .ok (.invokevirtual 250, 3) := dk_182 0 250 (dk_at dksX0_traffic_1 11 rfl rfl)
theorem dX0_traffic_37 : decode cX0_traffic 37 = .ok (.iload_n 1, 1) := dk_27 (dk_at dksX0_traffic_1 14 rfl rfl)
theorem dX0_traffic_38 : decode cX0_traffic 38 = .ok (.invokevirtual 234, 3) := dk_182 0 234 (dk_at dksX0_traffic_1 15 rfl rfl)
theorem dX0_traffic_41 : decode cX0_traffic 41 = .ok (.pop, 1) := dk_87 (dk_at dksX0_traffic_1 18 rfl rfl)
theorem dX0_traffic_42 : decode cX0_traffic 42 = .ok (.iconst 0, 1) := dk_3 (dk_at dksX0_traffic_1 19 rfl rfl)
theorem dX0_traffic_43 : decode cX0_traffic 43 = .ok (.istore_n 3, 1) := dk_62 (dk_at dksX0_traffic_1 20 rfl rfl)
theorem dX0_traffic_44 : decode cX0_traffic 44 = .ok (.iconst (-1), 1) := dk_2 (dk_at dksX0_traffic_1 21 rfl rfl)
theorem dX0_traffic_45 : decode cX0_traffic 45 = .ok (.istore 4, 2) := dk_54 4 (dk_at dksX0_traffic_1 22 rfl rfl)
theorem dX0_traffic_47 : decode cX0_traffic 47 = .ok (.iconst 0, 1) := dk_3 (dk_at dksX0_traffic_2 0 rfl rfl)
theorem dX0_traffic_48 : decode cX0_traffic 48 = .ok (.istore 5, 2) := dk_54 5 (dk_at dksX0_traffic_2 1 rfl rfl)
theorem dX0_traffic_50 : decode cX0_traffic 50 = .ok (.iload 5, 2) := dk_21 5 (dk_at dksX0_traffic_2 3 rfl rfl)
theorem dX0_traffic_52 : decode cX0_traffic 52 = .ok (.aload_n 0, 1) := dk_42 (dk_at dksX0_traffic_2 5 rfl rfl)
theorem dX0_traffic_53 : decode cX0_traffic 53 = .ok (.getfield 53, 3) := dk_180 0 53 (dk_at dksX0_traffic_2 6 rfl rfl)
theorem dX0_traffic_56 : decode cX0_traffic 56 = .ok (.getfield 93, 3) := dk_180 0 93 (dk_at dksX0_traffic_2 9 rfl rfl)
theorem dX0_traffic_59 : decode cX0_traffic 59 = .ok (.if_icmp .ge 56, 3) := dk_162 0 56 (dk_at dksX0_traffic_2 12 rfl rfl)
theorem dX0_traffic_62 : decode cX0_traffic 62 = .ok (.aload_n 0, 1) := dk_42 (dk_at dksX0_traffic_2 15 rfl rfl)
theorem dX0_traffic_63 : decode cX0_traffic 63 = .ok (.getfield 53, 3) := dk_180 0 53 (dk_at dksX0_traffic_2 16 rfl rfl)
theorem dX0_traffic_66 : decode cX0_traffic 66 = .ok (.iload 5, 2) := dk_21 5 (dk_at dksX0_traffic_2 19 rfl rfl)
theorem dX0_traffic_68 : decode cX0_traffic 68 = .ok (.invokevirtual 134, 3) := dk_182 0 134 (dk_at dksX0_traffic_2 21 rfl rfl)
theorem dX0_traffic_71 : decode cX0_traffic 71 = .ok (.aload_n 0, 1) := dk_42 (dk_at dksX0_traffic_3 0 rfl rfl)
theorem dX0_traffic_72 : decode cX0_traffic 72 = .ok (.getfield 53, 3) := dk_180 0 53 (dk_at dksX0_traffic_3 1 rfl rfl)
theorem dX0_traffic_75 : decode cX0_traffic 75 = .ok (.invokevirtual 254, 3) := dk_182 0 254 (dk_at dksX0_traffic_3 4 rfl rfl)
theorem dX0_traffic_78 : decode cX0_traffic 78 = .ok (.iconst (-1), 1) := dk_2 (dk_at dksX0_traffic_3 7 rfl rfl)
theorem dX0_traffic_79 : decode cX0_traffic 79 = .ok (.ixor, 1) := dk_130 (dk_at dksX0_traffic_3 8 rfl rfl)
theorem dX0_traffic_80 : decode cX0_traffic 80 = .ok (.iand, 1) := dk_126 (dk_at dksX0_traffic_3 9 rfl rfl)
theorem dX0_traffic_81 : decode cX0_traffic 81 = .ok (.invokestatic 290, 3) := dk_184 1 34 (dk_at dksX0_traffic_3 10 rfl rfl)
theorem dX0_traffic_84 : decode cX0_traffic 84 = .ok (.istore 6, 2) := dk_54 6 (dk_at dksX0_traffic_3 13 rfl rfl)
theorem dX0_traffic_86 : decode cX0_traffic 86 = .ok (.iload 6, 2) := dk_21 6 (dk_at dksX0_traffic_3 15 rfl rfl)
theorem dX0_traffic_88 : decode cX0_traffic 88 = .ok (.iload 4, 2) := dk_21 4 (dk_at dksX0_traffic_3 17 rfl rfl)
theorem dX0_traffic_90 : decode cX0_traffic 90 = .ok (.if_icmp .le 8, 3) := dk_164 0 8 (dk_at dksX0_traffic_3 19 rfl rfl)
theorem dX0_traffic_93 : decode cX0_traffic 93 = .ok (.iload 5, 2) := dk_21 5 (dk_at dksX0_traffic_3 22 rfl rfl)
theorem dX0_traffic_95 : decode cX0_traffic 95 = .ok (.goto 4, 3) := dk_167 0 4 (dk_at dksX0_traffic_4 0 rfl rfl)
theorem dX0_traffic_98 : decode cX0_traffic 98 = .ok (.iload_n 3, 1) := dk_29 (dk_at dksX0_traffic_4 3 rfl rfl)
theorem dX0_traffic_99 : decode cX0_traffic 99 = .ok (.istore_n 3, 1) := dk_62 (dk_at dksX0_traffic_4 4 rfl rfl)
theorem dX0_traffic_100 : decode cX0_traffic 100 = .ok (.iload 4, 2) := dk_21 4 (dk_at dksX0_traffic_4 5 rfl rfl)
theorem dX0_traffic_102 : decode cX0_traffic 102 = .ok (.iload 6, 2) := dk_21 6 (dk_at dksX0_traffic_4 7 rfl rfl)
theorem dX0_traffic_104 : decode cX0_traffic 104 = .ok (.invokestatic 299, 3) := dk_184 1 43 (dk_at dksX0_traffic_4 9 rfl rfl)
theorem dX0_traffic_107 : decode cX0_traffic 107 = .ok (.istore 4, 2) := dk_54 4 (dk_at dksX0_traffic_4 12 rfl rfl)
theorem dX0_traffic_109 : decode cX0_traffic 109 = .ok (.iinc 5 1, 3) := dk_132 5 1 (dk_at dksX0_traffic_4 14 rfl rfl)
theorem dX0_traffic_112 : decode cX0_traffic 112 = .ok (.goto (-62), 3) := dk_167 255 194 (dk_at dksX0_traffic_4 17 rfl rfl)
theorem dX0_traffic_115 : decode cX0_traffic 115 = .ok (.iload_n 2, 1) := dk_28 (dk_at dksX0_traffic_4 20 rfl rfl)
theorem dX0_traffic_116 : decode cX0_traffic 116 = .ok (.ifCond .ne 7, 3) := dk_154 0 7 (dk_at dksX0_traffic_4 21 rfl rfl)
theorem dX0_traffic_119 : decode cX0_traffic 119 = .ok (.iload_n 3, 1) := dk_29 (dk_at dksX0_traffic_5 0 rfl rfl)
theorem dX0_traffic_120 : decode cX0_traffic 120 = .ok (.goto 5, 3) := dk_167 0 5 (dk_at dksX0_traffic_5 1 rfl rfl)
theorem dX0_traffic_123 : decode cX0_traffic 123 = .ok (.iload 4, 2) := dk_21 4 (dk_at dksX0_traffic_5 4 rfl rfl)
theorem dX0_traffic_125 : decode cX0_traffic 125 = .ok (.ireturn, 1) := dk_172 (dk_at dksX0_traffic_5 6 rfl rfl)
theorem dX0_traffic_126 : decode cX0_traffic 126 = .ok (.astore_n 3, 1) := dk_78 (dk_at dksX0_traffic_5 7 rfl rfl)
theorem dX0_traffic_127 : decode cX0_traffic 127 = .ok (.aload_n 0, 1) := dk_42 (dk_at dksX0_traffic_5 8 rfl rfl)
theorem dX0_traffic_128 : decode cX0_traffic 128 = .ok (.aload_n 3, 1) := dk_45 (dk_at dksX0_traffic_5 9 rfl rfl)
theorem dX0_traffic_129 : decode cX0_traffic 129 = .ok (.invokevirtual 111, 3) := dk_182 0 111 (dk_at dksX0_traffic_5 10 rfl rfl)
theorem dX0_traffic_132 : decode cX0_traffic 132 = .ok (.ireturn, 1) := dk_172 (dk_at dksX0_traffic_5 13 rfl rfl)
abbrev cX0_odds : ByteArray := prog_1_method_50_code
def yX0_odds : MethodName := ⟨RX0, "odds", "(III)I"⟩
def dkwX0_odds_4 : List UInt8 := [21, 5, 108, 167, 0, 8, 16, 20, 21, 5, 108, 172, 58, 4, 42, 25, 4, 182, 0, 111, 172]
abbrev dktX0_odds_4 : List UInt8 := dkwX0_odds_4 ++ []
def dkwX0_odds_3 : List UInt8 := [54, 4, 132, 5, 1, 167, 255, 223, 21, 4, 16, 20, 184, 1, 46, 54, 5, 29, 154, 0, 11, 21, 4]
abbrev dktX0_odds_3 : List UInt8 := dkwX0_odds_3 ++ dktX0_odds_4
def dkwX0_odds_2 : List UInt8 := [162, 0, 32, 21, 4, 42, 4, 27, 120, 28, 21, 5, 182, 1, 9, 153, 0, 7, 4, 167, 0, 4, 3, 96]
abbrev dktX0_odds_2 : List UInt8 := dkwX0_odds_2 ++ dktX0_odds_3
def dkwX0_odds_1 : List UInt8 := [153, 0, 7, 4, 167, 0, 4, 3, 4, 182, 0, 87, 3, 54, 4, 3, 54, 5, 21, 5, 16, 20]
abbrev dktX0_odds_1 : List UInt8 := dkwX0_odds_1 ++ dktX0_odds_2
def dkwX0_odds_0 : List UInt8 := [42, 42, 27, 182, 0, 182, 153, 0, 23, 28, 184, 0, 247, 153, 0, 16, 29, 3, 4, 184, 0, 79]
abbrev dktX0_odds_0 : List UInt8 := dkwX0_odds_0 ++ dktX0_odds_1
theorem dksX0_odds_0 : cX0_odds.data.toList.drop 0 = dktX0_odds_0 := by decide +kernel
theorem dksX0_odds_1 : cX0_odds.data.toList.drop 22 = dktX0_odds_1 := dk_seg dksX0_odds_0 22 rfl rfl
theorem dksX0_odds_2 : cX0_odds.data.toList.drop 44 = dktX0_odds_2 := dk_seg dksX0_odds_1 22 rfl rfl
theorem dksX0_odds_3 : cX0_odds.data.toList.drop 68 = dktX0_odds_3 := dk_seg dksX0_odds_2 24 rfl rfl
theorem dksX0_odds_4 : cX0_odds.data.toList.drop 91 = dktX0_odds_4 := dk_seg dksX0_odds_3 23 rfl rfl
theorem dX0_odds_0 : decode cX0_odds 0 = .ok (.aload_n 0, 1) := dk_42 (dk_at dksX0_odds_0 0 rfl rfl)
theorem dX0_odds_1 : decode cX0_odds 1 = .ok (.aload_n 0, 1) := dk_42 (dk_at dksX0_odds_0 1 rfl rfl)
theorem dX0_odds_2 : decode cX0_odds 2 = .ok (.iload_n 1, 1) := dk_27 (dk_at dksX0_odds_0 2 rfl rfl)
theorem dX0_odds_3 : decode cX0_odds 3 = .ok (.invokevirtual 182, 3) := dk_182 0 182 (dk_at dksX0_odds_0 3 rfl rfl)
theorem dX0_odds_6 : decode cX0_odds 6 = .ok (.ifCond .eq 23, 3) := dk_153 0 23 (dk_at dksX0_odds_0 6 rfl rfl)
theorem dX0_odds_9 : decode cX0_odds 9 = .ok (.iload_n 2, 1) := dk_28 (dk_at dksX0_odds_0 9 rfl rfl)
theorem dX0_odds_10 : decode cX0_odds 10 = .ok (.invokestatic 247, 3) := dk_184 0 247 (dk_at dksX0_odds_0 10 rfl rfl)
theorem dX0_odds_13 : decode cX0_odds 13 = .ok (.ifCond .eq 16, 3) := dk_153 0 16 (dk_at dksX0_odds_0 13 rfl rfl)
theorem dX0_odds_16 : decode cX0_odds 16 = .ok (.iload_n 3, 1) := dk_29 (dk_at dksX0_odds_0 16 rfl rfl)
theorem dX0_odds_17 : decode cX0_odds 17 = .ok (.iconst 0, 1) := dk_3 (dk_at dksX0_odds_0 17 rfl rfl)
theorem dX0_odds_18 : decode cX0_odds 18 = .ok (.iconst 1, 1) := dk_4 (dk_at dksX0_odds_0 18 rfl rfl)
theorem dX0_odds_19 : decode cX0_odds 19 = .ok (.invokestatic 79, 3) := dk_184 0 79 (dk_at dksX0_odds_0 19 rfl rfl)
theorem dX0_odds_22 : decode cX0_odds 22 = .ok (.ifCond .eq 7, 3) := dk_153 0 7 (dk_at dksX0_odds_1 0 rfl rfl)
theorem dX0_odds_25 : decode cX0_odds 25 = .ok (.iconst 1, 1) := dk_4 (dk_at dksX0_odds_1 3 rfl rfl)
theorem dX0_odds_26 : decode cX0_odds 26 = .ok (.goto 4, 3) := dk_167 0 4 (dk_at dksX0_odds_1 4 rfl rfl)
theorem dX0_odds_29 : decode cX0_odds 29 = .ok (.iconst 0, 1) := dk_3 (dk_at dksX0_odds_1 7 rfl rfl)
theorem dX0_odds_30 : decode cX0_odds 30 = .ok (.iconst 1, 1) := dk_4 (dk_at dksX0_odds_1 8 rfl rfl)
theorem dX0_odds_31 : decode cX0_odds 31 = .ok (.invokevirtual 87, 3) := dk_182 0 87 (dk_at dksX0_odds_1 9 rfl rfl)
theorem dX0_odds_34 : decode cX0_odds 34 = .ok (.iconst 0, 1) := dk_3 (dk_at dksX0_odds_1 12 rfl rfl)
theorem dX0_odds_35 : decode cX0_odds 35 = .ok (.istore 4, 2) := dk_54 4 (dk_at dksX0_odds_1 13 rfl rfl)
theorem dX0_odds_37 : decode cX0_odds 37 = .ok (.iconst 0, 1) := dk_3 (dk_at dksX0_odds_1 15 rfl rfl)
theorem dX0_odds_38 : decode cX0_odds 38 = .ok (.istore 5, 2) := dk_54 5 (dk_at dksX0_odds_1 16 rfl rfl)
theorem dX0_odds_40 : decode cX0_odds 40 = .ok (.iload 5, 2) := dk_21 5 (dk_at dksX0_odds_1 18 rfl rfl)
theorem dX0_odds_42 : decode cX0_odds 42 = .ok (.bipush 20, 2) := dk_16 20 (dk_at dksX0_odds_1 20 rfl rfl)
theorem dX0_odds_44 : decode cX0_odds 44 = .ok (.if_icmp .ge 32, 3) := dk_162 0 32 (dk_at dksX0_odds_2 0 rfl rfl)
theorem dX0_odds_47 : decode cX0_odds 47 = .ok (.iload 4, 2) := dk_21 4 (dk_at dksX0_odds_2 3 rfl rfl)
theorem dX0_odds_49 : decode cX0_odds 49 = .ok (.aload_n 0, 1) := dk_42 (dk_at dksX0_odds_2 5 rfl rfl)
theorem dX0_odds_50 : decode cX0_odds 50 = .ok (.iconst 1, 1) := dk_4 (dk_at dksX0_odds_2 6 rfl rfl)
theorem dX0_odds_51 : decode cX0_odds 51 = .ok (.iload_n 1, 1) := dk_27 (dk_at dksX0_odds_2 7 rfl rfl)
theorem dX0_odds_52 : decode cX0_odds 52 = .ok (.ishl, 1) := dk_120 (dk_at dksX0_odds_2 8 rfl rfl)
theorem dX0_odds_53 : decode cX0_odds 53 = .ok (.iload_n 2, 1) := dk_28 (dk_at dksX0_odds_2 9 rfl rfl)
theorem dX0_odds_54 : decode cX0_odds 54 = .ok (.iload 5, 2) := dk_21 5 (dk_at dksX0_odds_2 10 rfl rfl)
theorem dX0_odds_56 : decode cX0_odds 56 = .ok (.invokevirtual 265, 3) := dk_182 1 9 (dk_at dksX0_odds_2 12 rfl rfl)
theorem dX0_odds_59 : decode cX0_odds 59 = .ok (.ifCond .eq 7, 3) := dk_153 0 7 (dk_at dksX0_odds_2 15 rfl rfl)
theorem dX0_odds_62 : decode cX0_odds 62 = .ok (.iconst 1, 1) := dk_4 (dk_at dksX0_odds_2 18 rfl rfl)
theorem dX0_odds_63 : decode cX0_odds 63 = .ok (.goto 4, 3) := dk_167 0 4 (dk_at dksX0_odds_2 19 rfl rfl)
theorem dX0_odds_66 : decode cX0_odds 66 = .ok (.iconst 0, 1) := dk_3 (dk_at dksX0_odds_2 22 rfl rfl)
theorem dX0_odds_67 : decode cX0_odds 67 = .ok (.iadd, 1) := dk_96 (dk_at dksX0_odds_2 23 rfl rfl)
theorem dX0_odds_68 : decode cX0_odds 68 = .ok (.istore 4, 2) := dk_54 4 (dk_at dksX0_odds_3 0 rfl rfl)
theorem dX0_odds_70 : decode cX0_odds 70 = .ok (.iinc 5 1, 3) := dk_132 5 1 (dk_at dksX0_odds_3 2 rfl rfl)
theorem dX0_odds_73 : decode cX0_odds 73 = .ok (.goto (-33), 3) := dk_167 255 223 (dk_at dksX0_odds_3 5 rfl rfl)
theorem dX0_odds_76 : decode cX0_odds 76 = .ok (.iload 4, 2) := dk_21 4 (dk_at dksX0_odds_3 8 rfl rfl)
theorem dX0_odds_78 : decode cX0_odds 78 = .ok (.bipush 20, 2) := dk_16 20 (dk_at dksX0_odds_3 10 rfl rfl)
theorem dX0_odds_80 : decode cX0_odds 80 = .ok (.invokestatic 302, 3) := dk_184 1 46 (dk_at dksX0_odds_3 12 rfl rfl)
theorem dX0_odds_83 : decode cX0_odds 83 = .ok (.istore 5, 2) := dk_54 5 (dk_at dksX0_odds_3 15 rfl rfl)
theorem dX0_odds_85 : decode cX0_odds 85 = .ok (.iload_n 3, 1) := dk_29 (dk_at dksX0_odds_3 17 rfl rfl)
theorem dX0_odds_86 : decode cX0_odds 86 = .ok (.ifCond .ne 11, 3) := dk_154 0 11 (dk_at dksX0_odds_3 18 rfl rfl)
theorem dX0_odds_89 : decode cX0_odds 89 = .ok (.iload 4, 2) := dk_21 4 (dk_at dksX0_odds_3 21 rfl rfl)
theorem dX0_odds_91 : decode cX0_odds 91 = .ok (.iload 5, 2) := dk_21 5 (dk_at dksX0_odds_4 0 rfl rfl)
theorem dX0_odds_93 : decode cX0_odds 93 = .ok (.idiv, 1) := dk_108 (dk_at dksX0_odds_4 2 rfl rfl)
theorem dX0_odds_94 : decode cX0_odds 94 = .ok (.goto 8, 3) := dk_167 0 8 (dk_at dksX0_odds_4 3 rfl rfl)
theorem dX0_odds_97 : decode cX0_odds 97 = .ok (.bipush 20, 2) := dk_16 20 (dk_at dksX0_odds_4 6 rfl rfl)
theorem dX0_odds_99 : decode cX0_odds 99 = .ok (.iload 5, 2) := dk_21 5 (dk_at dksX0_odds_4 8 rfl rfl)
theorem dX0_odds_101 : decode cX0_odds 101 = .ok (.idiv, 1) := dk_108 (dk_at dksX0_odds_4 10 rfl rfl)
theorem dX0_odds_102 : decode cX0_odds 102 = .ok (.ireturn, 1) := dk_172 (dk_at dksX0_odds_4 11 rfl rfl)
theorem dX0_odds_103 : decode cX0_odds 103 = .ok (.astore 4, 2) := dk_58 4 (dk_at dksX0_odds_4 12 rfl rfl)
theorem dX0_odds_105 : decode cX0_odds 105 = .ok (.aload_n 0, 1) := dk_42 (dk_at dksX0_odds_4 14 rfl rfl)
theorem dX0_odds_106 : decode cX0_odds 106 = .ok (.aload 4, 2) := dk_25 4 (dk_at dksX0_odds_4 15 rfl rfl)
theorem dX0_odds_108 : decode cX0_odds 108 = .ok (.invokevirtual 111, 3) := dk_182 0 111 (dk_at dksX0_odds_4 17 rfl rfl)
theorem dX0_odds_111 : decode cX0_odds 111 = .ok (.ireturn, 1) := dk_172 (dk_at dksX0_odds_4 20 rfl rfl)
abbrev cX0_common : ByteArray := prog_1_method_49_code
def yX0_common : MethodName := ⟨RX0, "common", "(II)I"⟩
def dkwX0_common_0 : List UInt8 := [26, 61, 27, 62, 29, 153, 0, 16, 28, 29, 112, 54, 4, 29, 61, 21, 4, 62, 167, 255, 242, 28, 172]
abbrev dktX0_common_0 : List UInt8 := dkwX0_common_0 ++ []
theorem dksX0_common_0 : cX0_common.data.toList.drop 0 = dktX0_common_0 := by decide +kernel
theorem dX0_common_0 : decode cX0_common 0 = .ok (.iload_n 0, 1) := dk_26 (dk_at dksX0_common_0 0 rfl rfl)
theorem dX0_common_1 : decode cX0_common 1 = .ok (.istore_n 2, 1) := dk_61 (dk_at dksX0_common_0 1 rfl rfl)
theorem dX0_common_2 : decode cX0_common 2 = .ok (.iload_n 1, 1) := dk_27 (dk_at dksX0_common_0 2 rfl rfl)
theorem dX0_common_3 : decode cX0_common 3 = .ok (.istore_n 3, 1) := dk_62 (dk_at dksX0_common_0 3 rfl rfl)
theorem dX0_common_4 : decode cX0_common 4 = .ok (.iload_n 3, 1) := dk_29 (dk_at dksX0_common_0 4 rfl rfl)
theorem dX0_common_5 : decode cX0_common 5 = .ok (.ifCond .eq 16, 3) := dk_153 0 16 (dk_at dksX0_common_0 5 rfl rfl)
theorem dX0_common_8 : decode cX0_common 8 = .ok (.iload_n 2, 1) := dk_28 (dk_at dksX0_common_0 8 rfl rfl)
theorem dX0_common_9 : decode cX0_common 9 = .ok (.iload_n 3, 1) := dk_29 (dk_at dksX0_common_0 9 rfl rfl)
theorem dX0_common_10 : decode cX0_common 10 = .ok (.irem, 1) := dk_112 (dk_at dksX0_common_0 10 rfl rfl)
theorem dX0_common_11 : decode cX0_common 11 = .ok (.istore 4, 2) := dk_54 4 (dk_at dksX0_common_0 11 rfl rfl)
theorem dX0_common_13 : decode cX0_common 13 = .ok (.iload_n 3, 1) := dk_29 (dk_at dksX0_common_0 13 rfl rfl)
theorem dX0_common_14 : decode cX0_common 14 = .ok (.istore_n 2, 1) := dk_61 (dk_at dksX0_common_0 14 rfl rfl)
theorem dX0_common_15 : decode cX0_common 15 = .ok (.iload 4, 2) := dk_21 4 (dk_at dksX0_common_0 15 rfl rfl)
theorem dX0_common_17 : decode cX0_common 17 = .ok (.istore_n 3, 1) := dk_62 (dk_at dksX0_common_0 17 rfl rfl)
theorem dX0_common_18 : decode cX0_common 18 = .ok (.goto (-14), 3) := dk_167 255 242 (dk_at dksX0_common_0 18 rfl rfl)
theorem dX0_common_21 : decode cX0_common 21 = .ok (.iload_n 2, 1) := dk_28 (dk_at dksX0_common_0 21 rfl rfl)
theorem dX0_common_22 : decode cX0_common 22 = .ok (.ireturn, 1) := dk_172 (dk_at dksX0_common_0 22 rfl rfl)
abbrev cX0_seed : ByteArray := prog_1_method_51_code
def yX0_seed : MethodName := ⟨RX0, "seed", "(I)I"⟩
def dkwX0_seed_0 : List UInt8 := [42, 180, 0, 46, 180, 1, 49, 61, 42, 180, 0, 46, 27, 181, 1, 49, 28, 172]
abbrev dktX0_seed_0 : List UInt8 := dkwX0_seed_0 ++ []
theorem dksX0_seed_0 : cX0_seed.data.toList.drop 0 = dktX0_seed_0 := by decide +kernel
theorem dX0_seed_0 : decode cX0_seed 0 = .ok (.aload_n 0, 1) := dk_42 (dk_at dksX0_seed_0 0 rfl rfl)
theorem dX0_seed_1 : decode cX0_seed 1 = .ok (.getfield 46, 3) := dk_180 0 46 (dk_at dksX0_seed_0 1 rfl rfl)
theorem dX0_seed_4 : decode cX0_seed 4 = .ok (.getfield 305, 3) := dk_180 1 49 (dk_at dksX0_seed_0 4 rfl rfl)
theorem dX0_seed_7 : decode cX0_seed 7 = .ok (.istore_n 2, 1) := dk_61 (dk_at dksX0_seed_0 7 rfl rfl)
theorem dX0_seed_8 : decode cX0_seed 8 = .ok (.aload_n 0, 1) := dk_42 (dk_at dksX0_seed_0 8 rfl rfl)
theorem dX0_seed_9 : decode cX0_seed 9 = .ok (.getfield 46, 3) := dk_180 0 46 (dk_at dksX0_seed_0 9 rfl rfl)
theorem dX0_seed_12 : decode cX0_seed 12 = .ok (.iload_n 1, 1) := dk_27 (dk_at dksX0_seed_0 12 rfl rfl)
theorem dX0_seed_13 : decode cX0_seed 13 = .ok (.putfield 305, 3) := dk_181 1 49 (dk_at dksX0_seed_0 13 rfl rfl)
theorem dX0_seed_16 : decode cX0_seed 16 = .ok (.iload_n 2, 1) := dk_28 (dk_at dksX0_seed_0 16 rfl rfl)
theorem dX0_seed_17 : decode cX0_seed 17 = .ok (.ireturn, 1) := dk_172 (dk_at dksX0_seed_0 17 rfl rfl)
abbrev cX0_voice : ByteArray := prog_1_method_52_code
def yX0_voice : MethodName := ⟨RX0, "voice", "(III)I"⟩
def dkwX0_voice_3 : List UInt8 := [185, 1, 65, 2, 0, 172, 25, 4, 29, 185, 1, 70, 2, 0, 172, 58, 4, 42, 25, 4, 182, 0, 111, 172]
abbrev dktX0_voice_3 : List UInt8 := dkwX0_voice_3 ++ []
def dkwX0_voice_2 : List UInt8 := [25, 4, 29, 185, 1, 55, 2, 0, 172, 25, 4, 29, 185, 1, 60, 2, 0, 172, 25, 4, 29]
abbrev dktX0_voice_2 : List UInt8 := dkwX0_voice_2 ++ dktX0_voice_3
def dkwX0_voice_1 : List UInt8 := [170, 0, 0, 0, 0, 53, 0, 0, 0, 0, 0, 0, 0, 2, 0, 0, 0, 26, 0, 0, 0, 35, 0, 0, 0, 44]
abbrev dktX0_voice_1 : List UInt8 := dkwX0_voice_1 ++ dktX0_voice_2
def dkwX0_voice_0 : List UInt8 := [42, 27, 28, 3, 6, 184, 0, 79, 182, 0, 168, 58, 4, 42, 180, 0, 59, 3, 181, 1, 52, 28]
abbrev dktX0_voice_0 : List UInt8 := dkwX0_voice_0 ++ dktX0_voice_1
theorem dksX0_voice_0 : cX0_voice.data.toList.drop 0 = dktX0_voice_0 := by decide +kernel
theorem dksX0_voice_1 : cX0_voice.data.toList.drop 22 = dktX0_voice_1 := dk_seg dksX0_voice_0 22 rfl rfl
theorem dksX0_voice_2 : cX0_voice.data.toList.drop 48 = dktX0_voice_2 := dk_seg dksX0_voice_1 26 rfl rfl
theorem dksX0_voice_3 : cX0_voice.data.toList.drop 69 = dktX0_voice_3 := dk_seg dksX0_voice_2 21 rfl rfl
theorem dX0_voice_0 : decode cX0_voice 0 = .ok (.aload_n 0, 1) := dk_42 (dk_at dksX0_voice_0 0 rfl rfl)
theorem dX0_voice_1 : decode cX0_voice 1 = .ok (.iload_n 1, 1) := dk_27 (dk_at dksX0_voice_0 1 rfl rfl)
theorem dX0_voice_2 : decode cX0_voice 2 = .ok (.iload_n 2, 1) := dk_28 (dk_at dksX0_voice_0 2 rfl rfl)
theorem dX0_voice_3 : decode cX0_voice 3 = .ok (.iconst 0, 1) := dk_3 (dk_at dksX0_voice_0 3 rfl rfl)
theorem dX0_voice_4 : decode cX0_voice 4 = .ok (.iconst 3, 1) := dk_6 (dk_at dksX0_voice_0 4 rfl rfl)
theorem dX0_voice_5 : decode cX0_voice 5 = .ok (.invokestatic 79, 3) := dk_184 0 79 (dk_at dksX0_voice_0 5 rfl rfl)
theorem dX0_voice_8 : decode cX0_voice 8 = .ok (.invokevirtual 168, 3) := dk_182 0 168 (dk_at dksX0_voice_0 8 rfl rfl)
theorem dX0_voice_11 : decode cX0_voice 11 = .ok (.astore 4, 2) := dk_58 4 (dk_at dksX0_voice_0 11 rfl rfl)
theorem dX0_voice_13 : decode cX0_voice 13 = .ok (.aload_n 0, 1) := dk_42 (dk_at dksX0_voice_0 13 rfl rfl)
theorem dX0_voice_14 : decode cX0_voice 14 = .ok (.getfield 59, 3) := dk_180 0 59 (dk_at dksX0_voice_0 14 rfl rfl)
theorem dX0_voice_17 : decode cX0_voice 17 = .ok (.iconst 0, 1) := dk_3 (dk_at dksX0_voice_0 17 rfl rfl)
theorem dX0_voice_18 : decode cX0_voice 18 = .ok (.putfield 308, 3) := dk_181 1 52 (dk_at dksX0_voice_0 18 rfl rfl)
theorem dX0_voice_21 : decode cX0_voice 21 = .ok (.iload_n 2, 1) := dk_28 (dk_at dksX0_voice_0 21 rfl rfl)
theorem dX0_voice_22 : decode cX0_voice 22 = .ok (.tableswitch 53 0 2 #[26, 35, 44], 26) := by decide +kernel
theorem dX0_voice_48 : decode cX0_voice 48 = .ok (.aload 4, 2) := dk_25 4 (dk_at dksX0_voice_2 0 rfl rfl)
theorem dX0_voice_50 : decode cX0_voice 50 = .ok (.iload_n 3, 1) := dk_29 (dk_at dksX0_voice_2 2 rfl rfl)
theorem dX0_voice_51 : decode cX0_voice 51 = .ok (.invokeinterface 311 2, 5) := by decide +kernel
theorem dX0_voice_56 : decode cX0_voice 56 = .ok (.ireturn, 1) := dk_172 (dk_at dksX0_voice_2 8 rfl rfl)
theorem dX0_voice_57 : decode cX0_voice 57 = .ok (.aload 4, 2) := dk_25 4 (dk_at dksX0_voice_2 9 rfl rfl)
theorem dX0_voice_59 : decode cX0_voice 59 = .ok (.iload_n 3, 1) := dk_29 (dk_at dksX0_voice_2 11 rfl rfl)
theorem dX0_voice_60 : decode cX0_voice 60 = .ok (.invokeinterface 316 2, 5) := by decide +kernel
theorem dX0_voice_65 : decode cX0_voice 65 = .ok (.ireturn, 1) := dk_172 (dk_at dksX0_voice_2 17 rfl rfl)
theorem dX0_voice_66 : decode cX0_voice 66 = .ok (.aload 4, 2) := dk_25 4 (dk_at dksX0_voice_2 18 rfl rfl)
theorem dX0_voice_68 : decode cX0_voice 68 = .ok (.iload_n 3, 1) := dk_29 (dk_at dksX0_voice_2 20 rfl rfl)
theorem dX0_voice_69 : decode cX0_voice 69 = .ok (.invokeinterface 321 2, 5) := by decide +kernel
theorem dX0_voice_74 : decode cX0_voice 74 = .ok (.ireturn, 1) := dk_172 (dk_at dksX0_voice_3 5 rfl rfl)
theorem dX0_voice_75 : decode cX0_voice 75 = .ok (.aload 4, 2) := dk_25 4 (dk_at dksX0_voice_3 6 rfl rfl)
theorem dX0_voice_77 : decode cX0_voice 77 = .ok (.iload_n 3, 1) := dk_29 (dk_at dksX0_voice_3 8 rfl rfl)
theorem dX0_voice_78 : decode cX0_voice 78 = .ok (.invokeinterface 326 2, 5) := by decide +kernel
theorem dX0_voice_83 : decode cX0_voice 83 = .ok (.ireturn, 1) := dk_172 (dk_at dksX0_voice_3 14 rfl rfl)
theorem dX0_voice_84 : decode cX0_voice 84 = .ok (.astore 4, 2) := dk_58 4 (dk_at dksX0_voice_3 15 rfl rfl)
theorem dX0_voice_86 : decode cX0_voice 86 = .ok (.aload_n 0, 1) := dk_42 (dk_at dksX0_voice_3 17 rfl rfl)
theorem dX0_voice_87 : decode cX0_voice 87 = .ok (.aload 4, 2) := dk_25 4 (dk_at dksX0_voice_3 18 rfl rfl)
theorem dX0_voice_89 : decode cX0_voice 89 = .ok (.invokevirtual 111, 3) := dk_182 0 111 (dk_at dksX0_voice_3 20 rfl rfl)
theorem dX0_voice_92 : decode cX0_voice 92 = .ok (.ireturn, 1) := dk_172 (dk_at dksX0_voice_3 23 rfl rfl)
abbrev cX0_trace : ByteArray := prog_1_method_53_code
def yX0_trace : MethodName := ⟨RX0, "trace", "(I)I"⟩
def dkwX0_trace_1 : List UInt8 := [180, 1, 75, 27, 46, 172, 77, 42, 44, 182, 0, 111, 172]
abbrev dktX0_trace_1 : List UInt8 := dkwX0_trace_1 ++ []
def dkwX0_trace_0 : List UInt8 := [42, 27, 3, 42, 180, 0, 59, 180, 1, 52, 4, 100, 184, 0, 79, 5, 182, 0, 87, 42, 180, 0, 59]
abbrev dktX0_trace_0 : List UInt8 := dkwX0_trace_0 ++ dktX0_trace_1
theorem dksX0_trace_0 : cX0_trace.data.toList.drop 0 = dktX0_trace_0 := by decide +kernel
theorem dksX0_trace_1 : cX0_trace.data.toList.drop 23 = dktX0_trace_1 := dk_seg dksX0_trace_0 23 rfl rfl
theorem dX0_trace_0 : decode cX0_trace 0 = .ok (.aload_n 0, 1) := dk_42 (dk_at dksX0_trace_0 0 rfl rfl)
theorem dX0_trace_1 : decode cX0_trace 1 = .ok (.iload_n 1, 1) := dk_27 (dk_at dksX0_trace_0 1 rfl rfl)
theorem dX0_trace_2 : decode cX0_trace 2 = .ok (.iconst 0, 1) := dk_3 (dk_at dksX0_trace_0 2 rfl rfl)
theorem dX0_trace_3 : decode cX0_trace 3 = .ok (.aload_n 0, 1) := dk_42 (dk_at dksX0_trace_0 3 rfl rfl)
theorem dX0_trace_4 : decode cX0_trace 4 = .ok (.getfield 59, 3) := dk_180 0 59 (dk_at dksX0_trace_0 4 rfl rfl)
theorem dX0_trace_7 : decode cX0_trace 7 = .ok (.getfield 308, 3) := dk_180 1 52 (dk_at dksX0_trace_0 7 rfl rfl)
theorem dX0_trace_10 : decode cX0_trace 10 = .ok (.iconst 1, 1) := dk_4 (dk_at dksX0_trace_0 10 rfl rfl)
theorem dX0_trace_11 : decode cX0_trace 11 = .ok (.isub, 1) := dk_100 (dk_at dksX0_trace_0 11 rfl rfl)
theorem dX0_trace_12 : decode cX0_trace 12 = .ok (.invokestatic 79, 3) := dk_184 0 79 (dk_at dksX0_trace_0 12 rfl rfl)
theorem dX0_trace_15 : decode cX0_trace 15 = .ok (.iconst 2, 1) := dk_5 (dk_at dksX0_trace_0 15 rfl rfl)
theorem dX0_trace_16 : decode cX0_trace 16 = .ok (.invokevirtual 87, 3) := dk_182 0 87 (dk_at dksX0_trace_0 16 rfl rfl)
theorem dX0_trace_19 : decode cX0_trace 19 = .ok (.aload_n 0, 1) := dk_42 (dk_at dksX0_trace_0 19 rfl rfl)
theorem dX0_trace_20 : decode cX0_trace 20 = .ok (.getfield 59, 3) := dk_180 0 59 (dk_at dksX0_trace_0 20 rfl rfl)
theorem dX0_trace_23 : decode cX0_trace 23 = .ok (.getfield 331, 3) := dk_180 1 75 (dk_at dksX0_trace_1 0 rfl rfl)
theorem dX0_trace_26 : decode cX0_trace 26 = .ok (.iload_n 1, 1) := dk_27 (dk_at dksX0_trace_1 3 rfl rfl)
theorem dX0_trace_27 : decode cX0_trace 27 = .ok (.iaload, 1) := dk_46 (dk_at dksX0_trace_1 4 rfl rfl)
theorem dX0_trace_28 : decode cX0_trace 28 = .ok (.ireturn, 1) := dk_172 (dk_at dksX0_trace_1 5 rfl rfl)
theorem dX0_trace_29 : decode cX0_trace 29 = .ok (.astore_n 2, 1) := dk_77 (dk_at dksX0_trace_1 6 rfl rfl)
theorem dX0_trace_30 : decode cX0_trace 30 = .ok (.aload_n 0, 1) := dk_42 (dk_at dksX0_trace_1 7 rfl rfl)
theorem dX0_trace_31 : decode cX0_trace 31 = .ok (.aload_n 2, 1) := dk_44 (dk_at dksX0_trace_1 8 rfl rfl)
theorem dX0_trace_32 : decode cX0_trace 32 = .ok (.invokevirtual 111, 3) := dk_182 0 111 (dk_at dksX0_trace_1 9 rfl rfl)
theorem dX0_trace_35 : decode cX0_trace 35 = .ok (.ireturn, 1) := dk_172 (dk_at dksX0_trace_1 12 rfl rfl)
abbrev cX0_beds : ByteArray := prog_1_method_54_code
def yX0_beds : MethodName := ⟨RX0, "beds", "(I)I"⟩
def dkwX0_beds_3 : List UInt8 := [172, 77, 42, 44, 182, 0, 111, 172]
abbrev dktX0_beds_3 : List UInt8 := dkwX0_beds_3 ++ []
def dkwX0_beds_2 : List UInt8 := [153, 0, 23, 42, 180, 0, 46, 180, 0, 102, 29, 44, 29, 182, 1, 17, 79, 132, 3, 1, 167, 255, 209, 29]
abbrev dktX0_beds_2 : List UInt8 := dkwX0_beds_2 ++ dktX0_beds_3
def dkwX0_beds_1 : List UInt8 := [162, 0, 45, 42, 29, 182, 0, 115, 153, 0, 37, 44, 29, 182, 1, 17, 3, 16, 9, 184, 0, 79]
abbrev dktX0_beds_1 : List UInt8 := dkwX0_beds_1 ++ dktX0_beds_2
def dkwX0_beds_0 : List UInt8 := [42, 27, 184, 1, 20, 4, 182, 0, 87, 42, 27, 182, 1, 23, 77, 3, 62, 29, 44, 182, 1, 27]
abbrev dktX0_beds_0 : List UInt8 := dkwX0_beds_0 ++ dktX0_beds_1
theorem dksX0_beds_0 : cX0_beds.data.toList.drop 0 = dktX0_beds_0 := by decide +kernel
theorem dksX0_beds_1 : cX0_beds.data.toList.drop 22 = dktX0_beds_1 := dk_seg dksX0_beds_0 22 rfl rfl
theorem dksX0_beds_2 : cX0_beds.data.toList.drop 44 = dktX0_beds_2 := dk_seg dksX0_beds_1 22 rfl rfl
theorem dksX0_beds_3 : cX0_beds.data.toList.drop 68 = dktX0_beds_3 := dk_seg dksX0_beds_2 24 rfl rfl
theorem dX0_beds_0 : decode cX0_beds 0 = .ok (.aload_n 0, 1) := dk_42 (dk_at dksX0_beds_0 0 rfl rfl)
theorem dX0_beds_1 : decode cX0_beds 1 = .ok (.iload_n 1, 1) := dk_27 (dk_at dksX0_beds_0 1 rfl rfl)
theorem dX0_beds_2 : decode cX0_beds 2 = .ok (.invokestatic 276, 3) := dk_184 1 20 (dk_at dksX0_beds_0 2 rfl rfl)
theorem dX0_beds_5 : decode cX0_beds 5 = .ok (.iconst 1, 1) := dk_4 (dk_at dksX0_beds_0 5 rfl rfl)
theorem dX0_beds_6 : decode cX0_beds 6 = .ok (.invokevirtual 87, 3) := dk_182 0 87 (dk_at dksX0_beds_0 6 rfl rfl)
theorem dX0_beds_9 : decode cX0_beds 9 = .ok (.aload_n 0, 1) := dk_42 (dk_at dksX0_beds_0 9 rfl rfl)
theorem dX0_beds_10 : decode cX0_beds 10 = .ok (.iload_n 1, 1) := dk_27 (dk_at dksX0_beds_0 10 rfl rfl)
theorem dX0_beds_11 : decode cX0_beds 11 = .ok (.invokevirtual 279, 3) := dk_182 1 23 (dk_at dksX0_beds_0 11 rfl rfl)
theorem dX0_beds_14 : decode cX0_beds 14 = .ok (.astore_n 2, 1) := dk_77 (dk_at dksX0_beds_0 14 rfl rfl)
theorem dX0_beds_15 : decode cX0_beds 15 = .ok (.iconst 0, 1) := dk_3 (dk_at dksX0_beds_0 15 rfl rfl)
theorem dX0_beds_16 : decode cX0_beds 16 = .ok (.istore_n 3, 1) := dk_62 (dk_at dksX0_beds_0 16 rfl rfl)
theorem dX0_beds_17 : decode cX0_beds 17 = .ok (.iload_n 3, 1) := dk_29 (dk_at dksX0_beds_0 17 rfl rfl)
theorem dX0_beds_18 : decode cX0_beds 18 = .ok (.aload_n 2, 1) := dk_44 (dk_at dksX0_beds_0 18 rfl rfl)
theorem dX0_beds_19 : decode cX0_beds 19 = .ok (.invokevirtual 283, 3) := dk_182 1 27 (dk_at dksX0_beds_0 19 rfl rfl)
theorem dX0_beds_22 : decode cX0_beds 22 = .ok (.if_icmp .ge 45, 3) := dk_162 0 45 (dk_at dksX0_beds_1 0 rfl rfl)
theorem dX0_beds_25 : decode cX0_beds 25 = .ok (.aload_n 0, 1) := dk_42 (dk_at dksX0_beds_1 3 rfl rfl)
theorem dX0_beds_26 : decode cX0_beds 26 = .ok (.iload_n 3, 1) := dk_29 (dk_at dksX0_beds_1 4 rfl rfl)
theorem dX0_beds_27 : decode cX0_beds 27 = .ok (.invokevirtual 115, 3) := dk_182 0 115 (dk_at dksX0_beds_1 5 rfl rfl)
theorem dX0_beds_30 : decode cX0_beds 30 = .ok (.ifCond .eq 37, 3) := dk_153 0 37 (dk_at dksX0_beds_1 8 rfl rfl)
theorem dX0_beds_33 : decode cX0_beds 33 = .ok (.aload_n 2, 1) := dk_44 (dk_at dksX0_beds_1 11 rfl rfl)
theorem dX0_beds_34 : decode cX0_beds 34 = .ok (.iload_n 3, 1) := dk_29 (dk_at dksX0_beds_1 12 rfl rfl)
theorem dX0_beds_35 : decode cX0_beds 35 = .ok (.invokevirtual 273, 3) := dk_182 1 17 (dk_at dksX0_beds_1 13 rfl rfl)
theorem dX0_beds_38 : decode cX0_beds 38 = .ok (.iconst 0, 1) := dk_3 (dk_at dksX0_beds_1 16 rfl rfl)
theorem dX0_beds_39 : decode cX0_beds 39 = .ok (.bipush 9, 2) := dk_16 9 (dk_at dksX0_beds_1 17 rfl rfl)
theorem dX0_beds_41 : decode cX0_beds 41 = .ok (.invokestatic 79, 3) := dk_184 0 79 (dk_at dksX0_beds_1 19 rfl rfl)
theorem dX0_beds_44 : decode cX0_beds 44 = .ok (.ifCond .eq 23, 3) := dk_153 0 23 (dk_at dksX0_beds_2 0 rfl rfl)
theorem dX0_beds_47 : decode cX0_beds 47 = .ok (.aload_n 0, 1) := dk_42 (dk_at dksX0_beds_2 3 rfl rfl)
theorem dX0_beds_48 : decode cX0_beds 48 = .ok (.getfield 46, 3) := dk_180 0 46 (dk_at dksX0_beds_2 4 rfl rfl)
theorem dX0_beds_51 : decode cX0_beds 51 = .ok (.getfield 102, 3) := dk_180 0 102 (dk_at dksX0_beds_2 7 rfl rfl)
theorem dX0_beds_54 : decode cX0_beds 54 = .ok (.iload_n 3, 1) := dk_29 (dk_at dksX0_beds_2 10 rfl rfl)
theorem dX0_beds_55 : decode cX0_beds 55 = .ok (.aload_n 2, 1) := dk_44 (dk_at dksX0_beds_2 11 rfl rfl)
theorem dX0_beds_56 : decode cX0_beds 56 = .ok (.iload_n 3, 1) := dk_29 (dk_at dksX0_beds_2 12 rfl rfl)
theorem dX0_beds_57 : decode cX0_beds 57 = .ok (.invokevirtual 273, 3) := dk_182 1 17 (dk_at dksX0_beds_2 13 rfl rfl)
theorem dX0_beds_60 : decode cX0_beds 60 = .ok (.iastore, 1) := dk_79 (dk_at dksX0_beds_2 16 rfl rfl)
theorem dX0_beds_61 : decode cX0_beds 61 = .ok (.iinc 3 1, 3) := dk_132 3 1 (dk_at dksX0_beds_2 17 rfl rfl)
theorem dX0_beds_64 : decode cX0_beds 64 = .ok (.goto (-47), 3) := dk_167 255 209 (dk_at dksX0_beds_2 20 rfl rfl)
theorem dX0_beds_67 : decode cX0_beds 67 = .ok (.iload_n 3, 1) := dk_29 (dk_at dksX0_beds_2 23 rfl rfl)
theorem dX0_beds_68 : decode cX0_beds 68 = .ok (.ireturn, 1) := dk_172 (dk_at dksX0_beds_3 0 rfl rfl)
theorem dX0_beds_69 : decode cX0_beds 69 = .ok (.astore_n 2, 1) := dk_77 (dk_at dksX0_beds_3 1 rfl rfl)
theorem dX0_beds_70 : decode cX0_beds 70 = .ok (.aload_n 0, 1) := dk_42 (dk_at dksX0_beds_3 2 rfl rfl)
theorem dX0_beds_71 : decode cX0_beds 71 = .ok (.aload_n 2, 1) := dk_44 (dk_at dksX0_beds_3 3 rfl rfl)
theorem dX0_beds_72 : decode cX0_beds 72 = .ok (.invokevirtual 111, 3) := dk_182 0 111 (dk_at dksX0_beds_3 4 rfl rfl)
theorem dX0_beds_75 : decode cX0_beds 75 = .ok (.ireturn, 1) := dk_172 (dk_at dksX0_beds_3 7 rfl rfl)
abbrev cX0_judge : ByteArray := prog_1_method_55_code
def yX0_judge : MethodName := ⟨RX0, "judge", "(I)I"⟩
def dkwX0_judge_3 : List UInt8 := [180, 0, 96, 160, 0, 7, 2, 167, 0, 4, 29, 172, 77, 42, 44, 182, 0, 111, 172]
abbrev dktX0_judge_3 : List UInt8 := dkwX0_judge_3 ++ []
def dkwX0_judge_2 : List UInt8 := [46, 160, 0, 9, 132, 3, 1, 167, 255, 220, 29, 44, 182, 1, 27, 160, 0, 18, 29, 42, 180, 0, 46]
abbrev dktX0_judge_2 : List UInt8 := dkwX0_judge_2 ++ dktX0_judge_3
def dkwX0_judge_1 : List UInt8 := [162, 0, 34, 42, 29, 182, 0, 182, 153, 0, 26, 44, 29, 182, 1, 17, 42, 180, 0, 46, 180, 0, 158, 29]
abbrev dktX0_judge_1 : List UInt8 := dkwX0_judge_1 ++ dktX0_judge_2
def dkwX0_judge_0 : List UInt8 := [42, 27, 184, 1, 20, 4, 182, 0, 87, 42, 27, 182, 1, 23, 77, 3, 62, 29, 44, 182, 1, 27]
abbrev dktX0_judge_0 : List UInt8 := dkwX0_judge_0 ++ dktX0_judge_1
theorem dksX0_judge_0 : cX0_judge.data.toList.drop 0 = dktX0_judge_0 := by decide +kernel
theorem dksX0_judge_1 : cX0_judge.data.toList.drop 22 = dktX0_judge_1 := dk_seg dksX0_judge_0 22 rfl rfl
theorem dksX0_judge_2 : cX0_judge.data.toList.drop 46 = dktX0_judge_2 := dk_seg dksX0_judge_1 24 rfl rfl
theorem dksX0_judge_3 : cX0_judge.data.toList.drop 69 = dktX0_judge_3 := dk_seg dksX0_judge_2 23 rfl rfl
theorem dX0_judge_0 : decode cX0_judge 0 = .ok (.aload_n 0, 1) := dk_42 (dk_at dksX0_judge_0 0 rfl rfl)
theorem dX0_judge_1 : decode cX0_judge 1 = .ok (.iload_n 1, 1) := dk_27 (dk_at dksX0_judge_0 1 rfl rfl)
theorem dX0_judge_2 : decode cX0_judge 2 = .ok (.invokestatic 276, 3) := dk_184 1 20 (dk_at dksX0_judge_0 2 rfl rfl)
theorem dX0_judge_5 : decode cX0_judge 5 = .ok (.iconst 1, 1) := dk_4 (dk_at dksX0_judge_0 5 rfl rfl)
theorem dX0_judge_6 : decode cX0_judge 6 = .ok (.invokevirtual 87, 3) := dk_182 0 87 (dk_at dksX0_judge_0 6 rfl rfl)
theorem dX0_judge_9 : decode cX0_judge 9 = .ok (.aload_n 0, 1) := dk_42 (dk_at dksX0_judge_0 9 rfl rfl)
theorem dX0_judge_10 : decode cX0_judge 10 = .ok (.iload_n 1, 1) := dk_27 (dk_at dksX0_judge_0 10 rfl rfl)
theorem dX0_judge_11 : decode cX0_judge 11 = .ok (.invokevirtual 279, 3) := dk_182 1 23 (dk_at dksX0_judge_0 11 rfl rfl)
theorem dX0_judge_14 : decode cX0_judge 14 = .ok (.astore_n 2, 1) := dk_77 (dk_at dksX0_judge_0 14 rfl rfl)
theorem dX0_judge_15 : decode cX0_judge 15 = .ok (.iconst 0, 1) := dk_3 (dk_at dksX0_judge_0 15 rfl rfl)
theorem dX0_judge_16 : decode cX0_judge 16 = .ok (.istore_n 3, 1) := dk_62 (dk_at dksX0_judge_0 16 rfl rfl)
theorem dX0_judge_17 : decode cX0_judge 17 = .ok (.iload_n 3, 1) := dk_29 (dk_at dksX0_judge_0 17 rfl rfl)
theorem dX0_judge_18 : decode cX0_judge 18 = .ok (.aload_n 2, 1) := dk_44 (dk_at dksX0_judge_0 18 rfl rfl)
theorem dX0_judge_19 : decode cX0_judge 19 = .ok (.invokevirtual 283, 3) := dk_182 1 27 (dk_at dksX0_judge_0 19 rfl rfl)
theorem dX0_judge_22 : decode cX0_judge 22 = .ok (.if_icmp .ge 34, 3) := dk_162 0 34 (dk_at dksX0_judge_1 0 rfl rfl)
theorem dX0_judge_25 : decode cX0_judge 25 = .ok (.aload_n 0, 1) := dk_42 (dk_at dksX0_judge_1 3 rfl rfl)
theorem dX0_judge_26 : decode cX0_judge 26 = .ok (.iload_n 3, 1) := dk_29 (dk_at dksX0_judge_1 4 rfl rfl)
theorem dX0_judge_27 : decode cX0_judge 27 = .ok (.invokevirtual 182, 3) := dk_182 0 182 (dk_at dksX0_judge_1 5 rfl rfl)
theorem dX0_judge_30 : decode cX0_judge 30 = .ok (.ifCond .eq 26, 3) := dk_153 0 26 (dk_at dksX0_judge_1 8 rfl rfl)
theorem dX0_judge_33 : decode cX0_judge 33 = .ok (.aload_n 2, 1) := dk_44 (dk_at dksX0_judge_1 11 rfl rfl)
theorem dX0_judge_34 : decode cX0_judge 34 = .ok (.iload_n 3, 1) := dk_29 (dk_at dksX0_judge_1 12 rfl rfl)
theorem dX0_judge_35 : decode cX0_judge 35 = .ok (.invokevirtual 273, 3) := dk_182 1 17 (dk_at dksX0_judge_1 13 rfl rfl)
theorem dX0_judge_38 : decode cX0_judge 38 = .ok (.aload_n 0, 1) := dk_42 (dk_at dksX0_judge_1 16 rfl rfl)
theorem dX0_judge_39 : decode cX0_judge 39 = .ok (.getfield 46, 3) := dk_180 0 46 (dk_at dksX0_judge_1 17 rfl rfl)
theorem dX0_judge_42 : decode cX0_judge 42 = .ok (.getfield 158, 3) := dk_180 0 158 (dk_at dksX0_judge_1 20 rfl rfl)
theorem dX0_judge_45 : decode cX0_judge 45 = .ok (.iload_n 3, 1) := dk_29 (dk_at dksX0_judge_1 23 rfl rfl)
theorem dX0_judge_46 : decode cX0_judge 46 = .ok (.iaload, 1) := dk_46 (dk_at dksX0_judge_2 0 rfl rfl)
theorem dX0_judge_47 : decode cX0_judge 47 = .ok (.if_icmp .ne 9, 3) := dk_160 0 9 (dk_at dksX0_judge_2 1 rfl rfl)
theorem dX0_judge_50 : decode cX0_judge 50 = .ok (.iinc 3 1, 3) := dk_132 3 1 (dk_at dksX0_judge_2 4 rfl rfl)
theorem dX0_judge_53 : decode cX0_judge 53 = .ok (.goto (-36), 3) := dk_167 255 220 (dk_at dksX0_judge_2 7 rfl rfl)
theorem dX0_judge_56 : decode cX0_judge 56 = .ok (.iload_n 3, 1) := dk_29 (dk_at dksX0_judge_2 10 rfl rfl)
theorem dX0_judge_57 : decode cX0_judge 57 = .ok (.aload_n 2, 1) := dk_44 (dk_at dksX0_judge_2 11 rfl rfl)
theorem dX0_judge_58 : decode cX0_judge 58 = .ok (.invokevirtual 283, 3) := dk_182 1 27 (dk_at dksX0_judge_2 12 rfl rfl)
theorem dX0_judge_61 : decode cX0_judge 61 = .ok (.if_icmp .ne 18, 3) := dk_160 0 18 (dk_at dksX0_judge_2 15 rfl rfl)
theorem dX0_judge_64 : decode cX0_judge 64 = .ok (.iload_n 3, 1) := dk_29 (dk_at dksX0_judge_2 18 rfl rfl)
theorem dX0_judge_65 : decode cX0_judge 65 = .ok (.aload_n 0, 1) := dk_42 (dk_at dksX0_judge_2 19 rfl rfl)
theorem dX0_judge_66 : decode cX0_judge 66 = .ok (.getfield 46, 3) := dk_180 0 46 (dk_at dksX0_judge_2 20 rfl rfl)
theorem dX0_judge_69 : decode cX0_judge 69 = .ok (.getfield 96, 3) := dk_180 0 96 (dk_at dksX0_judge_3 0 rfl rfl)
theorem dX0_judge_72 : decode cX0_judge 72 = .ok (.if_icmp .ne 7, 3) := dk_160 0 7 (dk_at dksX0_judge_3 3 rfl rfl)
theorem dX0_judge_75 : decode cX0_judge 75 = .ok (.iconst (-1), 1) := dk_2 (dk_at dksX0_judge_3 6 rfl rfl)
theorem dX0_judge_76 : decode cX0_judge 76 = .ok (.goto 4, 3) := dk_167 0 4 (dk_at dksX0_judge_3 7 rfl rfl)
theorem dX0_judge_79 : decode cX0_judge 79 = .ok (.iload_n 3, 1) := dk_29 (dk_at dksX0_judge_3 10 rfl rfl)
theorem dX0_judge_80 : decode cX0_judge 80 = .ok (.ireturn, 1) := dk_172 (dk_at dksX0_judge_3 11 rfl rfl)
theorem dX0_judge_81 : decode cX0_judge 81 = .ok (.astore_n 2, 1) := dk_77 (dk_at dksX0_judge_3 12 rfl rfl)
theorem dX0_judge_82 : decode cX0_judge 82 = .ok (.aload_n 0, 1) := dk_42 (dk_at dksX0_judge_3 13 rfl rfl)
theorem dX0_judge_83 : decode cX0_judge 83 = .ok (.aload_n 2, 1) := dk_44 (dk_at dksX0_judge_3 14 rfl rfl)
theorem dX0_judge_84 : decode cX0_judge 84 = .ok (.invokevirtual 111, 3) := dk_182 0 111 (dk_at dksX0_judge_3 15 rfl rfl)
theorem dX0_judge_87 : decode cX0_judge 87 = .ok (.ireturn, 1) := dk_172 (dk_at dksX0_judge_3 18 rfl rfl)
abbrev cX0_sheet : ByteArray := prog_1_method_56_code
def yX0_sheet : MethodName := ⟨RX0, "sheet", "(III)I"⟩
def dkwX0_sheet_5 : List UInt8 := [29, 183, 1, 91, 181, 0, 83, 4, 172, 58, 4, 42, 25, 4, 182, 0, 111, 172]
abbrev dktX0_sheet_5 : List UInt8 := dkwX0_sheet_5 ++ []
def dkwX0_sheet_4 : List UInt8 := [167, 0, 28, 28, 16, 16, 160, 0, 14, 187, 1, 86, 89, 29, 183, 1, 88, 167, 0, 11, 187, 1, 89, 89]
abbrev dktX0_sheet_4 : List UInt8 := dkwX0_sheet_4 ++ dktX0_sheet_5
def dkwX0_sheet_3 : List UInt8 := [4, 182, 0, 87, 42, 180, 0, 69, 27, 50, 28, 16, 8, 160, 0, 14, 187, 1, 81, 89, 29, 183, 1, 83]
abbrev dktX0_sheet_3 : List UInt8 := dkwX0_sheet_3 ++ dktX0_sheet_4
def dkwX0_sheet_2 : List UInt8 := [155, 0, 7, 4, 167, 0, 4, 3, 6, 182, 0, 87, 42, 29, 16, 40, 163, 0, 7, 4, 167, 0, 4, 3]
abbrev dktX0_sheet_2 : List UInt8 := dkwX0_sheet_2 ++ dktX0_sheet_3
def dkwX0_sheet_1 : List UInt8 := [4, 182, 0, 87, 28, 154, 0, 15, 42, 180, 0, 69, 27, 50, 1, 181, 0, 83, 4, 172, 42, 29]
abbrev dktX0_sheet_1 : List UInt8 := dkwX0_sheet_1 ++ dktX0_sheet_2
def dkwX0_sheet_0 : List UInt8 := [42, 27, 184, 1, 20, 153, 0, 18, 28, 153, 0, 10, 28, 184, 1, 78, 153, 0, 7, 4, 167, 0, 4, 3]
abbrev dktX0_sheet_0 : List UInt8 := dkwX0_sheet_0 ++ dktX0_sheet_1
theorem dksX0_sheet_0 : cX0_sheet.data.toList.drop 0 = dktX0_sheet_0 := by decide +kernel
theorem dksX0_sheet_1 : cX0_sheet.data.toList.drop 24 = dktX0_sheet_1 := dk_seg dksX0_sheet_0 24 rfl rfl
theorem dksX0_sheet_2 : cX0_sheet.data.toList.drop 46 = dktX0_sheet_2 := dk_seg dksX0_sheet_1 22 rfl rfl
theorem dksX0_sheet_3 : cX0_sheet.data.toList.drop 70 = dktX0_sheet_3 := dk_seg dksX0_sheet_2 24 rfl rfl
theorem dksX0_sheet_4 : cX0_sheet.data.toList.drop 94 = dktX0_sheet_4 := dk_seg dksX0_sheet_3 24 rfl rfl
theorem dksX0_sheet_5 : cX0_sheet.data.toList.drop 118 = dktX0_sheet_5 := dk_seg dksX0_sheet_4 24 rfl rfl
theorem dX0_sheet_0 : decode cX0_sheet 0 = .ok (.aload_n 0, 1) := dk_42 (dk_at dksX0_sheet_0 0 rfl rfl)
theorem dX0_sheet_1 : decode cX0_sheet 1 = .ok (.iload_n 1, 1) := dk_27 (dk_at dksX0_sheet_0 1 rfl rfl)
theorem dX0_sheet_2 : decode cX0_sheet 2 = .ok (.invokestatic 276, 3) := dk_184 1 20 (dk_at dksX0_sheet_0 2 rfl rfl)
theorem dX0_sheet_5 : decode cX0_sheet 5 = .ok (.ifCond .eq 18, 3) := dk_153 0 18 (dk_at dksX0_sheet_0 5 rfl rfl)
theorem dX0_sheet_8 : decode cX0_sheet 8 = .ok (.iload_n 2, 1) := dk_28 (dk_at dksX0_sheet_0 8 rfl rfl)
theorem dX0_sheet_9 : decode cX0_sheet 9 = .ok (.ifCond .eq 10, 3) := dk_153 0 10 (dk_at dksX0_sheet_0 9 rfl rfl)
theorem dX0_sheet_12 : decode cX0_sheet 12 = .ok (.iload_n 2, 1) := dk_28 (dk_at dksX0_sheet_0 12 rfl rfl)
theorem dX0_sheet_13 : decode cX0_sheet 13 = .ok (.invokestatic 334, 3) := dk_184 1 78 (dk_at dksX0_sheet_0 13 rfl rfl)
theorem dX0_sheet_16 : decode cX0_sheet 16 = .ok (.ifCond .eq 7, 3) := dk_153 0 7 (dk_at dksX0_sheet_0 16 rfl rfl)
theorem dX0_sheet_19 : decode cX0_sheet 19 = .ok (.iconst 1, 1) := dk_4 (dk_at dksX0_sheet_0 19 rfl rfl)
theorem dX0_sheet_20 : decode cX0_sheet 20 = .ok (.goto 4, 3) := dk_167 0 4 (dk_at dksX0_sheet_0 20 rfl rfl)
theorem dX0_sheet_23 : decode cX0_sheet 23 = .ok (.iconst 0, 1) := dk_3 (dk_at dksX0_sheet_0 23 rfl rfl)
theorem dX0_sheet_24 : decode cX0_sheet 24 = .ok (.iconst 1, 1) := dk_4 (dk_at dksX0_sheet_1 0 rfl rfl)
theorem dX0_sheet_25 : decode cX0_sheet 25 = .ok (.invokevirtual 87, 3) := dk_182 0 87 (dk_at dksX0_sheet_1 1 rfl rfl)
theorem dX0_sheet_28 : decode cX0_sheet 28 = .ok (.iload_n 2, 1) := dk_28 (dk_at dksX0_sheet_1 4 rfl rfl)
theorem dX0_sheet_29 : decode cX0_sheet 29 = .ok (.ifCond .ne 15, 3) := dk_154 0 15 (dk_at dksX0_sheet_1 5 rfl rfl)
theorem dX0_sheet_32 : decode cX0_sheet 32 = .ok (.aload_n 0, 1) := dk_42 (dk_at dksX0_sheet_1 8 rfl rfl)
theorem dX0_sheet_33 : decode cX0_sheet 33 = .ok (.getfield 69, 3) := dk_180 0 69 (dk_at dksX0_sheet_1 9 rfl rfl)
theorem dX0_sheet_36 : decode cX0_sheet 36 = .ok (.iload_n 1, 1) := dk_27 (dk_at dksX0_sheet_1 12 rfl rfl)
theorem dX0_sheet_37 : decode cX0_sheet 37 = .ok (.aaload, 1) := dk_50 (dk_at dksX0_sheet_1 13 rfl rfl)
theorem dX0_sheet_38 : decode cX0_sheet 38 = .ok (.aconst_null, 1) := dk_1 (dk_at dksX0_sheet_1 14 rfl rfl)
theorem dX0_sheet_39 : decode cX0_sheet 39 = .ok (.putfield 83, 3) := dk_181 0 83 (dk_at dksX0_sheet_1 15 rfl rfl)
theorem dX0_sheet_42 : decode cX0_sheet 42 = .ok (.iconst 1, 1) := dk_4 (dk_at dksX0_sheet_1 18 rfl rfl)
theorem dX0_sheet_43 : decode cX0_sheet 43 = .ok (.ireturn, 1) := dk_172 (dk_at dksX0_sheet_1 19 rfl rfl)
theorem dX0_sheet_44 : decode cX0_sheet 44 = .ok (.aload_n 0, 1) := dk_42 (dk_at dksX0_sheet_1 20 rfl rfl)
theorem dX0_sheet_45 : decode cX0_sheet 45 = .ok (.iload_n 3, 1) := dk_29 (dk_at dksX0_sheet_1 21 rfl rfl)
theorem dX0_sheet_46 : decode cX0_sheet 46 = .ok (.ifCond .lt 7, 3) := dk_155 0 7 (dk_at dksX0_sheet_2 0 rfl rfl)
theorem dX0_sheet_49 : decode cX0_sheet 49 = .ok (.iconst 1, 1) := dk_4 (dk_at dksX0_sheet_2 3 rfl rfl)
theorem dX0_sheet_50 : decode cX0_sheet 50 = .ok (.goto 4, 3) := dk_167 0 4 (dk_at dksX0_sheet_2 4 rfl rfl)
theorem dX0_sheet_53 : decode cX0_sheet 53 = .ok (.iconst 0, 1) := dk_3 (dk_at dksX0_sheet_2 7 rfl rfl)
theorem dX0_sheet_54 : decode cX0_sheet 54 = .ok (.iconst 3, 1) := dk_6 (dk_at dksX0_sheet_2 8 rfl rfl)
theorem dX0_sheet_55 : decode cX0_sheet 55 = .ok (.invokevirtual 87, 3) := dk_182 0 87 (dk_at dksX0_sheet_2 9 rfl rfl)
theorem dX0_sheet_58 : decode cX0_sheet 58 = .ok (.aload_n 0, 1) := dk_42 (dk_at dksX0_sheet_2 12 rfl rfl)
theorem dX0_sheet_59 : decode cX0_sheet 59 = .ok (.iload_n 3, 1) := dk_29 (dk_at dksX0_sheet_2 13 rfl rfl)
theorem dX0_sheet_60 : decode cX0_sheet 60 = .ok (.bipush 40, 2) := dk_16 40 (dk_at dksX0_sheet_2 14 rfl rfl)
theorem dX0_sheet_62 : decode cX0_sheet 62 = .ok (.if_icmp .gt 7, 3) := dk_163 0 7 (dk_at dksX0_sheet_2 16 rfl rfl)
theorem dX0_sheet_65 : decode cX0_sheet 65 = .ok (.iconst 1, 1) := dk_4 (dk_at dksX0_sheet_2 19 rfl rfl)
theorem dX0_sheet_66 : decode cX0_sheet 66 = .ok (.goto 4, 3) := dk_167 0 4 (dk_at dksX0_sheet_2 20 rfl rfl)
theorem dX0_sheet_69 : decode cX0_sheet 69 = .ok (.iconst 0, 1) := dk_3 (dk_at dksX0_sheet_2 23 rfl rfl)
theorem dX0_sheet_70 : decode cX0_sheet 70 = .ok (.iconst 1, 1) := dk_4 (dk_at dksX0_sheet_3 0 rfl rfl)
theorem dX0_sheet_71 : decode cX0_sheet 71 = .ok (.invokevirtual 87, 3) := dk_182 0 87 (dk_at dksX0_sheet_3 1 rfl rfl)
theorem dX0_sheet_74 : decode cX0_sheet 74 = .ok (.aload_n 0, 1) := dk_42 (dk_at dksX0_sheet_3 4 rfl rfl)
theorem dX0_sheet_75 : decode cX0_sheet 75 = .ok (.getfield 69, 3) := dk_180 0 69 (dk_at dksX0_sheet_3 5 rfl rfl)
theorem dX0_sheet_78 : decode cX0_sheet 78 = .ok (.iload_n 1, 1) := dk_27 (dk_at dksX0_sheet_3 8 rfl rfl)
theorem dX0_sheet_79 : decode cX0_sheet 79 = .ok (.aaload, 1) := dk_50 (dk_at dksX0_sheet_3 9 rfl rfl)
theorem dX0_sheet_80 : decode cX0_sheet 80 = .ok (.iload_n 2, 1) := dk_28 (dk_at dksX0_sheet_3 10 rfl rfl)
theorem dX0_sheet_81 : decode cX0_sheet 81 = .ok (.bipush 8, 2) := dk_16 8 (dk_at dksX0_sheet_3 11 rfl rfl)
theorem dX0_sheet_83 : decode cX0_sheet 83 = .ok (.if_icmp .ne 14, 3) := dk_160 0 14 (dk_at dksX0_sheet_3 13 rfl rfl)
theorem dX0_sheet_86 : decode cX0_sheet 86 = .ok (.new 337, 3) := dk_187 1 81 (dk_at dksX0_sheet_3 16 rfl rfl)
theorem dX0_sheet_89 : decode cX0_sheet 89 = .ok (.dup, 1) := dk_89 (dk_at dksX0_sheet_3 19 rfl rfl)
theorem dX0_sheet_90 : decode cX0_sheet 90 = .ok (.iload_n 3, 1) := dk_29 (dk_at dksX0_sheet_3 20 rfl rfl)
theorem dX0_sheet_91 : decode cX0_sheet 91 = .ok (.invokespecial 339, 3) := dk_183 1 83 (dk_at dksX0_sheet_3 21 rfl rfl)
theorem dX0_sheet_94 : decode cX0_sheet 94 = .ok (.goto 28, 3) := dk_167 0 28 (dk_at dksX0_sheet_4 0 rfl rfl)
theorem dX0_sheet_97 : decode cX0_sheet 97 = .ok (.iload_n 2, 1) := dk_28 (dk_at dksX0_sheet_4 3 rfl rfl)
theorem dX0_sheet_98 : decode cX0_sheet 98 = .ok (.bipush 16, 2) := dk_16 16 (dk_at dksX0_sheet_4 4 rfl rfl)
theorem dX0_sheet_100 : decode cX0_sheet 100 = .ok (.if_icmp .ne 14, 3) := dk_160 0 14 (dk_at dksX0_sheet_4 6 rfl rfl)
theorem dX0_sheet_103 : decode cX0_sheet 103 = .ok (.new 342, 3) := dk_187 1 86 (dk_at dksX0_sheet_4 9 rfl rfl)
theorem dX0_sheet_106 : decode cX0_sheet 106 = .ok (.dup, 1) := dk_89 (dk_at dksX0_sheet_4 12 rfl rfl)
theorem dX0_sheet_107 : decode cX0_sheet 107 = .ok (.iload_n 3, 1) := dk_29 (dk_at dksX0_sheet_4 13 rfl rfl)
theorem dX0_sheet_108 : decode cX0_sheet 108 = .ok (.invokespecial 344, 3) := dk_183 1 88 (dk_at dksX0_sheet_4 14 rfl rfl)
theorem dX0_sheet_111 : decode cX0_sheet 111 = .ok (.goto 11, 3) := dk_167 0 11 (dk_at dksX0_sheet_4 17 rfl rfl)
theorem dX0_sheet_114 : decode cX0_sheet 114 = .ok (.new 345, 3) := dk_187 1 89 (dk_at dksX0_sheet_4 20 rfl rfl)
theorem dX0_sheet_117 : decode cX0_sheet 117 = .ok (.dup, 1) := dk_89 (dk_at dksX0_sheet_4 23 rfl rfl)
theorem dX0_sheet_118 : decode cX0_sheet 118 = .ok (.iload_n 3, 1) := dk_29 (dk_at dksX0_sheet_5 0 rfl rfl)
theorem dX0_sheet_119 : decode cX0_sheet 119 = .ok (.invokespecial 347, 3) := dk_183 1 91 (dk_at dksX0_sheet_5 1 rfl rfl)
theorem dX0_sheet_122 : decode cX0_sheet 122 = .ok (.putfield 83, 3) := dk_181 0 83 (dk_at dksX0_sheet_5 4 rfl rfl)
theorem dX0_sheet_125 : decode cX0_sheet 125 = .ok (.iconst 1, 1) := dk_4 (dk_at dksX0_sheet_5 7 rfl rfl)
theorem dX0_sheet_126 : decode cX0_sheet 126 = .ok (.ireturn, 1) := dk_172 (dk_at dksX0_sheet_5 8 rfl rfl)
theorem dX0_sheet_127 : decode cX0_sheet 127 = .ok (.astore 4, 2) := dk_58 4 (dk_at dksX0_sheet_5 9 rfl rfl)
theorem dX0_sheet_129 : decode cX0_sheet 129 = .ok (.aload_n 0, 1) := dk_42 (dk_at dksX0_sheet_5 11 rfl rfl)
theorem dX0_sheet_130 : decode cX0_sheet 130 = .ok (.aload 4, 2) := dk_25 4 (dk_at dksX0_sheet_5 12 rfl rfl)
theorem dX0_sheet_132 : decode cX0_sheet 132 = .ok (.invokevirtual 111, 3) := dk_182 0 111 (dk_at dksX0_sheet_5 14 rfl rfl)
theorem dX0_sheet_135 : decode cX0_sheet 135 = .ok (.ireturn, 1) := dk_172 (dk_at dksX0_sheet_5 17 rfl rfl)
abbrev cX0_isWidth : ByteArray := prog_1_method_9_code
def yX0_isWidth : MethodName := ⟨RX0, "isWidth", "(I)Z"⟩
def dkwX0_isWidth_0 : List UInt8 := [26, 16, 8, 159, 0, 15, 26, 16, 16, 159, 0, 9, 26, 16, 32, 160, 0, 7, 4, 167, 0, 4, 3, 172]
abbrev dktX0_isWidth_0 : List UInt8 := dkwX0_isWidth_0 ++ []
theorem dksX0_isWidth_0 : cX0_isWidth.data.toList.drop 0 = dktX0_isWidth_0 := by decide +kernel
theorem dX0_isWidth_0 : decode cX0_isWidth 0 = .ok (.iload_n 0, 1) := dk_26 (dk_at dksX0_isWidth_0 0 rfl rfl)
theorem dX0_isWidth_1 : decode cX0_isWidth 1 = .ok (.bipush 8, 2) := dk_16 8 (dk_at dksX0_isWidth_0 1 rfl rfl)
theorem dX0_isWidth_3 : decode cX0_isWidth 3 = .ok (.if_icmp .eq 15, 3) := dk_159 0 15 (dk_at dksX0_isWidth_0 3 rfl rfl)
theorem dX0_isWidth_6 : decode cX0_isWidth 6 = .ok (.iload_n 0, 1) := dk_26 (dk_at dksX0_isWidth_0 6 rfl rfl)
theorem dX0_isWidth_7 : decode cX0_isWidth 7 = .ok (.bipush 16, 2) := dk_16 16 (dk_at dksX0_isWidth_0 7 rfl rfl)
theorem dX0_isWidth_9 : decode cX0_isWidth 9 = .ok (.if_icmp .eq 9, 3) := dk_159 0 9 (dk_at dksX0_isWidth_0 9 rfl rfl)
theorem dX0_isWidth_12 : decode cX0_isWidth 12 = .ok (.iload_n 0, 1) := dk_26 (dk_at dksX0_isWidth_0 12 rfl rfl)
theorem dX0_isWidth_13 : decode cX0_isWidth 13 = .ok (.bipush 32, 2) := dk_16 32 (dk_at dksX0_isWidth_0 13 rfl rfl)
theorem dX0_isWidth_15 : decode cX0_isWidth 15 = .ok (.if_icmp .ne 7, 3) := dk_160 0 7 (dk_at dksX0_isWidth_0 15 rfl rfl)
theorem dX0_isWidth_18 : decode cX0_isWidth 18 = .ok (.iconst 1, 1) := dk_4 (dk_at dksX0_isWidth_0 18 rfl rfl)
theorem dX0_isWidth_19 : decode cX0_isWidth 19 = .ok (.goto 4, 3) := dk_167 0 4 (dk_at dksX0_isWidth_0 19 rfl rfl)
theorem dX0_isWidth_22 : decode cX0_isWidth 22 = .ok (.iconst 0, 1) := dk_3 (dk_at dksX0_isWidth_0 22 rfl rfl)
theorem dX0_isWidth_23 : decode cX0_isWidth 23 = .ok (.ireturn, 1) := dk_172 (dk_at dksX0_isWidth_0 23 rfl rfl)
abbrev cX0_put : ByteArray := prog_1_method_57_code
def yX0_put : MethodName := ⟨RX0, "put", "(III)I"⟩
def dkwX0_put_2 : List UInt8 := [182, 0, 111, 172]
abbrev dktX0_put_2 : List UInt8 := dkwX0_put_2 ++ []
def dkwX0_put_1 : List UInt8 := [4, 100, 184, 0, 79, 4, 182, 0, 87, 25, 4, 28, 29, 182, 1, 92, 4, 172, 58, 4, 42, 25, 4]
abbrev dktX0_put_1 : List UInt8 := dkwX0_put_1 ++ dktX0_put_2
def dkwX0_put_0 : List UInt8 := [42, 27, 184, 1, 20, 4, 182, 0, 87, 42, 27, 182, 1, 23, 58, 4, 42, 28, 3, 25, 4, 182, 1, 27]
abbrev dktX0_put_0 : List UInt8 := dkwX0_put_0 ++ dktX0_put_1
theorem dksX0_put_0 : cX0_put.data.toList.drop 0 = dktX0_put_0 := by decide +kernel
theorem dksX0_put_1 : cX0_put.data.toList.drop 24 = dktX0_put_1 := dk_seg dksX0_put_0 24 rfl rfl
theorem dksX0_put_2 : cX0_put.data.toList.drop 47 = dktX0_put_2 := dk_seg dksX0_put_1 23 rfl rfl
theorem dX0_put_0 : decode cX0_put 0 = .ok (.aload_n 0, 1) := dk_42 (dk_at dksX0_put_0 0 rfl rfl)
theorem dX0_put_1 : decode cX0_put 1 = .ok (.iload_n 1, 1) := dk_27 (dk_at dksX0_put_0 1 rfl rfl)
theorem dX0_put_2 : decode cX0_put 2 = .ok (.invokestatic 276, 3) := dk_184 1 20 (dk_at dksX0_put_0 2 rfl rfl)
theorem dX0_put_5 : decode cX0_put 5 = .ok (.iconst 1, 1) := dk_4 (dk_at dksX0_put_0 5 rfl rfl)
theorem dX0_put_6 : decode cX0_put 6 = .ok (.invokevirtual 87, 3) := dk_182 0 87 (dk_at dksX0_put_0 6 rfl rfl)
theorem dX0_put_9 : decode cX0_put 9 = .ok (.aload_n 0, 1) := dk_42 (dk_at dksX0_put_0 9 rfl rfl)
theorem dX0_put_10 : decode cX0_put 10 = .ok (.iload_n 1, 1) := dk_27 (dk_at dksX0_put_0 10 rfl rfl)
theorem dX0_put_11 : decode cX0_put 11 = .ok (.invokevirtual 279, 3) := dk_182 1 23 (dk_at dksX0_put_0 11 rfl rfl)
theorem dX0_put_14 : decode cX0_put 14 = .ok (.astore 4, 2) := dk_58 4 (dk_at dksX0_put_0 14 rfl rfl)
theorem dX0_put_16 : decode cX0_put 16 = .ok (.aload_n 0, 1) := dk_42 (dk_at dksX0_put_0 16 rfl rfl)
theorem dX0_put_17 : decode cX0_put 17 = .ok (.iload_n 2, 1) := dk_28 (dk_at dksX0_put_0 17 rfl rfl)
theorem dX0_put_18 : decode cX0_put 18 = .ok (.iconst 0, 1) := dk_3 (dk_at dksX0_put_0 18 rfl rfl)
theorem dX0_put_19 : decode cX0_put 19 = .ok (.aload 4, 2) := dk_25 4 (dk_at dksX0_put_0 19 rfl rfl)
theorem dX0_put_21 : decode cX0_put 21 = .ok (.invokevirtual 283, 3) := dk_182 1 27 (dk_at dksX0_put_0 21 rfl rfl)
theorem dX0_put_24 : decode cX0_put 24 = .ok (.iconst 1, 1) := dk_4 (dk_at dksX0_put_1 0 rfl rfl)
theorem dX0_put_25 : decode cX0_put 25 = .ok (.isub, 1) := dk_100 (dk_at dksX0_put_1 1 rfl rfl)
theorem dX0_put_26 : decode cX0_put 26 = .ok (.invokestatic 79, 3) := dk_184 0 79 (dk_at dksX0_put_1 2 rfl rfl)
theorem dX0_put_29 : decode cX0_put 29 = .ok (.iconst 1, 1) := dk_4 (dk_at dksX0_put_1 5 rfl rfl)
theorem dX0_put_30 : decode cX0_put 30 = .ok (.invokevirtual 87, 3) := dk_182 0 87 (dk_at dksX0_put_1 6 rfl rfl)
theorem dX0_put_33 : decode cX0_put 33 = .ok (.aload 4, 2) := dk_25 4 (dk_at dksX0_put_1 9 rfl rfl)
theorem dX0_put_35 : decode cX0_put 35 = .ok (.iload_n 2, 1) := dk_28 (dk_at dksX0_put_1 11 rfl rfl)
theorem dX0_put_36 : decode cX0_put 36 = .ok (.iload_n 3, 1) := dk_29 (dk_at dksX0_put_1 12 rfl rfl)
theorem dX0_put_37 : decode cX0_put 37 = .ok (.invokevirtual 348, 3) := dk_182 1 92 (dk_at dksX0_put_1 13 rfl rfl)
theorem dX0_put_40 : decode cX0_put 40 = .ok (.iconst 1, 1) := dk_4 (dk_at dksX0_put_1 16 rfl rfl)
theorem dX0_put_41 : decode cX0_put 41 = .ok (.ireturn, 1) := dk_172 (dk_at dksX0_put_1 17 rfl rfl)
theorem dX0_put_42 : decode cX0_put 42 = .ok (.astore 4, 2) := dk_58 4 (dk_at dksX0_put_1 18 rfl rfl)
theorem dX0_put_44 : decode cX0_put 44 = .ok (.aload_n 0, 1) := dk_42 (dk_at dksX0_put_1 20 rfl rfl)
theorem dX0_put_45 : decode cX0_put 45 = .ok (.aload 4, 2) := dk_25 4 (dk_at dksX0_put_1 21 rfl rfl)
theorem dX0_put_47 : decode cX0_put 47 = .ok (.invokevirtual 111, 3) := dk_182 0 111 (dk_at dksX0_put_2 0 rfl rfl)
theorem dX0_put_50 : decode cX0_put 50 = .ok (.ireturn, 1) := dk_172 (dk_at dksX0_put_2 3 rfl rfl)
abbrev cX0_move : ByteArray := prog_1_method_58_code
def yX0_move : MethodName := ⟨RX0, "move", "(IIIII)I"⟩
def dkwX0_move_6 : List UInt8 := [96, 46, 182, 1, 92, 132, 9, 1, 167, 255, 229, 21, 5, 172, 58, 6, 42, 25, 6, 182, 0, 111, 172]
abbrev dktX0_move_6 : List UInt8 := dkwX0_move_6 ++ []
def dkwX0_move_5 : List UInt8 := [58, 8, 3, 54, 9, 21, 9, 21, 5, 162, 0, 26, 25, 7, 21, 4, 21, 9, 96, 25, 8, 28, 21, 9]
abbrev dktX0_move_5 : List UInt8 := dkwX0_move_5 ++ dktX0_move_6
def dkwX0_move_4 : List UInt8 := [182, 1, 27, 21, 5, 100, 163, 0, 7, 4, 167, 0, 4, 3, 4, 182, 0, 87, 25, 6, 182, 1, 98]
abbrev dktX0_move_4 : List UInt8 := dkwX0_move_4 ++ dktX0_move_5
def dkwX0_move_3 : List UInt8 := [155, 0, 37, 21, 4, 155, 0, 32, 28, 25, 6, 182, 1, 27, 21, 5, 100, 163, 0, 20, 21, 4, 25, 7]
abbrev dktX0_move_3 : List UInt8 := dkwX0_move_3 ++ dktX0_move_4
def dkwX0_move_2 : List UInt8 := [182, 1, 95, 160, 0, 7, 4, 167, 0, 4, 3, 8, 182, 0, 87, 42, 21, 5, 155, 0, 41, 28]
abbrev dktX0_move_2 : List UInt8 := dkwX0_move_2 ++ dktX0_move_3
def dkwX0_move_1 : List UInt8 := [42, 27, 182, 1, 23, 58, 6, 42, 29, 182, 1, 23, 58, 7, 42, 25, 6, 182, 1, 95, 25, 7]
abbrev dktX0_move_1 : List UInt8 := dkwX0_move_1 ++ dktX0_move_2
def dkwX0_move_0 : List UInt8 := [42, 27, 184, 1, 20, 153, 0, 14, 29, 184, 1, 20, 153, 0, 7, 4, 167, 0, 4, 3, 4, 182, 0, 87]
abbrev dktX0_move_0 : List UInt8 := dkwX0_move_0 ++ dktX0_move_1
theorem dksX0_move_0 : cX0_move.data.toList.drop 0 = dktX0_move_0 := by decide +kernel
theorem dksX0_move_1 : cX0_move.data.toList.drop 24 = dktX0_move_1 := dk_seg dksX0_move_0 24 rfl rfl
theorem dksX0_move_2 : cX0_move.data.toList.drop 46 = dktX0_move_2 := dk_seg dksX0_move_1 22 rfl rfl
theorem dksX0_move_3 : cX0_move.data.toList.drop 68 = dktX0_move_3 := dk_seg dksX0_move_2 22 rfl rfl
theorem dksX0_move_4 : cX0_move.data.toList.drop 92 = dktX0_move_4 := dk_seg dksX0_move_3 24 rfl rfl
theorem dksX0_move_5 : cX0_move.data.toList.drop 115 = dktX0_move_5 := dk_seg dksX0_move_4 23 rfl rfl
theorem dksX0_move_6 : cX0_move.data.toList.drop 139 = dktX0_move_6 := dk_seg dksX0_move_5 24 rfl rfl
theorem dX0_move_0 : decode cX0_move 0 = .ok (.aload_n 0, 1) := dk_42 (dk_at dksX0_move_0 0 rfl rfl)
theorem dX0_move_1 : decode cX0_move 1 = .ok (.iload_n 1, 1) := dk_27 (dk_at dksX0_move_0 1 rfl rfl)
theorem dX0_move_2 : decode cX0_move 2 = .ok (.invokestatic 276, 3) := dk_184 1 20 (dk_at dksX0_move_0 2 rfl rfl)
theorem dX0_move_5 : decode cX0_move 5 = .ok (.ifCond .eq 14, 3) := dk_153 0 14 (dk_at dksX0_move_0 5 rfl rfl)
theorem dX0_move_8 : decode cX0_move 8 = .ok (.iload_n 3, 1) := dk_29 (dk_at dksX0_move_0 8 rfl rfl)
theorem dX0_move_9 : decode cX0_move 9 = .ok (.invokestatic 276, 3) := dk_184 1 20 (dk_at dksX0_move_0 9 rfl rfl)
theorem dX0_move_12 : decode cX0_move 12 = .ok (.ifCond .eq 7, 3) := dk_153 0 7 (dk_at dksX0_move_0 12 rfl rfl)
theorem dX0_move_15 : decode cX0_move 15 = .ok (.iconst 1, 1) := dk_4 (dk_at dksX0_move_0 15 rfl rfl)
theorem dX0_move_16 : decode cX0_move 16 = .ok (.goto 4, 3) := dk_167 0 4 (dk_at dksX0_move_0 16 rfl rfl)
theorem dX0_move_19 : decode cX0_move 19 = .ok (.iconst 0, 1) := dk_3 (dk_at dksX0_move_0 19 rfl rfl)
theorem dX0_move_20 : decode cX0_move 20 = .ok (.iconst 1, 1) := dk_4 (dk_at dksX0_move_0 20 rfl rfl)
theorem dX0_move_21 : decode cX0_move 21 = .ok (.invokevirtual 87, 3) := dk_182 0 87 (dk_at dksX0_move_0 21 rfl rfl)
theorem dX0_move_24 : decode cX0_move 24 = .ok (.aload_n 0, 1) := dk_42 (dk_at dksX0_move_1 0 rfl rfl)
theorem dX0_move_25 : decode cX0_move 25 = .ok (.iload_n 1, 1) := dk_27 (dk_at dksX0_move_1 1 rfl rfl)
theorem dX0_move_26 : decode cX0_move 26 = .ok (.invokevirtual 279, 3) := dk_182 1 23 (dk_at dksX0_move_1 2 rfl rfl)
theorem dX0_move_29 : decode cX0_move 29 = .ok (.astore 6, 2) := dk_58 6 (dk_at dksX0_move_1 5 rfl rfl)
theorem dX0_move_31 : decode cX0_move 31 = .ok (.aload_n 0, 1) := dk_42 (dk_at dksX0_move_1 7 rfl rfl)
theorem dX0_move_32 : decode cX0_move 32 = .ok (.iload_n 3, 1) := dk_29 (dk_at dksX0_move_1 8 rfl rfl)
theorem dX0_move_33 : decode cX0_move 33 = .ok (.invokevirtual 279, 3) := dk_182 1 23 (dk_at dksX0_move_1 9 rfl rfl)
theorem dX0_move_36 : decode cX0_move 36 = .ok (.astore 7, 2) := dk_58 7 (dk_at dksX0_move_1 12 rfl rfl)
theorem dX0_move_38 : decode cX0_move 38 = .ok (.aload_n 0, 1) := dk_42 (dk_at dksX0_move_1 14 rfl rfl)
theorem dX0_move_39 : decode cX0_move 39 = .ok (.aload 6, 2) := dk_25 6 (dk_at dksX0_move_1 15 rfl rfl)
theorem dX0_move_41 : decode cX0_move 41 = .ok (.invokevirtual 351, 3) := dk_182 1 95 (dk_at dksX0_move_1 17 rfl rfl)
theorem dX0_move_44 : decode cX0_move 44 = .ok (.aload 7, 2) := dk_25 7 (dk_at dksX0_move_1 20 rfl rfl)
theorem dX0_move_46 : decode cX0_move 46 = .ok (.invokevirtual 351, 3) := dk_182 1 95 (dk_at dksX0_move_2 0 rfl rfl)
theorem dX0_move_49 : decode cX0_move 49 = .ok (.if_icmp .ne 7, 3) := dk_160 0 7 (dk_at dksX0_move_2 3 rfl rfl)
theorem dX0_move_52 : decode cX0_move 52 = .ok (.iconst 1, 1) := dk_4 (dk_at dksX0_move_2 6 rfl rfl)
theorem dX0_move_53 : decode cX0_move 53 = .ok (.goto 4, 3) := dk_167 0 4 (dk_at dksX0_move_2 7 rfl rfl)
theorem dX0_move_56 : decode cX0_move 56 = .ok (.iconst 0, 1) := dk_3 (dk_at dksX0_move_2 10 rfl rfl)
theorem dX0_move_57 : decode cX0_move 57 = .ok (.iconst 5, 1) := dk_8 (dk_at dksX0_move_2 11 rfl rfl)
theorem dX0_move_58 : decode cX0_move 58 = .ok (.invokevirtual 87, 3) := dk_182 0 87 (dk_at dksX0_move_2 12 rfl rfl)
theorem dX0_move_61 : decode cX0_move 61 = .ok (.aload_n 0, 1) := dk_42 (dk_at dksX0_move_2 15 rfl rfl)
theorem dX0_move_62 : decode cX0_move 62 = .ok (.iload 5, 2) := dk_21 5 (dk_at dksX0_move_2 16 rfl rfl)
theorem dX0_move_64 : decode cX0_move 64 = .ok (.ifCond .lt 41, 3) := dk_155 0 41 (dk_at dksX0_move_2 18 rfl rfl)
theorem dX0_move_67 : decode cX0_move 67 = .ok (.iload_n 2, 1) := dk_28 (dk_at dksX0_move_2 21 rfl rfl)
theorem dX0_move_68 : decode cX0_move 68 = .ok (.ifCond .lt 37, 3) := dk_155 0 37 (dk_at dksX0_move_3 0 rfl rfl)
theorem dX0_move_71 : decode cX0_move 71 = .ok (.iload 4, 2) := dk_21 4 (dk_at dksX0_move_3 3 rfl rfl)
theorem dX0_move_73 : decode cX0_move 73 = .ok (.ifCond .lt 32, 3) := dk_155 0 32 (dk_at dksX0_move_3 5 rfl rfl)
theorem dX0_move_76 : decode cX0_move 76 = .ok (.iload_n 2, 1) := dk_28 (dk_at dksX0_move_3 8 rfl rfl)
theorem dX0_move_77 : decode cX0_move 77 = .ok (.aload 6, 2) := dk_25 6 (dk_at dksX0_move_3 9 rfl rfl)
theorem dX0_move_79 : decode cX0_move 79 = .ok (.invokevirtual 283, 3) := dk_182 1 27 (dk_at dksX0_move_3 11 rfl rfl)
theorem dX0_move_82 : decode cX0_move 82 = .ok (.iload 5, 2) := dk_21 5 (dk_at dksX0_move_3 14 rfl rfl)
theorem dX0_move_84 : decode cX0_move 84 = .ok (.isub, 1) := dk_100 (dk_at dksX0_move_3 16 rfl rfl)
theorem dX0_move_85 : decode cX0_move 85 = .ok (.if_icmp .gt 20, 3) := dk_163 0 20 (dk_at dksX0_move_3 17 rfl rfl)
theorem dX0_move_88 : decode cX0_move 88 = .ok (.iload 4, 2) := dk_21 4 (dk_at dksX0_move_3 20 rfl rfl)
theorem dX0_move_90 : decode cX0_move 90 = .ok (.aload 7, 2) := dk_25 7 (dk_at dksX0_move_3 22 rfl rfl)
theorem dX0_move_92 : decode cX0_move 92 = .ok (.invokevirtual 283, 3) := dk_182 1 27 (dk_at dksX0_move_4 0 rfl rfl)
theorem dX0_move_95 : decode cX0_move 95 = .ok (.iload 5, 2) := dk_21 5 (dk_at dksX0_move_4 3 rfl rfl)
theorem dX0_move_97 : decode cX0_move 97 = .ok (.isub, 1) := dk_100 (dk_at dksX0_move_4 5 rfl rfl)
theorem dX0_move_98 : decode cX0_move 98 = .ok (.if_icmp .gt 7, 3) := dk_163 0 7 (dk_at dksX0_move_4 6 rfl rfl)
theorem dX0_move_101 : decode cX0_move 101 = .ok (.iconst 1, 1) := dk_4 (dk_at dksX0_move_4 9 rfl rfl)
theorem dX0_move_102 : decode cX0_move 102 = .ok (.goto 4, 3) := dk_167 0 4 (dk_at dksX0_move_4 10 rfl rfl)
theorem dX0_move_105 : decode cX0_move 105 = .ok (.iconst 0, 1) := dk_3 (dk_at dksX0_move_4 13 rfl rfl)
theorem dX0_move_106 : decode cX0_move 106 = .ok (.iconst 1, 1) := dk_4 (dk_at dksX0_move_4 14 rfl rfl)
theorem dX0_move_107 : decode cX0_move 107 = .ok (.invokevirtual 87, 3) := dk_182 0 87 (dk_at dksX0_move_4 15 rfl rfl)
theorem dX0_move_110 : decode cX0_move 110 = .ok (.aload 6, 2) := dk_25 6 (dk_at dksX0_move_4 18 rfl rfl)
theorem dX0_move_112 : decode cX0_move 112 = .ok (.invokevirtual 354, 3) := dk_182 1 98 (dk_at dksX0_move_4 20 rfl rfl)
theorem dX0_move_115 : decode cX0_move 115 = .ok (.astore 8, 2) := dk_58 8 (dk_at dksX0_move_5 0 rfl rfl)
theorem dX0_move_117 : decode cX0_move 117 = .ok (.iconst 0, 1) := dk_3 (dk_at dksX0_move_5 2 rfl rfl)
theorem dX0_move_118 : decode cX0_move 118 = .ok (.istore 9, 2) := dk_54 9 (dk_at dksX0_move_5 3 rfl rfl)
theorem dX0_move_120 : decode cX0_move 120 = .ok (.iload 9, 2) := dk_21 9 (dk_at dksX0_move_5 5 rfl rfl)
theorem dX0_move_122 : decode cX0_move 122 = .ok (.iload 5, 2) := dk_21 5 (dk_at dksX0_move_5 7 rfl rfl)
theorem dX0_move_124 : decode cX0_move 124 = .ok (.if_icmp .ge 26, 3) := dk_162 0 26 (dk_at dksX0_move_5 9 rfl rfl)
theorem dX0_move_127 : decode cX0_move 127 = .ok (.aload 7, 2) := dk_25 7 (dk_at dksX0_move_5 12 rfl rfl)
theorem dX0_move_129 : decode cX0_move 129 = .ok (.iload 4, 2) := dk_21 4 (dk_at dksX0_move_5 14 rfl rfl)
theorem dX0_move_131 : decode cX0_move 131 = .ok (.iload 9, 2) := dk_21 9 (dk_at dksX0_move_5 16 rfl rfl)
theorem dX0_move_133 : decode cX0_move 133 = .ok (.iadd, 1) := dk_96 (dk_at dksX0_move_5 18 rfl rfl)
theorem dX0_move_134 : decode cX0_move 134 = .ok (.aload 8, 2) := dk_25 8 (dk_at dksX0_move_5 19 rfl rfl)
theorem dX0_move_136 : decode cX0_move 136 = .ok (.iload_n 2, 1) := dk_28 (dk_at dksX0_move_5 21 rfl rfl)
theorem dX0_move_137 : decode cX0_move 137 = .ok (.iload 9, 2) := dk_21 9 (dk_at dksX0_move_5 22 rfl rfl)
theorem dX0_move_139 : decode cX0_move 139 = .ok (.iadd, 1) := dk_96 (dk_at dksX0_move_6 0 rfl rfl)
theorem dX0_move_140 : decode cX0_move 140 = .ok (.iaload, 1) := dk_46 (dk_at dksX0_move_6 1 rfl rfl)
theorem dX0_move_141 : decode cX0_move 141 = .ok (.invokevirtual 348, 3) := dk_182 1 92 (dk_at dksX0_move_6 2 rfl rfl)
theorem dX0_move_144 : decode cX0_move 144 = .ok (.iinc 9 1, 3) := dk_132 9 1 (dk_at dksX0_move_6 5 rfl rfl)
theorem dX0_move_147 : decode cX0_move 147 = .ok (.goto (-27), 3) := dk_167 255 229 (dk_at dksX0_move_6 8 rfl rfl)
theorem dX0_move_150 : decode cX0_move 150 = .ok (.iload 5, 2) := dk_21 5 (dk_at dksX0_move_6 11 rfl rfl)
theorem dX0_move_152 : decode cX0_move 152 = .ok (.ireturn, 1) := dk_172 (dk_at dksX0_move_6 13 rfl rfl)
theorem dX0_move_153 : decode cX0_move 153 = .ok (.astore 6, 2) := dk_58 6 (dk_at dksX0_move_6 14 rfl rfl)
theorem dX0_move_155 : decode cX0_move 155 = .ok (.aload_n 0, 1) := dk_42 (dk_at dksX0_move_6 16 rfl rfl)
theorem dX0_move_156 : decode cX0_move 156 = .ok (.aload 6, 2) := dk_25 6 (dk_at dksX0_move_6 17 rfl rfl)
theorem dX0_move_158 : decode cX0_move 158 = .ok (.invokevirtual 111, 3) := dk_182 0 111 (dk_at dksX0_move_6 19 rfl rfl)
theorem dX0_move_161 : decode cX0_move 161 = .ok (.ireturn, 1) := dk_172 (dk_at dksX0_move_6 22 rfl rfl)
abbrev cX0_image : ByteArray := prog_1_method_59_code
def yX0_image : MethodName := ⟨RX0, "image", "()I"⟩
def dkwX0_image_1 : List UInt8 := [180, 1, 102, 172]
abbrev dktX0_image_1 : List UInt8 := dkwX0_image_1 ++ []
def dkwX0_image_0 : List UInt8 := [42, 180, 0, 50, 42, 180, 0, 46, 182, 0, 250, 76, 42, 89, 180, 1, 102, 4, 96, 181, 1, 102, 42]
abbrev dktX0_image_0 : List UInt8 := dkwX0_image_0 ++ dktX0_image_1
theorem dksX0_image_0 : cX0_image.data.toList.drop 0 = dktX0_image_0 := by decide +kernel
theorem dksX0_image_1 : cX0_image.data.toList.drop 23 = dktX0_image_1 := dk_seg dksX0_image_0 23 rfl rfl
theorem dX0_image_0 : decode cX0_image 0 = .ok (.aload_n 0, 1) := dk_42 (dk_at dksX0_image_0 0 rfl rfl)
theorem dX0_image_1 : decode cX0_image 1 = .ok (.getfield 50, 3) := dk_180 0 50 (dk_at dksX0_image_0 1 rfl rfl)
theorem dX0_image_4 : decode cX0_image 4 = .ok (.aload_n 0, 1) := dk_42 (dk_at dksX0_image_0 4 rfl rfl)
theorem dX0_image_5 : decode cX0_image 5 = .ok (.getfield 46, 3) := dk_180 0 46 (dk_at dksX0_image_0 5 rfl rfl)
theorem dX0_image_8 : decode cX0_image 8 = .ok (.invokevirtual 250, 3) := dk_182 0 250 (dk_at dksX0_image_0 8 rfl rfl)
theorem dX0_image_11 : decode cX0_image 11 = .ok (.astore_n 1, 1) := dk_76 (dk_at dksX0_image_0 11 rfl rfl)
theorem dX0_image_12 : decode cX0_image 12 = .ok (.aload_n 0, 1) := dk_42 (dk_at dksX0_image_0 12 rfl rfl)
theorem dX0_image_13 : decode cX0_image 13 = .ok (.dup, 1) := dk_89 (dk_at dksX0_image_0 13 rfl rfl)
theorem dX0_image_14 : decode cX0_image 14 = .ok (.getfield 358, 3) := dk_180 1 102 (dk_at dksX0_image_0 14 rfl rfl)
theorem dX0_image_17 : decode cX0_image 17 = .ok (.iconst 1, 1) := dk_4 (dk_at dksX0_image_0 17 rfl rfl)
theorem dX0_image_18 : decode cX0_image 18 = .ok (.iadd, 1) := dk_96 (dk_at dksX0_image_0 18 rfl rfl)
theorem dX0_image_19 : decode cX0_image 19 = .ok (.putfield 358, 3) := dk_181 1 102 (dk_at dksX0_image_0 19 rfl rfl)
theorem dX0_image_22 : decode cX0_image 22 = .ok (.aload_n 0, 1) := dk_42 (dk_at dksX0_image_0 22 rfl rfl)
theorem dX0_image_23 : decode cX0_image 23 = .ok (.getfield 358, 3) := dk_180 1 102 (dk_at dksX0_image_1 0 rfl rfl)
theorem dX0_image_26 : decode cX0_image 26 = .ok (.ireturn, 1) := dk_172 (dk_at dksX0_image_1 3 rfl rfl)
abbrev cX0_restore : ByteArray := prog_1_method_60_code
def yX0_restore : MethodName := ⟨RX0, "restore", "()I"⟩
def dkwX0_restore_1 : List UInt8 := [180, 0, 50, 182, 0, 250, 180, 0, 227, 172, 76, 42, 43, 182, 0, 111, 172]
abbrev dktX0_restore_1 : List UInt8 := dkwX0_restore_1 ++ []
def dkwX0_restore_0 : List UInt8 := [42, 42, 180, 1, 102, 158, 0, 7, 4, 167, 0, 4, 3, 5, 182, 0, 87, 42, 180, 0, 46, 42]
abbrev dktX0_restore_0 : List UInt8 := dkwX0_restore_0 ++ dktX0_restore_1
theorem dksX0_restore_0 : cX0_restore.data.toList.drop 0 = dktX0_restore_0 := by decide +kernel
theorem dksX0_restore_1 : cX0_restore.data.toList.drop 22 = dktX0_restore_1 := dk_seg dksX0_restore_0 22 rfl rfl
theorem dX0_restore_0 : decode cX0_restore 0 = .ok (.aload_n 0, 1) := dk_42 (dk_at dksX0_restore_0 0 rfl rfl)
theorem dX0_restore_1 : decode cX0_restore 1 = .ok (.aload_n 0, 1) := dk_42 (dk_at dksX0_restore_0 1 rfl rfl)
theorem dX0_restore_2 : decode cX0_restore 2 = .ok (.getfield 358, 3) := dk_180 1 102 (dk_at dksX0_restore_0 2 rfl rfl)
theorem dX0_restore_5 : decode cX0_restore 5 = .ok (.ifCond .le 7, 3) := dk_158 0 7 (dk_at dksX0_restore_0 5 rfl rfl)
theorem dX0_restore_8 : decode cX0_restore 8 = .ok (.iconst 1, 1) := dk_4 (dk_at dksX0_restore_0 8 rfl rfl)
theorem dX0_restore_9 : decode cX0_restore 9 = .ok (.goto 4, 3) := dk_167 0 4 (dk_at dksX0_restore_0 9 rfl rfl)
theorem dX0_restore_12 : decode cX0_restore 12 = .ok (.iconst 0, 1) := dk_3 (dk_at dksX0_restore_0 12 rfl rfl)
theorem dX0_restore_13 : decode cX0_restore 13 = .ok (.iconst 2, 1) := dk_5 (dk_at dksX0_restore_0 13 rfl rfl)
theorem dX0_restore_14 : decode cX0_restore 14 = .ok (.invokevirtual 87, 3) := dk_182 0 87 (dk_at dksX0_restore_0 14 rfl rfl)
theorem dX0_restore_17 : decode cX0_restore 17 = .ok (.aload_n 0, 1) := dk_42 (dk_at dksX0_restore_0 17 rfl rfl)
theorem dX0_restore_18 : decode cX0_restore 18 = .ok (.getfield 46, 3) := dk_180 0 46 (dk_at dksX0_restore_0 18 rfl rfl)
theorem dX0_restore_21 : decode cX0_restore 21 = .ok (.aload_n 0, 1) := dk_42 (dk_at dksX0_restore_0 21 rfl rfl)
theorem dX0_restore_22 : decode cX0_restore 22 = .ok (.getfield 50, 3) := dk_180 0 50 (dk_at dksX0_restore_1 0 rfl rfl)
theorem dX0_restore_25 : decode cX0_restore 25 = .ok (.invokevirtual 250, 3) := dk_182 0 250 (dk_at dksX0_restore_1 3 rfl rfl)
theorem dX0_restore_28 : decode cX0_restore 28 = .ok (.getfield 227, 3) := dk_180 0 227 (dk_at dksX0_restore_1 6 rfl rfl)
theorem dX0_restore_31 : decode cX0_restore 31 = .ok (.ireturn, 1) := dk_172 (dk_at dksX0_restore_1 9 rfl rfl)
theorem dX0_restore_32 : decode cX0_restore 32 = .ok (.astore_n 1, 1) := dk_76 (dk_at dksX0_restore_1 10 rfl rfl)
theorem dX0_restore_33 : decode cX0_restore 33 = .ok (.aload_n 0, 1) := dk_42 (dk_at dksX0_restore_1 11 rfl rfl)
theorem dX0_restore_34 : decode cX0_restore 34 = .ok (.aload_n 1, 1) := dk_43 (dk_at dksX0_restore_1 12 rfl rfl)
theorem dX0_restore_35 : decode cX0_restore 35 = .ok (.invokevirtual 111, 3) := dk_182 0 111 (dk_at dksX0_restore_1 13 rfl rfl)
theorem dX0_restore_38 : decode cX0_restore 38 = .ok (.ireturn, 1) := dk_172 (dk_at dksX0_restore_1 16 rfl rfl)
abbrev cX0_tell : ByteArray := prog_1_method_61_code
def yX0_tell : MethodName := ⟨RX0, "tell", "(I)I"⟩
def dkwX0_tell_2 : List UInt8 := [96, 181, 1, 105, 42, 180, 0, 46, 180, 1, 105, 172, 77, 42, 44, 182, 0, 111, 172]
abbrev dktX0_tell_2 : List UInt8 := dkwX0_tell_2 ++ []
def dkwX0_tell_1 : List UInt8 := [180, 0, 46, 180, 1, 108, 42, 180, 0, 46, 180, 1, 105, 27, 79, 42, 180, 0, 46, 89, 180, 1, 105, 4]
abbrev dktX0_tell_1 : List UInt8 := dkwX0_tell_1 ++ dktX0_tell_2
def dkwX0_tell_0 : List UInt8 := [42, 42, 180, 0, 46, 180, 1, 105, 16, 20, 162, 0, 7, 4, 167, 0, 4, 3, 7, 182, 0, 87, 42]
abbrev dktX0_tell_0 : List UInt8 := dkwX0_tell_0 ++ dktX0_tell_1
theorem dksX0_tell_0 : cX0_tell.data.toList.drop 0 = dktX0_tell_0 := by decide +kernel
theorem dksX0_tell_1 : cX0_tell.data.toList.drop 23 = dktX0_tell_1 := dk_seg dksX0_tell_0 23 rfl rfl
theorem dksX0_tell_2 : cX0_tell.data.toList.drop 47 = dktX0_tell_2 := dk_seg dksX0_tell_1 24 rfl rfl
theorem dX0_tell_0 : decode cX0_tell 0 = .ok (.aload_n 0, 1) := dk_42 (dk_at dksX0_tell_0 0 rfl rfl)
theorem dX0_tell_1 : decode cX0_tell 1 = .ok (.aload_n 0, 1) := dk_42 (dk_at dksX0_tell_0 1 rfl rfl)
theorem dX0_tell_2 : decode cX0_tell 2 = .ok (.getfield 46, 3) := dk_180 0 46 (dk_at dksX0_tell_0 2 rfl rfl)
theorem dX0_tell_5 : decode cX0_tell 5 = .ok (.getfield 361, 3) := dk_180 1 105 (dk_at dksX0_tell_0 5 rfl rfl)
theorem dX0_tell_8 : decode cX0_tell 8 = .ok (.bipush 20, 2) := dk_16 20 (dk_at dksX0_tell_0 8 rfl rfl)
theorem dX0_tell_10 : decode cX0_tell 10 = .ok (.if_icmp .ge 7, 3) := dk_162 0 7 (dk_at dksX0_tell_0 10 rfl rfl)
theorem dX0_tell_13 : decode cX0_tell 13 = .ok (.iconst 1, 1) := dk_4 (dk_at dksX0_tell_0 13 rfl rfl)
theorem dX0_tell_14 : decode cX0_tell 14 = .ok (.goto 4, 3) := dk_167 0 4 (dk_at dksX0_tell_0 14 rfl rfl)
theorem dX0_tell_17 : decode cX0_tell 17 = .ok (.iconst 0, 1) := dk_3 (dk_at dksX0_tell_0 17 rfl rfl)
theorem dX0_tell_18 : decode cX0_tell 18 = .ok (.iconst 4, 1) := dk_7 (dk_at dksX0_tell_0 18 rfl rfl)
theorem dX0_tell_19 : decode cX0_tell 19 = .ok (.invokevirtual 87, 3) := dk_182 0 87 (dk_at dksX0_tell_0 19 rfl rfl)
theorem dX0_tell_22 : decode cX0_tell 22 = .ok (.aload_n 0, 1) := dk_42 (dk_at dksX0_tell_0 22 rfl rfl)
theorem dX0_tell_23 : decode cX0_tell 23 = .ok (.getfield 46, 3) := dk_180 0 46 (dk_at dksX0_tell_1 0 rfl rfl)
theorem dX0_tell_26 : decode cX0_tell 26 = .ok (.getfield 364, 3) := dk_180 1 108 (dk_at dksX0_tell_1 3 rfl rfl)
theorem dX0_tell_29 : decode cX0_tell 29 = .ok (.aload_n 0, 1) := dk_42 (dk_at dksX0_tell_1 6 rfl rfl)
theorem dX0_tell_30 : decode cX0_tell 30 = .ok (.getfield 46, 3) := dk_180 0 46 (dk_at dksX0_tell_1 7 rfl rfl)
theorem dX0_tell_33 : decode cX0_tell 33 = .ok (.getfield 361, 3) := dk_180 1 105 (dk_at dksX0_tell_1 10 rfl rfl)
theorem dX0_tell_36 : decode cX0_tell 36 = .ok (.iload_n 1, 1) := dk_27 (dk_at dksX0_tell_1 13 rfl rfl)
theorem dX0_tell_37 : decode cX0_tell 37 = .ok (.iastore, 1) := dk_79 (dk_at dksX0_tell_1 14 rfl rfl)
theorem dX0_tell_38 : decode cX0_tell 38 = .ok (.aload_n 0, 1) := dk_42 (dk_at dksX0_tell_1 15 rfl rfl)
theorem dX0_tell_39 : decode cX0_tell 39 = .ok (.getfield 46, 3) := dk_180 0 46 (dk_at dksX0_tell_1 16 rfl rfl)
theorem dX0_tell_42 : decode cX0_tell 42 = .ok (.dup, 1) := dk_89 (dk_at dksX0_tell_1 19 rfl rfl)
theorem dX0_tell_43 : decode cX0_tell 43 = .ok (.getfield 361, 3) := dk_180 1 105 (dk_at dksX0_tell_1 20 rfl rfl)
theorem dX0_tell_46 : decode cX0_tell 46 = .ok (.iconst 1, 1) := dk_4 (dk_at dksX0_tell_1 23 rfl rfl)
theorem dX0_tell_47 : decode cX0_tell 47 = .ok (.iadd, 1) := dk_96 (dk_at dksX0_tell_2 0 rfl rfl)
theorem dX0_tell_48 : decode cX0_tell 48 = .ok (.putfield 361, 3) := dk_181 1 105 (dk_at dksX0_tell_2 1 rfl rfl)
theorem dX0_tell_51 : decode cX0_tell 51 = .ok (.aload_n 0, 1) := dk_42 (dk_at dksX0_tell_2 4 rfl rfl)
theorem dX0_tell_52 : decode cX0_tell 52 = .ok (.getfield 46, 3) := dk_180 0 46 (dk_at dksX0_tell_2 5 rfl rfl)
theorem dX0_tell_55 : decode cX0_tell 55 = .ok (.getfield 361, 3) := dk_180 1 105 (dk_at dksX0_tell_2 8 rfl rfl)
theorem dX0_tell_58 : decode cX0_tell 58 = .ok (.ireturn, 1) := dk_172 (dk_at dksX0_tell_2 11 rfl rfl)
theorem dX0_tell_59 : decode cX0_tell 59 = .ok (.astore_n 2, 1) := dk_77 (dk_at dksX0_tell_2 12 rfl rfl)
theorem dX0_tell_60 : decode cX0_tell 60 = .ok (.aload_n 0, 1) := dk_42 (dk_at dksX0_tell_2 13 rfl rfl)
theorem dX0_tell_61 : decode cX0_tell 61 = .ok (.aload_n 2, 1) := dk_44 (dk_at dksX0_tell_2 14 rfl rfl)
theorem dX0_tell_62 : decode cX0_tell 62 = .ok (.invokevirtual 111, 3) := dk_182 0 111 (dk_at dksX0_tell_2 15 rfl rfl)
theorem dX0_tell_65 : decode cX0_tell 65 = .ok (.ireturn, 1) := dk_172 (dk_at dksX0_tell_2 18 rfl rfl)
abbrev cX0_check : ByteArray := prog_1_method_62_code
def yX0_check : MethodName := ⟨RX0, "check", "()I"⟩
def dkwX0_check_4 : List UInt8 := [172]
abbrev dktX0_check_4 : List UInt8 := dkwX0_check_4 ++ []
def dkwX0_check_3 : List UInt8 := [153, 0, 7, 4, 167, 0, 4, 3, 96, 61, 167, 255, 206, 29, 153, 0, 7, 3, 167, 0, 6, 4, 28, 96]
abbrev dktX0_check_3 : List UInt8 := dkwX0_check_3 ++ dktX0_check_4
def dkwX0_check_2 : List UInt8 := [28, 46, 42, 180, 0, 53, 4, 182, 0, 234, 182, 0, 238, 160, 0, 7, 4, 167, 0, 4, 3, 62, 28, 29]
abbrev dktX0_check_2 : List UInt8 := dkwX0_check_2 ++ dktX0_check_3
def dkwX0_check_1 : List UInt8 := [182, 0, 250, 87, 3, 61, 4, 62, 28, 27, 162, 0, 51, 29, 153, 0, 47, 42, 180, 0, 46, 180, 1, 108]
abbrev dktX0_check_1 : List UInt8 := dkwX0_check_1 ++ dktX0_check_2
def dkwX0_check_0 : List UInt8 := [42, 180, 0, 46, 180, 1, 105, 60, 42, 180, 0, 46, 3, 181, 1, 105, 42, 180, 0, 53, 42, 180, 0, 46]
abbrev dktX0_check_0 : List UInt8 := dkwX0_check_0 ++ dktX0_check_1
theorem dksX0_check_0 : cX0_check.data.toList.drop 0 = dktX0_check_0 := by decide +kernel
theorem dksX0_check_1 : cX0_check.data.toList.drop 24 = dktX0_check_1 := dk_seg dksX0_check_0 24 rfl rfl
theorem dksX0_check_2 : cX0_check.data.toList.drop 48 = dktX0_check_2 := dk_seg dksX0_check_1 24 rfl rfl
theorem dksX0_check_3 : cX0_check.data.toList.drop 72 = dktX0_check_3 := dk_seg dksX0_check_2 24 rfl rfl
theorem dksX0_check_4 : cX0_check.data.toList.drop 96 = dktX0_check_4 := dk_seg dksX0_check_3 24 rfl rfl
theorem dX0_check_0 : decode cX0_check 0 = .ok (.aload_n 0, 1) := dk_42 (dk_at dksX0_check_0 0 rfl rfl)
theorem dX0_check_1 : decode cX0_check 1 = .ok (.getfield 46, 3) := dk_180 0 46 (dk_at dksX0_check_0 1 rfl rfl)
theorem dX0_check_4 : decode cX0_check 4 = .ok (.getfield 361, 3) := dk_180 1 105 (dk_at dksX0_check_0 4 rfl rfl)
theorem dX0_check_7 : decode cX0_check 7 = .ok (.istore_n 1, 1) := dk_60 (dk_at dksX0_check_0 7 rfl rfl)
theorem dX0_check_8 : decode cX0_check 8 = .ok (.aload_n 0, 1) := dk_42 (dk_at dksX0_check_0 8 rfl rfl)
theorem dX0_check_9 : decode cX0_check 9 = .ok (.getfield 46, 3) := dk_180 0 46 (dk_at dksX0_check_0 9 rfl rfl)
theorem dX0_check_12 : decode cX0_check 12 = .ok (.iconst 0, 1) := dk_3 (dk_at dksX0_check_0 12 rfl rfl)
theorem dX0_check_13 : decode cX0_check 13 = .ok (.putfield 361, 3) := dk_181 1 105 (dk_at dksX0_check_0 13 rfl rfl)
theorem dX0_check_16 : decode cX0_check 16 = .ok (.aload_n 0, 1) := dk_42 (dk_at dksX0_check_0 16 rfl rfl)
theorem dX0_check_17 : decode cX0_check 17 = .ok (.getfield 53, 3) := dk_180 0 53 (dk_at dksX0_check_0 17 rfl rfl)
theorem dX0_check_20 : decode cX0_check 20 = .ok (.aload_n 0, 1) := dk_42 (dk_at dksX0_check_0 20 rfl rfl)
theorem dX0_check_21 : decode cX0_check 21 = .ok (.getfield 46, 3) := dk_180 0 46 (dk_at dksX0_check_0 21 rfl rfl)
theorem dX0_check_24 : decode cX0_check 24 = .ok (.invokevirtual 250, 3) := dk_182 0 250 (dk_at dksX0_check_1 0 rfl rfl)
theorem dX0_check_27 : decode cX0_check 27 = .ok (.pop, 1) := dk_87 (dk_at dksX0_check_1 3 rfl rfl)
theorem dX0_check_28 : decode cX0_check 28 = .ok (.iconst 0, 1) := dk_3 (dk_at dksX0_check_1 4 rfl rfl)
theorem dX0_check_29 : decode cX0_check 29 = .ok (.istore_n 2, 1) := dk_61 (dk_at dksX0_check_1 5 rfl rfl)
theorem dX0_check_30 : decode cX0_check 30 = .ok (.iconst 1, 1) := dk_4 (dk_at dksX0_check_1 6 rfl rfl)
theorem dX0_check_31 : decode cX0_check 31 = .ok (.istore_n 3, 1) := dk_62 (dk_at dksX0_check_1 7 rfl rfl)
theorem dX0_check_32 : decode cX0_check 32 = .ok (.iload_n 2, 1) := dk_28 (dk_at dksX0_check_1 8 rfl rfl)
theorem dX0_check_33 : decode cX0_check 33 = .ok (.iload_n 1, 1) := dk_27 (dk_at dksX0_check_1 9 rfl rfl)
theorem dX0_check_34 : decode cX0_check 34 = .ok (.if_icmp .ge 51, 3) := dk_162 0 51 (dk_at dksX0_check_1 10 rfl rfl)
theorem dX0_check_37 : decode cX0_check 37 = .ok (.iload_n 3, 1) := dk_29 (dk_at dksX0_check_1 13 rfl rfl)
theorem dX0_check_38 : decode cX0_check 38 = .ok (.ifCond .eq 47, 3) := dk_153 0 47 (dk_at dksX0_check_1 14 rfl rfl)
theorem dX0_check_41 : decode cX0_check 41 = .ok (.aload_n 0, 1) := dk_42 (dk_at dksX0_check_1 17 rfl rfl)
theorem dX0_check_42 : decode cX0_check 42 = .ok (.getfield 46, 3) := dk_180 0 46 (dk_at dksX0_check_1 18 rfl rfl)
theorem dX0_check_45 : decode cX0_check 45 = .ok (.getfield 364, 3) := dk_180 1 108 (dk_at dksX0_check_1 21 rfl rfl)
theorem dX0_check_48 : decode cX0_check 48 = .ok (.iload_n 2, 1) := dk_28 (dk_at dksX0_check_2 0 rfl rfl)
theorem dX0_check_49 : decode cX0_check 49 = .ok (.iaload, 1) := dk_46 (dk_at dksX0_check_2 1 rfl rfl)
theorem dX0_check_50 : decode cX0_check 50 = .ok (.aload_n 0, 1) := dk_42 (dk_at dksX0_check_2 2 rfl rfl)
theorem dX0_check_51 : decode cX0_check 51 = .ok (.getfield 53, 3) := dk_180 0 53 (dk_at dksX0_check_2 3 rfl rfl)
theorem dX0_check_54 : decode cX0_check 54 = .ok (.iconst 1, 1) := dk_4 (dk_at dksX0_check_2 6 rfl rfl)
theorem dX0_check_55 : decode cX0_check 55 = .ok (.invokevirtual 234, 3) := dk_182 0 234 (dk_at dksX0_check_2 7 rfl rfl)
theorem dX0_check_58 : decode cX0_check 58 = .ok (.invokevirtual 238, 3) := dk_182 0 238 (dk_at dksX0_check_2 10 rfl rfl)
theorem dX0_check_61 : decode cX0_check 61 = .ok (.if_icmp .ne 7, 3) := dk_160 0 7 (dk_at dksX0_check_2 13 rfl rfl)
theorem dX0_check_64 : decode cX0_check 64 = .ok (.iconst 1, 1) := dk_4 (dk_at dksX0_check_2 16 rfl rfl)
theorem dX0_check_65 : decode cX0_check 65 = .ok (.goto 4, 3) := dk_167 0 4 (dk_at dksX0_check_2 17 rfl rfl)
theorem dX0_check_68 : decode cX0_check 68 = .ok (.iconst 0, 1) := dk_3 (dk_at dksX0_check_2 20 rfl rfl)
theorem dX0_check_69 : decode cX0_check 69 = .ok (.istore_n 3, 1) := dk_62 (dk_at dksX0_check_2 21 rfl rfl)
theorem dX0_check_70 : decode cX0_check 70 = .ok (.iload_n 2, 1) := dk_28 (dk_at dksX0_check_2 22 rfl rfl)
theorem dX0_check_71 : decode cX0_check 71 = .ok (.iload_n 3, 1) := dk_29 (dk_at dksX0_check_2 23 rfl rfl)
theorem dX0_check_72 : decode cX0_check 72 = .ok (.ifCond .eq 7, 3) := dk_153 0 7 (dk_at dksX0_check_3 0 rfl rfl)
theorem dX0_check_75 : decode cX0_check 75 = .ok (.iconst 1, 1) := dk_4 (dk_at dksX0_check_3 3 rfl rfl)
theorem dX0_check_76 : decode cX0_check 76 = .ok (.goto 4, 3) := dk_167 0 4 (dk_at dksX0_check_3 4 rfl rfl)
theorem dX0_check_79 : decode cX0_check 79 = .ok (.iconst 0, 1) := dk_3 (dk_at dksX0_check_3 7 rfl rfl)
theorem dX0_check_80 : decode cX0_check 80 = .ok (.iadd, 1) := dk_96 (dk_at dksX0_check_3 8 rfl rfl)
theorem dX0_check_81 : decode cX0_check 81 = .ok (.istore_n 2, 1) := dk_61 (dk_at dksX0_check_3 9 rfl rfl)
theorem dX0_check_82 : decode cX0_check 82 = .ok (.goto (-50), 3) := dk_167 255 206 (dk_at dksX0_check_3 10 rfl rfl)
theorem dX0_check_85 : decode cX0_check 85 = .ok (.iload_n 3, 1) := dk_29 (dk_at dksX0_check_3 13 rfl rfl)
theorem dX0_check_86 : decode cX0_check 86 = .ok (.ifCond .eq 7, 3) := dk_153 0 7 (dk_at dksX0_check_3 14 rfl rfl)
theorem dX0_check_89 : decode cX0_check 89 = .ok (.iconst 0, 1) := dk_3 (dk_at dksX0_check_3 17 rfl rfl)
theorem dX0_check_90 : decode cX0_check 90 = .ok (.goto 6, 3) := dk_167 0 6 (dk_at dksX0_check_3 18 rfl rfl)
theorem dX0_check_93 : decode cX0_check 93 = .ok (.iconst 1, 1) := dk_4 (dk_at dksX0_check_3 21 rfl rfl)
theorem dX0_check_94 : decode cX0_check 94 = .ok (.iload_n 2, 1) := dk_28 (dk_at dksX0_check_3 22 rfl rfl)
theorem dX0_check_95 : decode cX0_check 95 = .ok (.iadd, 1) := dk_96 (dk_at dksX0_check_3 23 rfl rfl)
theorem dX0_check_96 : decode cX0_check 96 = .ok (.ireturn, 1) := dk_172 (dk_at dksX0_check_4 0 rfl rfl)
abbrev cX0_count : ByteArray := prog_1_method_63_code
def yX0_count : MethodName := ⟨RX0, "count", "(I)I"⟩
def dkwX0_count_6 : List UInt8 := [180, 1, 49, 172, 77, 42, 44, 182, 0, 111, 172]
abbrev dktX0_count_6 : List UInt8 := dkwX0_count_6 ++ []
def dkwX0_count_5 : List UInt8 := [180, 0, 191, 172, 42, 180, 0, 46, 180, 1, 105, 172, 42, 180, 0, 59, 180, 1, 52, 172, 42, 180, 0, 46]
abbrev dktX0_count_5 : List UInt8 := dkwX0_count_5 ++ dktX0_count_6
def dkwX0_count_4 : List UInt8 := [42, 180, 0, 46, 182, 0, 238, 172, 42, 180, 0, 46, 182, 0, 254, 184, 1, 34, 172, 42, 180, 0, 46]
abbrev dktX0_count_4 : List UInt8 := dkwX0_count_4 ++ dktX0_count_5
def dkwX0_count_3 : List UInt8 := [42, 180, 0, 46, 180, 0, 144, 172, 42, 180, 0, 46, 180, 0, 127, 172, 42, 180, 0, 46, 180, 0, 99, 172]
abbrev dktX0_count_3 : List UInt8 := dkwX0_count_3 ++ dktX0_count_4
def dkwX0_count_2 : List UInt8 := [42, 180, 0, 46, 180, 0, 93, 172, 42, 180, 0, 46, 180, 0, 96, 172, 42, 180, 0, 46, 180, 0, 227, 172]
abbrev dktX0_count_2 : List UInt8 := dkwX0_count_2 ++ dktX0_count_3
def dkwX0_count_1 : List UInt8 := [170, 0, 0, 0, 0, 0, 150, 0, 0, 0, 0, 0, 0, 0, 10, 0, 0, 0, 59, 0, 0, 0, 67, 0, 0, 0, 75, 0, 0, 0, 83, 0, 0, 0, 91, 0, 0, 0, 99, 0, 0, 0, 107, 0, 0, 0, 115, 0, 0, 0, 126, 0, 0, 0, 134, 0, 0, 0, 142]
abbrev dktX0_count_1 : List UInt8 := dkwX0_count_1 ++ dktX0_count_2
def dkwX0_count_0 : List UInt8 := [42, 27, 3, 16, 11, 184, 0, 79, 4, 182, 0, 87, 27]
abbrev dktX0_count_0 : List UInt8 := dkwX0_count_0 ++ dktX0_count_1
theorem dksX0_count_0 : cX0_count.data.toList.drop 0 = dktX0_count_0 := by decide +kernel
theorem dksX0_count_1 : cX0_count.data.toList.drop 13 = dktX0_count_1 := dk_seg dksX0_count_0 13 rfl rfl
theorem dksX0_count_2 : cX0_count.data.toList.drop 72 = dktX0_count_2 := dk_seg dksX0_count_1 59 rfl rfl
theorem dksX0_count_3 : cX0_count.data.toList.drop 96 = dktX0_count_3 := dk_seg dksX0_count_2 24 rfl rfl
theorem dksX0_count_4 : cX0_count.data.toList.drop 120 = dktX0_count_4 := dk_seg dksX0_count_3 24 rfl rfl
theorem dksX0_count_5 : cX0_count.data.toList.drop 143 = dktX0_count_5 := dk_seg dksX0_count_4 23 rfl rfl
theorem dksX0_count_6 : cX0_count.data.toList.drop 167 = dktX0_count_6 := dk_seg dksX0_count_5 24 rfl rfl
theorem dX0_count_0 : decode cX0_count 0 = .ok (.aload_n 0, 1) := dk_42 (dk_at dksX0_count_0 0 rfl rfl)
theorem dX0_count_1 : decode cX0_count 1 = .ok (.iload_n 1, 1) := dk_27 (dk_at dksX0_count_0 1 rfl rfl)
theorem dX0_count_2 : decode cX0_count 2 = .ok (.iconst 0, 1) := dk_3 (dk_at dksX0_count_0 2 rfl rfl)
theorem dX0_count_3 : decode cX0_count 3 = .ok (.bipush 11, 2) := dk_16 11 (dk_at dksX0_count_0 3 rfl rfl)
theorem dX0_count_5 : decode cX0_count 5 = .ok (.invokestatic 79, 3) := dk_184 0 79 (dk_at dksX0_count_0 5 rfl rfl)
theorem dX0_count_8 : decode cX0_count 8 = .ok (.iconst 1, 1) := dk_4 (dk_at dksX0_count_0 8 rfl rfl)
theorem dX0_count_9 : decode cX0_count 9 = .ok (.invokevirtual 87, 3) := dk_182 0 87 (dk_at dksX0_count_0 9 rfl rfl)
theorem dX0_count_12 : decode cX0_count 12 = .ok (.iload_n 1, 1) := dk_27 (dk_at dksX0_count_0 12 rfl rfl)
theorem dX0_count_13 : decode cX0_count 13 = .ok (.tableswitch 150 0 10 #[59, 67, 75, 83, 91, 99, 107, 115, 126, 134, 142], 59) := by decide +kernel
theorem dX0_count_72 : decode cX0_count 72 = .ok (.aload_n 0, 1) := dk_42 (dk_at dksX0_count_2 0 rfl rfl)
theorem dX0_count_73 : decode cX0_count 73 = .ok (.getfield 46, 3) := dk_180 0 46 (dk_at dksX0_count_2 1 rfl rfl)
theorem dX0_count_76 : decode cX0_count 76 = .ok (.getfield 93, 3) := dk_180 0 93 (dk_at dksX0_count_2 4 rfl rfl)
theorem dX0_count_79 : decode cX0_count 79 = .ok (.ireturn, 1) := dk_172 (dk_at dksX0_count_2 7 rfl rfl)
theorem dX0_count_80 : decode cX0_count 80 = .ok (.aload_n 0, 1) := dk_42 (dk_at dksX0_count_2 8 rfl rfl)
theorem dX0_count_81 : decode cX0_count 81 = .ok (.getfield 46, 3) := dk_180 0 46 (dk_at dksX0_count_2 9 rfl rfl)
theorem dX0_count_84 : decode cX0_count 84 = .ok (.getfield 96, 3) := dk_180 0 96 (dk_at dksX0_count_2 12 rfl rfl)
theorem dX0_count_87 : decode cX0_count 87 = .ok (.ireturn, 1) := dk_172 (dk_at dksX0_count_2 15 rfl rfl)
theorem dX0_count_88 : decode cX0_count 88 = .ok (.aload_n 0, 1) := dk_42 (dk_at dksX0_count_2 16 rfl rfl)
theorem dX0_count_89 : decode cX0_count 89 = .ok (.getfield 46, 3) := dk_180 0 46 (dk_at dksX0_count_2 17 rfl rfl)
theorem dX0_count_92 : decode cX0_count 92 = .ok (.getfield 227, 3) := dk_180 0 227 (dk_at dksX0_count_2 20 rfl rfl)
theorem dX0_count_95 : decode cX0_count 95 = .ok (.ireturn, 1) := dk_172 (dk_at dksX0_count_2 23 rfl rfl)
theorem dX0_count_96 : decode cX0_count 96 = .ok (.aload_n 0, 1) := dk_42 (dk_at dksX0_count_3 0 rfl rfl)
theorem dX0_count_97 : decode cX0_count 97 = .ok (.getfield 46, 3) := dk_180 0 46 (dk_at dksX0_count_3 1 rfl rfl)
theorem dX0_count_100 : decode cX0_count 100 = .ok (.getfield 144, 3) := dk_180 0 144 (dk_at dksX0_count_3 4 rfl rfl)
theorem dX0_count_103 : decode cX0_count 103 = .ok (.ireturn, 1) := dk_172 (dk_at dksX0_count_3 7 rfl rfl)
theorem dX0_count_104 : decode cX0_count 104 = .ok (.aload_n 0, 1) := dk_42 (dk_at dksX0_count_3 8 rfl rfl)
theorem dX0_count_105 : decode cX0_count 105 = .ok (.getfield 46, 3) := dk_180 0 46 (dk_at dksX0_count_3 9 rfl rfl)
theorem dX0_count_108 : decode cX0_count 108 = .ok (.getfield 127, 3) := dk_180 0 127 (dk_at dksX0_count_3 12 rfl rfl)
theorem dX0_count_111 : decode cX0_count 111 = .ok (.ireturn, 1) := dk_172 (dk_at dksX0_count_3 15 rfl rfl)
theorem dX0_count_112 : decode cX0_count 112 = .ok (.aload_n 0, 1) := dk_42 (dk_at dksX0_count_3 16 rfl rfl)
theorem dX0_count_113 : decode cX0_count 113 = .ok (.getfield 46, 3) := dk_180 0 46 (dk_at dksX0_count_3 17 rfl rfl)
theorem dX0_count_116 : decode cX0_count 116 = .ok (.getfield 99, 3) := dk_180 0 99 (dk_at dksX0_count_3 20 rfl rfl)
theorem dX0_count_119 : decode cX0_count 119 = .ok (.ireturn, 1) := dk_172 (dk_at dksX0_count_3 23 rfl rfl)
theorem dX0_count_120 : decode cX0_count 120 = .ok (.aload_n 0, 1) := dk_42 (dk_at dksX0_count_4 0 rfl rfl)
theorem dX0_count_121 : decode cX0_count 121 = .ok (.getfield 46, 3) := dk_180 0 46 (dk_at dksX0_count_4 1 rfl rfl)
theorem dX0_count_124 : decode cX0_count 124 = .ok (.invokevirtual 238, 3) := dk_182 0 238 (dk_at dksX0_count_4 4 rfl rfl)
theorem dX0_count_127 : decode cX0_count 127 = .ok (.ireturn, 1) := dk_172 (dk_at dksX0_count_4 7 rfl rfl)
theorem dX0_count_128 : decode cX0_count 128 = .ok (.aload_n 0, 1) := dk_42 (dk_at dksX0_count_4 8 rfl rfl)
theorem dX0_count_129 : decode cX0_count 129 = .ok (.getfield 46, 3) := dk_180 0 46 (dk_at dksX0_count_4 9 rfl rfl)
theorem dX0_count_132 : decode cX0_count 132 = .ok (.invokevirtual 254, 3) := dk_182 0 254 (dk_at dksX0_count_4 12 rfl rfl)
theorem dX0_count_135 : decode cX0_count 135 = .ok (.invokestatic 290, 3) := dk_184 1 34 (dk_at dksX0_count_4 15 rfl rfl)
theorem dX0_count_138 : decode cX0_count 138 = .ok (.ireturn, 1) := dk_172 (dk_at dksX0_count_4 18 rfl rfl)
theorem dX0_count_139 : decode cX0_count 139 = .ok (.aload_n 0, 1) := dk_42 (dk_at dksX0_count_4 19 rfl rfl)
theorem dX0_count_140 : decode cX0_count 140 = .ok (.getfield 46, 3) := dk_180 0 46 (dk_at dksX0_count_4 20 rfl rfl)
theorem dX0_count_143 : decode cX0_count 143 = .ok (.getfield 191, 3) := dk_180 0 191 (dk_at dksX0_count_5 0 rfl rfl)
theorem dX0_count_146 : decode cX0_count 146 = .ok (.ireturn, 1) := dk_172 (dk_at dksX0_count_5 3 rfl rfl)
theorem dX0_count_147 : decode cX0_count 147 = .ok (.aload_n 0, 1) := dk_42 (dk_at dksX0_count_5 4 rfl rfl)
theorem dX0_count_148 : decode cX0_count 148 = .ok (.getfield 46, 3) := dk_180 0 46 (dk_at dksX0_count_5 5 rfl rfl)
theorem dX0_count_151 : decode cX0_count 151 = .ok (.getfield 361, 3) := dk_180 1 105 (dk_at dksX0_count_5 8 rfl rfl)
theorem dX0_count_154 : decode cX0_count 154 = .ok (.ireturn, 1) := dk_172 (dk_at dksX0_count_5 11 rfl rfl)
theorem dX0_count_155 : decode cX0_count 155 = .ok (.aload_n 0, 1) := dk_42 (dk_at dksX0_count_5 12 rfl rfl)
theorem dX0_count_156 : decode cX0_count 156 = .ok (.getfield 59, 3) := dk_180 0 59 (dk_at dksX0_count_5 13 rfl rfl)
theorem dX0_count_159 : decode cX0_count 159 = .ok (.getfield 308, 3) := dk_180 1 52 (dk_at dksX0_count_5 16 rfl rfl)
theorem dX0_count_162 : decode cX0_count 162 = .ok (.ireturn, 1) := dk_172 (dk_at dksX0_count_5 19 rfl rfl)
theorem dX0_count_163 : decode cX0_count 163 = .ok (.aload_n 0, 1) := dk_42 (dk_at dksX0_count_5 20 rfl rfl)
theorem dX0_count_164 : decode cX0_count 164 = .ok (.getfield 46, 3) := dk_180 0 46 (dk_at dksX0_count_5 21 rfl rfl)
theorem dX0_count_167 : decode cX0_count 167 = .ok (.getfield 305, 3) := dk_180 1 49 (dk_at dksX0_count_6 0 rfl rfl)
theorem dX0_count_170 : decode cX0_count 170 = .ok (.ireturn, 1) := dk_172 (dk_at dksX0_count_6 3 rfl rfl)
theorem dX0_count_171 : decode cX0_count 171 = .ok (.astore_n 2, 1) := dk_77 (dk_at dksX0_count_6 4 rfl rfl)
theorem dX0_count_172 : decode cX0_count 172 = .ok (.aload_n 0, 1) := dk_42 (dk_at dksX0_count_6 5 rfl rfl)
theorem dX0_count_173 : decode cX0_count 173 = .ok (.aload_n 2, 1) := dk_44 (dk_at dksX0_count_6 6 rfl rfl)
theorem dX0_count_174 : decode cX0_count 174 = .ok (.invokevirtual 111, 3) := dk_182 0 111 (dk_at dksX0_count_6 7 rfl rfl)
theorem dX0_count_177 : decode cX0_count 177 = .ok (.ireturn, 1) := dk_172 (dk_at dksX0_count_6 10 rfl rfl)
abbrev cX0_told : ByteArray := prog_1_method_64_code
def yX0_told : MethodName := ⟨RX0, "told", "(I)I"⟩
def dkwX0_told_1 : List UInt8 := [172]
abbrev dktX0_told_1 : List UInt8 := dkwX0_told_1 ++ []
def dkwX0_told_0 : List UInt8 := [42, 27, 4, 8, 184, 0, 79, 4, 182, 0, 87, 42, 180, 0, 63, 27, 46, 172, 77, 42, 44, 182, 0, 111]
abbrev dktX0_told_0 : List UInt8 := dkwX0_told_0 ++ dktX0_told_1
theorem dksX0_told_0 : cX0_told.data.toList.drop 0 = dktX0_told_0 := by decide +kernel
theorem dksX0_told_1 : cX0_told.data.toList.drop 24 = dktX0_told_1 := dk_seg dksX0_told_0 24 rfl rfl
theorem dX0_told_0 : decode cX0_told 0 = .ok (.aload_n 0, 1) := dk_42 (dk_at dksX0_told_0 0 rfl rfl)
theorem dX0_told_1 : decode cX0_told 1 = .ok (.iload_n 1, 1) := dk_27 (dk_at dksX0_told_0 1 rfl rfl)
theorem dX0_told_2 : decode cX0_told 2 = .ok (.iconst 1, 1) := dk_4 (dk_at dksX0_told_0 2 rfl rfl)
theorem dX0_told_3 : decode cX0_told 3 = .ok (.iconst 5, 1) := dk_8 (dk_at dksX0_told_0 3 rfl rfl)
theorem dX0_told_4 : decode cX0_told 4 = .ok (.invokestatic 79, 3) := dk_184 0 79 (dk_at dksX0_told_0 4 rfl rfl)
theorem dX0_told_7 : decode cX0_told 7 = .ok (.iconst 1, 1) := dk_4 (dk_at dksX0_told_0 7 rfl rfl)
theorem dX0_told_8 : decode cX0_told 8 = .ok (.invokevirtual 87, 3) := dk_182 0 87 (dk_at dksX0_told_0 8 rfl rfl)
theorem dX0_told_11 : decode cX0_told 11 = .ok (.aload_n 0, 1) := dk_42 (dk_at dksX0_told_0 11 rfl rfl)
theorem dX0_told_12 : decode cX0_told 12 = .ok (.getfield 63, 3) := dk_180 0 63 (dk_at dksX0_told_0 12 rfl rfl)
theorem dX0_told_15 : decode cX0_told 15 = .ok (.iload_n 1, 1) := dk_27 (dk_at dksX0_told_0 15 rfl rfl)
theorem dX0_told_16 : decode cX0_told 16 = .ok (.iaload, 1) := dk_46 (dk_at dksX0_told_0 16 rfl rfl)
theorem dX0_told_17 : decode cX0_told 17 = .ok (.ireturn, 1) := dk_172 (dk_at dksX0_told_0 17 rfl rfl)
theorem dX0_told_18 : decode cX0_told 18 = .ok (.astore_n 2, 1) := dk_77 (dk_at dksX0_told_0 18 rfl rfl)
theorem dX0_told_19 : decode cX0_told 19 = .ok (.aload_n 0, 1) := dk_42 (dk_at dksX0_told_0 19 rfl rfl)
theorem dX0_told_20 : decode cX0_told 20 = .ok (.aload_n 2, 1) := dk_44 (dk_at dksX0_told_0 20 rfl rfl)
theorem dX0_told_21 : decode cX0_told 21 = .ok (.invokevirtual 111, 3) := dk_182 0 111 (dk_at dksX0_told_0 21 rfl rfl)
theorem dX0_told_24 : decode cX0_told 24 = .ok (.ireturn, 1) := dk_172 (dk_at dksX0_told_1 0 rfl rfl)
theorem q74 : (Jvm.Cond.initialized "OldLight") ∈ lw_all := lw_g (lw_at lw_m1 1 rfl) rfl
theorem q111 : (Jvm.Cond.instantiable "OldLight" (8 : Nat)) ∈ lw_all := lw_g (lw_at lw_m1 38 rfl) rfl
theorem q113 : (Jvm.Cond.instanceMethod ({ cls := "OldLight", name := "<init>", desc := "()V" } : Jvm.MethodName)) ∈ lw_all := lw_g (lw_at lw_m1 40 rfl) rfl
theorem q114 : (Jvm.Cond.code ({ cls := "OldLight", name := "<init>", desc := "()V" } : Jvm.MethodName) prog_1_method_5_code (2 : Nat) (Option.none : Option Jvm.ClassFile.FieldType)) ∈ lw_all := lw_g (lw_at lw_m1 41 rfl) rfl
theorem q115 : (Jvm.Cond.methodLink "OldLight" (37 : Nat) ({ cls := "java/lang/Object", name := "<init>", desc := "()V" } : Jvm.MethodName)) ∈ lw_all := lw_g (lw_at lw_m1 42 rfl) rfl
theorem q118 : (Jvm.Cond.classLink "OldLight" (8 : Nat) "OldLight$Finding") ∈ lw_all := lw_g (lw_at lw_m1 45 rfl) rfl
theorem q158 : (Jvm.Cond.methodLink "OldLight" (42 : Nat) ({ cls := "OldLight$Finding", name := "<init>", desc := "()V" } : Jvm.MethodName)) ∈ lw_all := lw_g (lw_at lw_m1 85 rfl) rfl
theorem q171 : (Jvm.Cond.fieldLinkNest "OldLight" (74 : Nat) "OldLight$Finding" "code" "I" "OldLight") ∈ lw_tbl := lw_at lw_m1 98 rfl
theorem q187 : (Jvm.Cond.classLink "OldLight" (43 : Nat) "OldLight$Bay") ∈ lw_all := lw_g (lw_at lw_m1 114 rfl) rfl
theorem q189 : (Jvm.Cond.methodLinkNest "OldLight" (45 : Nat) ({ cls := "OldLight$Bay", name := "<init>", desc := "()V" } : Jvm.MethodName) "OldLight") ∈ lw_tbl := lw_at lw_m1 116 rfl
theorem q211 : (Jvm.Cond.fieldLinkNest "OldLight" (93 : Nat) "OldLight$Bay" "cells" "I" "OldLight") ∈ lw_tbl := lw_at lw_m1 138 rfl
theorem q213 : (Jvm.Cond.fieldLinkNest "OldLight" (102 : Nat) "OldLight$Bay" "bed" "[I" "OldLight") ∈ lw_tbl := lw_at lw_m1 140 rfl
theorem q215 : (Jvm.Cond.fieldLinkNest "OldLight" (105 : Nat) "OldLight$Bay" "since" "[I" "OldLight") ∈ lw_tbl := lw_at lw_m1 142 rfl
theorem q217 : (Jvm.Cond.fieldLinkNest "OldLight" (108 : Nat) "OldLight$Bay" "till" "[I" "OldLight") ∈ lw_tbl := lw_at lw_m1 144 rfl
theorem q219 : (Jvm.Cond.fieldLinkNest "OldLight" (144 : Nat) "OldLight$Bay" "year" "I" "OldLight") ∈ lw_tbl := lw_at lw_m1 146 rfl
theorem q224 : (Jvm.Cond.fieldLinkNest "OldLight" (127 : Nat) "OldLight$Bay" "back" "I" "OldLight") ∈ lw_tbl := lw_at lw_m1 151 rfl
theorem q226 : (Jvm.Cond.fieldLinkNest "OldLight" (99 : Nat) "OldLight$Bay" "beam" "I" "OldLight") ∈ lw_tbl := lw_at lw_m1 153 rfl
theorem q228 : (Jvm.Cond.fieldLinkNest "OldLight" (227 : Nat) "OldLight$Bay" "hour" "I" "OldLight") ∈ lw_tbl := lw_at lw_m1 155 rfl
theorem q230 : (Jvm.Cond.fieldLinkNest "OldLight" (96 : Nat) "OldLight$Bay" "ships" "I" "OldLight") ∈ lw_tbl := lw_at lw_m1 157 rfl
theorem q232 : (Jvm.Cond.fieldLinkNest "OldLight" (147 : Nat) "OldLight$Bay" "ship" "[LOldLight$Ship;" "OldLight") ∈ lw_tbl := lw_at lw_m1 159 rfl
theorem q234 : (Jvm.Cond.fieldLinkNest "OldLight" (155 : Nat) "OldLight$Bay" "draft" "[I" "OldLight") ∈ lw_tbl := lw_at lw_m1 161 rfl
theorem q236 : (Jvm.Cond.fieldLinkNest "OldLight" (158 : Nat) "OldLight$Bay" "at" "[I" "OldLight") ∈ lw_tbl := lw_at lw_m1 163 rfl
theorem q238 : (Jvm.Cond.fieldLinkNest "OldLight" (161 : Nat) "OldLight$Bay" "lost" "[I" "OldLight") ∈ lw_tbl := lw_at lw_m1 165 rfl
theorem q240 : (Jvm.Cond.fieldLinkNest "OldLight" (198 : Nat) "OldLight$Bay" "text" "[LOldLight$Term;" "OldLight") ∈ lw_tbl := lw_at lw_m1 167 rfl
theorem q242 : (Jvm.Cond.fieldLinkNest "OldLight" (305 : Nat) "OldLight$Bay" "z" "I" "OldLight") ∈ lw_tbl := lw_at lw_m1 169 rfl
theorem q244 : (Jvm.Cond.fieldLinkNest "OldLight" (194 : Nat) "OldLight$Bay" "tape" "[B" "OldLight") ∈ lw_tbl := lw_at lw_m1 171 rfl
theorem q246 : (Jvm.Cond.fieldLinkNest "OldLight" (191 : Nat) "OldLight$Bay" "taped" "I" "OldLight") ∈ lw_tbl := lw_at lw_m1 173 rfl
theorem q248 : (Jvm.Cond.fieldLinkNest "OldLight" (364 : Nat) "OldLight$Bay" "waiting" "[I" "OldLight") ∈ lw_tbl := lw_at lw_m1 175 rfl
theorem q250 : (Jvm.Cond.fieldLinkNest "OldLight" (361 : Nat) "OldLight$Bay" "waits" "I" "OldLight") ∈ lw_tbl := lw_at lw_m1 177 rfl
theorem q293 : (Jvm.Cond.classLink "OldLight" (56 : Nat) "OldLight$Trace") ∈ lw_all := lw_g (lw_at lw_m1 220 rfl) rfl
theorem q295 : (Jvm.Cond.methodLinkNest "OldLight" (58 : Nat) ({ cls := "OldLight$Trace", name := "<init>", desc := "()V" } : Jvm.MethodName) "OldLight") ∈ lw_tbl := lw_at lw_m1 222 rfl
theorem q300 : (Jvm.Cond.fieldLinkNest "OldLight" (331 : Nat) "OldLight$Trace" "ran" "[I" "OldLight") ∈ lw_tbl := lw_at lw_m1 227 rfl
theorem q302 : (Jvm.Cond.fieldLinkNest "OldLight" (308 : Nat) "OldLight$Trace" "many" "I" "OldLight") ∈ lw_tbl := lw_at lw_m1 229 rfl
theorem q308 : (Jvm.Cond.classLink "OldLight" (67 : Nat) "OldLight$Shelf") ∈ lw_all := lw_g (lw_at lw_m1 235 rfl) rfl
theorem q311 : (Jvm.Cond.methodLinkNest "OldLight" (73 : Nat) ({ cls := "OldLight$Shelf", name := "<init>", desc := "()V" } : Jvm.MethodName) "OldLight") ∈ lw_tbl := lw_at lw_m1 238 rfl
theorem q315 : (Jvm.Cond.fieldLinkNest "OldLight" (83 : Nat) "OldLight$Shelf" "held" "Ljava/lang/Object;" "OldLight") ∈ lw_tbl := lw_at lw_m2 2 rfl
theorem q319 : (Jvm.Cond.fieldLink "OldLight" (1 : Nat) "OldLight" "finding" "LOldLight$Finding;") ∈ lw_all := lw_g (lw_at lw_m2 6 rfl) rfl
theorem q320 : (Jvm.Cond.fieldLink "OldLight" (46 : Nat) "OldLight" "bay" "LOldLight$Bay;") ∈ lw_all := lw_g (lw_at lw_m2 7 rfl) rfl
theorem q321 : (Jvm.Cond.fieldLink "OldLight" (50 : Nat) "OldLight" "image" "LOldLight$Bay;") ∈ lw_all := lw_g (lw_at lw_m2 8 rfl) rfl
theorem q322 : (Jvm.Cond.fieldLink "OldLight" (53 : Nat) "OldLight" "tried" "LOldLight$Bay;") ∈ lw_all := lw_g (lw_at lw_m2 9 rfl) rfl
theorem q323 : (Jvm.Cond.fieldLink "OldLight" (358 : Nat) "OldLight" "images" "I") ∈ lw_all := lw_g (lw_at lw_m2 10 rfl) rfl
theorem q324 : (Jvm.Cond.fieldLink "OldLight" (59 : Nat) "OldLight" "trace" "LOldLight$Trace;") ∈ lw_all := lw_g (lw_at lw_m2 11 rfl) rfl
theorem q325 : (Jvm.Cond.fieldLink "OldLight" (63 : Nat) "OldLight" "errors" "[I") ∈ lw_all := lw_g (lw_at lw_m2 12 rfl) rfl
theorem q326 : (Jvm.Cond.fieldLink "OldLight" (69 : Nat) "OldLight" "sheets" "[LOldLight$Shelf;") ∈ lw_all := lw_g (lw_at lw_m2 13 rfl) rfl
theorem q327 : (Jvm.Cond.laysFinal "OldLight" "OldLight" "finding" "LOldLight$Finding;") ∈ lw_all := lw_g (lw_at lw_m2 14 rfl) rfl
theorem q328 : (Jvm.Cond.soleField "OldLight" "finding") ∈ lw_all := lw_g (lw_at lw_m2 15 rfl) rfl
theorem q329 : (Jvm.Cond.laysFinal "OldLight" "OldLight" "bay" "LOldLight$Bay;") ∈ lw_all := lw_g (lw_at lw_m2 16 rfl) rfl
theorem q330 : (Jvm.Cond.soleField "OldLight" "bay") ∈ lw_all := lw_g (lw_at lw_m2 17 rfl) rfl
theorem q331 : (Jvm.Cond.laysFinal "OldLight" "OldLight" "image" "LOldLight$Bay;") ∈ lw_all := lw_g (lw_at lw_m2 18 rfl) rfl
theorem q332 : (Jvm.Cond.soleField "OldLight" "image") ∈ lw_all := lw_g (lw_at lw_m2 19 rfl) rfl
theorem q333 : (Jvm.Cond.laysFinal "OldLight" "OldLight" "tried" "LOldLight$Bay;") ∈ lw_all := lw_g (lw_at lw_m2 20 rfl) rfl
theorem q334 : (Jvm.Cond.soleField "OldLight" "tried") ∈ lw_all := lw_g (lw_at lw_m2 21 rfl) rfl
theorem q335 : (Jvm.Cond.lays "OldLight" "OldLight" "images" "I") ∈ lw_all := lw_g (lw_at lw_m2 22 rfl) rfl
theorem q336 : (Jvm.Cond.soleField "OldLight" "images") ∈ lw_all := lw_g (lw_at lw_m2 23 rfl) rfl
theorem q337 : (Jvm.Cond.laysFinal "OldLight" "OldLight" "trace" "LOldLight$Trace;") ∈ lw_all := lw_g (lw_at lw_m2 24 rfl) rfl
theorem q338 : (Jvm.Cond.soleField "OldLight" "trace") ∈ lw_all := lw_g (lw_at lw_m2 25 rfl) rfl
theorem q339 : (Jvm.Cond.laysFinal "OldLight" "OldLight" "errors" "[I") ∈ lw_all := lw_g (lw_at lw_m2 26 rfl) rfl
theorem q340 : (Jvm.Cond.soleField "OldLight" "errors") ∈ lw_all := lw_g (lw_at lw_m2 27 rfl) rfl
theorem q341 : (Jvm.Cond.laysFinal "OldLight" "OldLight" "sheets" "[LOldLight$Shelf;") ∈ lw_all := lw_g (lw_at lw_m2 28 rfl) rfl
theorem q342 : (Jvm.Cond.soleField "OldLight" "sheets") ∈ lw_all := lw_g (lw_at lw_m2 29 rfl) rfl
theorem q343 : (Jvm.Cond.superclass "OldLight" "java/lang/Object") ∈ lw_all := lw_g (lw_at lw_m2 30 rfl) rfl
theorem q345 : (Jvm.Cond.instanceMethod ({ cls := "OldLight", name := "bay", desc := "(I)I" } : Jvm.MethodName)) ∈ lw_all := lw_g (lw_at lw_m2 32 rfl) rfl
theorem q346 : (Jvm.Cond.selects "OldLight" ({ cls := "OldLight", name := "bay", desc := "(I)I" } : Jvm.MethodName) ({ cls := "OldLight", name := "bay", desc := "(I)I" } : Jvm.MethodName)) ∈ lw_all := lw_g (lw_at lw_m2 33 rfl) rfl
theorem q347 : (Jvm.Cond.codeWith ({ cls := "OldLight", name := "bay", desc := "(I)I" } : Jvm.MethodName) prog_1_method_14_code (4 : Nat) (Option.some Jvm.ClassFile.FieldType.int) [((0 : Nat), (101 : Nat), (102 : Nat), (8 : Nat))]) ∈ lw_all := lw_g (lw_at lw_m2 34 rfl) rfl
theorem q348 : (Jvm.Cond.methodLink "OldLight" (79 : Nat) ({ cls := "OldLight", name := "in", desc := "(III)Z" } : Jvm.MethodName)) ∈ lw_all := lw_g (lw_at lw_m2 35 rfl) rfl
theorem q349 : (Jvm.Cond.static ({ cls := "OldLight", name := "in", desc := "(III)Z" } : Jvm.MethodName)) ∈ lw_all := lw_g (lw_at lw_m2 36 rfl) rfl
theorem q350 : (Jvm.Cond.code ({ cls := "OldLight", name := "in", desc := "(III)Z" } : Jvm.MethodName) prog_1_method_1_code (3 : Nat) (Option.some Jvm.ClassFile.FieldType.boolean)) ∈ lw_all := lw_g (lw_at lw_m2 37 rfl) rfl
theorem q351 : (Jvm.Cond.methodLink "OldLight" (87 : Nat) ({ cls := "OldLight", name := "need", desc := "(ZI)V" } : Jvm.MethodName)) ∈ lw_all := lw_g (lw_at lw_m2 38 rfl) rfl
theorem q352 : (Jvm.Cond.privateMethod ({ cls := "OldLight", name := "need", desc := "(ZI)V" } : Jvm.MethodName)) ∈ lw_tbl := lw_at lw_m2 39 rfl
theorem q353 : (Jvm.Cond.instanceMethod ({ cls := "OldLight", name := "need", desc := "(ZI)V" } : Jvm.MethodName)) ∈ lw_all := lw_g (lw_at lw_m2 40 rfl) rfl
theorem q354 : (Jvm.Cond.code ({ cls := "OldLight", name := "need", desc := "(ZI)V" } : Jvm.MethodName) prog_1_method_3_code (3 : Nat) (Option.none : Option Jvm.ClassFile.FieldType)) ∈ lw_all := lw_g (lw_at lw_m2 41 rfl) rfl
theorem q355 : (Jvm.Cond.methodLink "OldLight" (7 : Nat) ({ cls := "OldLight$Finding", name := "of", desc := "(I)LOldLight$Finding;" } : Jvm.MethodName)) ∈ lw_all := lw_g (lw_at lw_m2 42 rfl) rfl
theorem q359 : (Jvm.Cond.methodLink "OldLight" (111 : Nat) ({ cls := "OldLight", name := "finds", desc := "(LOldLight$Finding;)I" } : Jvm.MethodName)) ∈ lw_all := lw_g (lw_at lw_m2 46 rfl) rfl
theorem q360 : (Jvm.Cond.privateMethod ({ cls := "OldLight", name := "finds", desc := "(LOldLight$Finding;)I" } : Jvm.MethodName)) ∈ lw_tbl := lw_at lw_m2 47 rfl
theorem q361 : (Jvm.Cond.instanceMethod ({ cls := "OldLight", name := "finds", desc := "(LOldLight$Finding;)I" } : Jvm.MethodName)) ∈ lw_all := lw_g (lw_at lw_m2 48 rfl) rfl
theorem q362 : (Jvm.Cond.code ({ cls := "OldLight", name := "finds", desc := "(LOldLight$Finding;)I" } : Jvm.MethodName) prog_1_method_6_code (2 : Nat) (Option.some Jvm.ClassFile.FieldType.int)) ∈ lw_all := lw_g (lw_at lw_m2 49 rfl) rfl
theorem q363 : (Jvm.Cond.constant "OldLight" (78 : Nat) (-1000000000 : Int32)) ∈ lw_all := lw_g (lw_at lw_m2 50 rfl) rfl
theorem q365 : (Jvm.Cond.instanceMethod ({ cls := "OldLight", name := "lay", desc := "(III)I" } : Jvm.MethodName)) ∈ lw_all := lw_g (lw_at lw_m2 52 rfl) rfl
theorem q366 : (Jvm.Cond.selects "OldLight" ({ cls := "OldLight", name := "lay", desc := "(III)I" } : Jvm.MethodName) ({ cls := "OldLight", name := "lay", desc := "(III)I" } : Jvm.MethodName)) ∈ lw_all := lw_g (lw_at lw_m2 53 rfl) rfl
theorem q367 : (Jvm.Cond.codeWith ({ cls := "OldLight", name := "lay", desc := "(III)I" } : Jvm.MethodName) prog_1_method_16_code (5 : Nat) (Option.some Jvm.ClassFile.FieldType.int) [((0 : Nat), (66 : Nat), (67 : Nat), (8 : Nat))]) ∈ lw_all := lw_g (lw_at lw_m2 54 rfl) rfl
theorem q368 : (Jvm.Cond.methodLink "OldLight" (115 : Nat) ({ cls := "OldLight", name := "isCell", desc := "(I)Z" } : Jvm.MethodName)) ∈ lw_all := lw_g (lw_at lw_m2 55 rfl) rfl
theorem q369 : (Jvm.Cond.privateMethod ({ cls := "OldLight", name := "isCell", desc := "(I)Z" } : Jvm.MethodName)) ∈ lw_tbl := lw_at lw_m2 56 rfl
theorem q370 : (Jvm.Cond.instanceMethod ({ cls := "OldLight", name := "isCell", desc := "(I)Z" } : Jvm.MethodName)) ∈ lw_all := lw_g (lw_at lw_m2 57 rfl) rfl
theorem q371 : (Jvm.Cond.code ({ cls := "OldLight", name := "isCell", desc := "(I)Z" } : Jvm.MethodName) prog_1_method_11_code (2 : Nat) (Option.some Jvm.ClassFile.FieldType.boolean)) ∈ lw_all := lw_g (lw_at lw_m2 58 rfl) rfl
theorem q372 : (Jvm.Cond.methodLink "OldLight" (119 : Nat) ({ cls := "OldLight", name := "cellRow", desc := "(I)[I" } : Jvm.MethodName)) ∈ lw_all := lw_g (lw_at lw_m2 59 rfl) rfl
theorem q373 : (Jvm.Cond.privateMethod ({ cls := "OldLight", name := "cellRow", desc := "(I)[I" } : Jvm.MethodName)) ∈ lw_tbl := lw_at lw_m2 60 rfl
theorem q374 : (Jvm.Cond.instanceMethod ({ cls := "OldLight", name := "cellRow", desc := "(I)[I" } : Jvm.MethodName)) ∈ lw_all := lw_g (lw_at lw_m2 61 rfl) rfl
theorem q375 : (Jvm.Cond.code ({ cls := "OldLight", name := "cellRow", desc := "(I)[I" } : Jvm.MethodName) prog_1_method_15_code (2 : Nat) (Option.some (Jvm.ClassFile.FieldType.array Jvm.ClassFile.FieldType.int))) ∈ lw_all := lw_g (lw_at lw_m2 62 rfl) rfl
theorem q377 : (Jvm.Cond.instanceMethod ({ cls := "OldLight", name := "ofCell", desc := "(II)I" } : Jvm.MethodName)) ∈ lw_all := lw_g (lw_at lw_m2 64 rfl) rfl
theorem q378 : (Jvm.Cond.selects "OldLight" ({ cls := "OldLight", name := "ofCell", desc := "(II)I" } : Jvm.MethodName) ({ cls := "OldLight", name := "ofCell", desc := "(II)I" } : Jvm.MethodName)) ∈ lw_all := lw_g (lw_at lw_m2 65 rfl) rfl
theorem q379 : (Jvm.Cond.codeWith ({ cls := "OldLight", name := "ofCell", desc := "(II)I" } : Jvm.MethodName) prog_1_method_17_code (4 : Nat) (Option.some Jvm.ClassFile.FieldType.int) [((0 : Nat), (39 : Nat), (88 : Nat), (8 : Nat)), ((40 : Nat), (87 : Nat), (88 : Nat), (8 : Nat))]) ∈ lw_all := lw_g (lw_at lw_m2 66 rfl) rfl
theorem q380 : (Jvm.Cond.methodLink "OldLight" (123 : Nat) ({ cls := "OldLight$Bay", name := "trueDepth", desc := "(I)I" } : Jvm.MethodName)) ∈ lw_all := lw_g (lw_at lw_m2 67 rfl) rfl
theorem q425 : (Jvm.Cond.methodLink "OldLight" (130 : Nat) ({ cls := "OldLight$Bay", name := "shown", desc := "(II)I" } : Jvm.MethodName)) ∈ lw_all := lw_g (lw_at lw_m2 112 rfl) rfl
theorem q430 : (Jvm.Cond.static ({ cls := "OldLight", name := "hasBit", desc := "(II)Z" } : Jvm.MethodName)) ∈ lw_all := lw_g (lw_at lw_m2 117 rfl) rfl
theorem q431 : (Jvm.Cond.code ({ cls := "OldLight", name := "hasBit", desc := "(II)Z" } : Jvm.MethodName) prog_1_method_2_code (2 : Nat) (Option.some Jvm.ClassFile.FieldType.boolean)) ∈ lw_all := lw_g (lw_at lw_m2 118 rfl) rfl
theorem q433 : (Jvm.Cond.methodLink "OldLight" (134 : Nat) ({ cls := "OldLight$Bay", name := "whoAreAt", desc := "(I)I" } : Jvm.MethodName)) ∈ lw_all := lw_g (lw_at lw_m2 120 rfl) rfl
theorem q438 : (Jvm.Cond.instanceMethod ({ cls := "OldLight", name := "set", desc := "(II)I" } : Jvm.MethodName)) ∈ lw_all := lw_g (lw_at lw_m2 125 rfl) rfl
theorem q439 : (Jvm.Cond.selects "OldLight" ({ cls := "OldLight", name := "set", desc := "(II)I" } : Jvm.MethodName) ({ cls := "OldLight", name := "set", desc := "(II)I" } : Jvm.MethodName)) ∈ lw_all := lw_g (lw_at lw_m2 126 rfl) rfl
theorem q440 : (Jvm.Cond.codeWith ({ cls := "OldLight", name := "set", desc := "(II)I" } : Jvm.MethodName) prog_1_method_19_code (4 : Nat) (Option.some Jvm.ClassFile.FieldType.int) [((0 : Nat), (134 : Nat), (135 : Nat), (8 : Nat))]) ∈ lw_all := lw_g (lw_at lw_m2 127 rfl) rfl
theorem q441 : (Jvm.Cond.methodLink "OldLight" (140 : Nat) ({ cls := "OldLight", name := "isOfBay", desc := "(II)Z" } : Jvm.MethodName)) ∈ lw_all := lw_g (lw_at lw_m2 128 rfl) rfl
theorem q442 : (Jvm.Cond.privateMethod ({ cls := "OldLight", name := "isOfBay", desc := "(II)Z" } : Jvm.MethodName)) ∈ lw_tbl := lw_at lw_m2 129 rfl
theorem q443 : (Jvm.Cond.instanceMethod ({ cls := "OldLight", name := "isOfBay", desc := "(II)Z" } : Jvm.MethodName)) ∈ lw_all := lw_g (lw_at lw_m2 130 rfl) rfl
theorem q444 : (Jvm.Cond.code ({ cls := "OldLight", name := "isOfBay", desc := "(II)Z" } : Jvm.MethodName) prog_1_method_18_code (3 : Nat) (Option.some Jvm.ClassFile.FieldType.boolean)) ∈ lw_all := lw_g (lw_at lw_m2 131 rfl) rfl
theorem q445 : (Jvm.Cond.methodLink "OldLight" (137 : Nat) ({ cls := "OldLight", name := "areCells", desc := "(I)Z" } : Jvm.MethodName)) ∈ lw_all := lw_g (lw_at lw_m2 132 rfl) rfl
theorem q446 : (Jvm.Cond.privateMethod ({ cls := "OldLight", name := "areCells", desc := "(I)Z" } : Jvm.MethodName)) ∈ lw_tbl := lw_at lw_m2 133 rfl
theorem q447 : (Jvm.Cond.instanceMethod ({ cls := "OldLight", name := "areCells", desc := "(I)Z" } : Jvm.MethodName)) ∈ lw_all := lw_g (lw_at lw_m2 134 rfl) rfl
theorem q448 : (Jvm.Cond.code ({ cls := "OldLight", name := "areCells", desc := "(I)Z" } : Jvm.MethodName) prog_1_method_13_code (2 : Nat) (Option.some Jvm.ClassFile.FieldType.boolean)) ∈ lw_all := lw_g (lw_at lw_m2 135 rfl) rfl
theorem q450 : (Jvm.Cond.instanceMethod ({ cls := "OldLight", name := "ship", desc := "(III)I" } : Jvm.MethodName)) ∈ lw_all := lw_g (lw_at lw_m2 137 rfl) rfl
theorem q451 : (Jvm.Cond.selects "OldLight" ({ cls := "OldLight", name := "ship", desc := "(III)I" } : Jvm.MethodName) ({ cls := "OldLight", name := "ship", desc := "(III)I" } : Jvm.MethodName)) ∈ lw_all := lw_g (lw_at lw_m2 138 rfl) rfl
theorem q452 : (Jvm.Cond.codeWith ({ cls := "OldLight", name := "ship", desc := "(III)I" } : Jvm.MethodName) prog_1_method_20_code (5 : Nat) (Option.some Jvm.ClassFile.FieldType.int) [((0 : Nat), (144 : Nat), (145 : Nat), (8 : Nat))]) ∈ lw_all := lw_g (lw_at lw_m2 139 rfl) rfl
theorem q453 : (Jvm.Cond.methodLink "OldLight" (151 : Nat) ({ cls := "OldLight", name := "shipOf", desc := "(ILOldLight$Trace;II)LOldLight$Ship;" } : Jvm.MethodName)) ∈ lw_all := lw_g (lw_at lw_m2 140 rfl) rfl
theorem q454 : (Jvm.Cond.static ({ cls := "OldLight", name := "shipOf", desc := "(ILOldLight$Trace;II)LOldLight$Ship;" } : Jvm.MethodName)) ∈ lw_all := lw_g (lw_at lw_m2 141 rfl) rfl
theorem q455 : (Jvm.Cond.code ({ cls := "OldLight", name := "shipOf", desc := "(ILOldLight$Trace;II)LOldLight$Ship;" } : Jvm.MethodName) prog_1_method_4_code (4 : Nat) (Option.some (Jvm.ClassFile.FieldType.object "OldLight$Ship"))) ∈ lw_all := lw_g (lw_at lw_m2 142 rfl) rfl
theorem q456 : (Jvm.Cond.classLink "OldLight" (13 : Nat) "OldLight$Collier") ∈ lw_all := lw_g (lw_at lw_m2 143 rfl) rfl
theorem q458 : (Jvm.Cond.methodLink "OldLight" (15 : Nat) ({ cls := "OldLight$Collier", name := "<init>", desc := "(LOldLight$Trace;II)V" } : Jvm.MethodName)) ∈ lw_all := lw_g (lw_at lw_m2 145 rfl) rfl
theorem q485 : (Jvm.Cond.fieldLink "OldLight" (176 : Nat) "OldLight$Ship" "m" "I") ∈ lw_all := lw_g (lw_at lw_m2 172 rfl) rfl
theorem q493 : (Jvm.Cond.classLink "OldLight" (19 : Nat) "OldLight$Rower") ∈ lw_all := lw_g (lw_at lw_m2 180 rfl) rfl
theorem q495 : (Jvm.Cond.methodLink "OldLight" (21 : Nat) ({ cls := "OldLight$Rower", name := "<init>", desc := "(LOldLight$Trace;II)V" } : Jvm.MethodName)) ∈ lw_all := lw_g (lw_at lw_m2 182 rfl) rfl
theorem q503 : (Jvm.Cond.classLink "OldLight" (22 : Nat) "OldLight$Steamer") ∈ lw_all := lw_g (lw_at lw_m2 190 rfl) rfl
theorem q505 : (Jvm.Cond.methodLink "OldLight" (24 : Nat) ({ cls := "OldLight$Steamer", name := "<init>", desc := "(LOldLight$Trace;II)V" } : Jvm.MethodName)) ∈ lw_all := lw_g (lw_at lw_m2 192 rfl) rfl
theorem q513 : (Jvm.Cond.classLink "OldLight" (25 : Nat) "OldLight$Cutter") ∈ lw_all := lw_g (lw_at lw_m2 200 rfl) rfl
theorem q515 : (Jvm.Cond.methodLink "OldLight" (27 : Nat) ({ cls := "OldLight$Cutter", name := "<init>", desc := "(LOldLight$Trace;II)V" } : Jvm.MethodName)) ∈ lw_all := lw_g (lw_at lw_m2 202 rfl) rfl
theorem q523 : (Jvm.Cond.classLink "OldLight" (28 : Nat) "OldLight$Smuggler") ∈ lw_all := lw_g (lw_at lw_m2 210 rfl) rfl
theorem q525 : (Jvm.Cond.methodLink "OldLight" (30 : Nat) ({ cls := "OldLight$Smuggler", name := "<init>", desc := "(LOldLight$Trace;II)V" } : Jvm.MethodName)) ∈ lw_all := lw_g (lw_at lw_m2 212 rfl) rfl
theorem q533 : (Jvm.Cond.classLink "OldLight" (31 : Nat) "OldLight$Ghost") ∈ lw_all := lw_g (lw_at lw_m2 220 rfl) rfl
theorem q535 : (Jvm.Cond.methodLink "OldLight" (33 : Nat) ({ cls := "OldLight$Ghost", name := "<init>", desc := "(LOldLight$Trace;II)V" } : Jvm.MethodName)) ∈ lw_all := lw_g (lw_at lw_m2 222 rfl) rfl
theorem q543 : (Jvm.Cond.classLink "OldLight" (34 : Nat) "OldLight$Ship") ∈ lw_all := lw_g (lw_at lw_m2 230 rfl) rfl
theorem q545 : (Jvm.Cond.methodLink "OldLight" (36 : Nat) ({ cls := "OldLight$Ship", name := "<init>", desc := "(LOldLight$Trace;II)V" } : Jvm.MethodName)) ∈ lw_all := lw_g (lw_at lw_m2 232 rfl) rfl
theorem q551 : (Jvm.Cond.instanceMethod ({ cls := "OldLight", name := "ofShip", desc := "(II)I" } : Jvm.MethodName)) ∈ lw_all := lw_g (lw_at lw_m2 238 rfl) rfl
theorem q552 : (Jvm.Cond.selects "OldLight" ({ cls := "OldLight", name := "ofShip", desc := "(II)I" } : Jvm.MethodName) ({ cls := "OldLight", name := "ofShip", desc := "(II)I" } : Jvm.MethodName)) ∈ lw_all := lw_g (lw_at lw_m2 239 rfl) rfl
theorem q553 : (Jvm.Cond.codeWith ({ cls := "OldLight", name := "ofShip", desc := "(II)I" } : Jvm.MethodName) prog_1_method_22_code (4 : Nat) (Option.some Jvm.ClassFile.FieldType.int) [((0 : Nat), (52 : Nat), (94 : Nat), (8 : Nat)), ((53 : Nat), (57 : Nat), (94 : Nat), (8 : Nat)), ((58 : Nat), (67 : Nat), (94 : Nat), (8 : Nat)), ((68 : Nat), (77 : Nat), (94 : Nat), (8 : Nat)), ((78 : Nat), (87 : Nat), (94 : Nat), (8 : Nat)), ((88 : Nat), (93 : Nat), (94 : Nat), (8 : Nat))]) ∈ lw_all := lw_g (lw_at lw_m3 0 rfl) rfl
theorem q554 : (Jvm.Cond.methodLink "OldLight" (168 : Nat) ({ cls := "OldLight", name := "shipAt", desc := "(IZ)LOldLight$Ship;" } : Jvm.MethodName)) ∈ lw_all := lw_g (lw_at lw_m3 1 rfl) rfl
theorem q555 : (Jvm.Cond.privateMethod ({ cls := "OldLight", name := "shipAt", desc := "(IZ)LOldLight$Ship;" } : Jvm.MethodName)) ∈ lw_tbl := lw_at lw_m3 2 rfl
theorem q556 : (Jvm.Cond.instanceMethod ({ cls := "OldLight", name := "shipAt", desc := "(IZ)LOldLight$Ship;" } : Jvm.MethodName)) ∈ lw_all := lw_g (lw_at lw_m3 3 rfl) rfl
theorem q557 : (Jvm.Cond.code ({ cls := "OldLight", name := "shipAt", desc := "(IZ)LOldLight$Ship;" } : Jvm.MethodName) prog_1_method_25_code (3 : Nat) (Option.some (Jvm.ClassFile.FieldType.object "OldLight$Ship"))) ∈ lw_all := lw_g (lw_at lw_m3 4 rfl) rfl
theorem q558 : (Jvm.Cond.methodLink "OldLight" (182 : Nat) ({ cls := "OldLight", name := "isShip", desc := "(I)Z" } : Jvm.MethodName)) ∈ lw_all := lw_g (lw_at lw_m3 5 rfl) rfl
theorem q559 : (Jvm.Cond.privateMethod ({ cls := "OldLight", name := "isShip", desc := "(I)Z" } : Jvm.MethodName)) ∈ lw_tbl := lw_at lw_m3 6 rfl
theorem q560 : (Jvm.Cond.instanceMethod ({ cls := "OldLight", name := "isShip", desc := "(I)Z" } : Jvm.MethodName)) ∈ lw_all := lw_g (lw_at lw_m3 7 rfl) rfl
theorem q561 : (Jvm.Cond.code ({ cls := "OldLight", name := "isShip", desc := "(I)Z" } : Jvm.MethodName) prog_1_method_12_code (2 : Nat) (Option.some Jvm.ClassFile.FieldType.boolean)) ∈ lw_all := lw_g (lw_at lw_m3 8 rfl) rfl
theorem q562 : (Jvm.Cond.methodLink "OldLight" (172 : Nat) ({ cls := "OldLight$Ship", name := "kind", desc := "()I" } : Jvm.MethodName)) ∈ lw_all := lw_g (lw_at lw_m3 9 rfl) rfl
theorem q585 : (Jvm.Cond.methodLink "OldLight" (179 : Nat) ({ cls := "OldLight", name := "believed", desc := "(I)I" } : Jvm.MethodName)) ∈ lw_all := lw_g (lw_at lw_m3 32 rfl) rfl
theorem q586 : (Jvm.Cond.privateMethod ({ cls := "OldLight", name := "believed", desc := "(I)I" } : Jvm.MethodName)) ∈ lw_tbl := lw_at lw_m3 33 rfl
theorem q587 : (Jvm.Cond.instanceMethod ({ cls := "OldLight", name := "believed", desc := "(I)I" } : Jvm.MethodName)) ∈ lw_all := lw_g (lw_at lw_m3 34 rfl) rfl
theorem q588 : (Jvm.Cond.code ({ cls := "OldLight", name := "believed", desc := "(I)I" } : Jvm.MethodName) prog_1_method_21_code (2 : Nat) (Option.some Jvm.ClassFile.FieldType.int)) ∈ lw_all := lw_g (lw_at lw_m3 35 rfl) rfl
theorem q589 : (Jvm.Cond.methodLink "OldLight" (164 : Nat) ({ cls := "OldLight$Ship", name := "believes", desc := "(LOldLight$Bay;I)I" } : Jvm.MethodName)) ∈ lw_all := lw_g (lw_at lw_m3 36 rfl) rfl
theorem q626 : (Jvm.Cond.instanceMethod ({ cls := "OldLight", name := "change", desc := "(III)I" } : Jvm.MethodName)) ∈ lw_all := lw_g (lw_at lw_m3 73 rfl) rfl
theorem q627 : (Jvm.Cond.selects "OldLight" ({ cls := "OldLight", name := "change", desc := "(III)I" } : Jvm.MethodName) ({ cls := "OldLight", name := "change", desc := "(III)I" } : Jvm.MethodName)) ∈ lw_all := lw_g (lw_at lw_m3 74 rfl) rfl
theorem q628 : (Jvm.Cond.codeWith ({ cls := "OldLight", name := "change", desc := "(III)I" } : Jvm.MethodName) prog_1_method_24_code (6 : Nat) (Option.some Jvm.ClassFile.FieldType.int) [((0 : Nat), (87 : Nat), (88 : Nat), (8 : Nat))]) ∈ lw_all := lw_g (lw_at lw_m3 75 rfl) rfl
theorem q629 : (Jvm.Cond.methodLink "OldLight" (185 : Nat) ({ cls := "OldLight", name := "isOfShip", desc := "(II)Z" } : Jvm.MethodName)) ∈ lw_all := lw_g (lw_at lw_m3 76 rfl) rfl
theorem q630 : (Jvm.Cond.privateMethod ({ cls := "OldLight", name := "isOfShip", desc := "(II)Z" } : Jvm.MethodName)) ∈ lw_tbl := lw_at lw_m3 77 rfl
theorem q631 : (Jvm.Cond.instanceMethod ({ cls := "OldLight", name := "isOfShip", desc := "(II)Z" } : Jvm.MethodName)) ∈ lw_all := lw_g (lw_at lw_m3 78 rfl) rfl
theorem q632 : (Jvm.Cond.code ({ cls := "OldLight", name := "isOfShip", desc := "(II)Z" } : Jvm.MethodName) prog_1_method_23_code (3 : Nat) (Option.some Jvm.ClassFile.FieldType.boolean)) ∈ lw_all := lw_g (lw_at lw_m3 79 rfl) rfl
theorem q634 : (Jvm.Cond.instanceMethod ({ cls := "OldLight", name := "become", desc := "(II)I" } : Jvm.MethodName)) ∈ lw_all := lw_g (lw_at lw_m3 81 rfl) rfl
theorem q635 : (Jvm.Cond.selects "OldLight" ({ cls := "OldLight", name := "become", desc := "(II)I" } : Jvm.MethodName) ({ cls := "OldLight", name := "become", desc := "(II)I" } : Jvm.MethodName)) ∈ lw_all := lw_g (lw_at lw_m3 82 rfl) rfl
theorem q636 : (Jvm.Cond.codeWith ({ cls := "OldLight", name := "become", desc := "(II)I" } : Jvm.MethodName) prog_1_method_26_code (4 : Nat) (Option.some Jvm.ClassFile.FieldType.int) [((0 : Nat), (42 : Nat), (43 : Nat), (8 : Nat))]) ∈ lw_all := lw_g (lw_at lw_m3 83 rfl) rfl
theorem q638 : (Jvm.Cond.instanceMethod ({ cls := "OldLight", name := "as", desc := "(II)I" } : Jvm.MethodName)) ∈ lw_all := lw_g (lw_at lw_m3 85 rfl) rfl
theorem q639 : (Jvm.Cond.selects "OldLight" ({ cls := "OldLight", name := "as", desc := "(II)I" } : Jvm.MethodName) ({ cls := "OldLight", name := "as", desc := "(II)I" } : Jvm.MethodName)) ∈ lw_all := lw_g (lw_at lw_m3 86 rfl) rfl
theorem q640 : (Jvm.Cond.codeWith ({ cls := "OldLight", name := "as", desc := "(II)I" } : Jvm.MethodName) prog_1_method_27_code (4 : Nat) (Option.some Jvm.ClassFile.FieldType.int) [((0 : Nat), (27 : Nat), (28 : Nat), (8 : Nat))]) ∈ lw_all := lw_g (lw_at lw_m3 87 rfl) rfl
theorem q641 : (Jvm.Cond.methodLink "OldLight" (188 : Nat) ({ cls := "OldLight$Ship", name := "isOf", desc := "(I)Z" } : Jvm.MethodName)) ∈ lw_all := lw_g (lw_at lw_m3 88 rfl) rfl
theorem q671 : (Jvm.Cond.instanceMethod ({ cls := "OldLight", name := "feed", desc := "(JI)I" } : Jvm.MethodName)) ∈ lw_all := lw_g (lw_at lw_m3 118 rfl) rfl
theorem q672 : (Jvm.Cond.selects "OldLight" ({ cls := "OldLight", name := "feed", desc := "(JI)I" } : Jvm.MethodName) ({ cls := "OldLight", name := "feed", desc := "(JI)I" } : Jvm.MethodName)) ∈ lw_all := lw_g (lw_at lw_m3 119 rfl) rfl
theorem q673 : (Jvm.Cond.codeWith ({ cls := "OldLight", name := "feed", desc := "(JI)I" } : Jvm.MethodName) prog_1_method_28_code (5 : Nat) (Option.some Jvm.ClassFile.FieldType.int) [((0 : Nat), (95 : Nat), (96 : Nat), (8 : Nat))]) ∈ lw_all := lw_g (lw_at lw_m3 120 rfl) rfl
theorem q675 : (Jvm.Cond.instanceMethod ({ cls := "OldLight", name := "text", desc := "(I)I" } : Jvm.MethodName)) ∈ lw_all := lw_g (lw_at lw_m3 122 rfl) rfl
theorem q676 : (Jvm.Cond.selects "OldLight" ({ cls := "OldLight", name := "text", desc := "(I)I" } : Jvm.MethodName) ({ cls := "OldLight", name := "text", desc := "(I)I" } : Jvm.MethodName)) ∈ lw_all := lw_g (lw_at lw_m3 123 rfl) rfl
theorem q677 : (Jvm.Cond.codeWith ({ cls := "OldLight", name := "text", desc := "(I)I" } : Jvm.MethodName) prog_1_method_29_code (3 : Nat) (Option.some Jvm.ClassFile.FieldType.int) [((0 : Nat), (66 : Nat), (67 : Nat), (215 : Nat)), ((0 : Nat), (66 : Nat), (76 : Nat), (8 : Nat))]) ∈ lw_all := lw_g (lw_at lw_m3 124 rfl) rfl
theorem q678 : (Jvm.Cond.classLink "OldLight" (215 : Nat) "OldLight$Fault") ∈ lw_all := lw_g (lw_at lw_m3 125 rfl) rfl
theorem q679 : (Jvm.Cond.classLink "OldLight" (202 : Nat) "OldLight$Reader") ∈ lw_all := lw_g (lw_at lw_m3 126 rfl) rfl
theorem q681 : (Jvm.Cond.stringRef "OldLight" (204 : Nat) "cyb") ∈ lw_tbl := lw_at lw_m3 128 rfl
theorem q682 : (Jvm.Cond.stringRef "OldLight" (206 : Nat) "dmh") ∈ lw_tbl := lw_at lw_m3 129 rfl
theorem q683 : (Jvm.Cond.methodLink "OldLight" (208 : Nat) ({ cls := "OldLight$Reader", name := "<init>", desc := "(Ljava/lang/String;[BI)V" } : Jvm.MethodName)) ∈ lw_all := lw_g (lw_at lw_m3 130 rfl) rfl
theorem q703 : (Jvm.Cond.methodLink "OldLight" (211 : Nat) ({ cls := "OldLight$Reader", name := "read", desc := "()LOldLight$Term;" } : Jvm.MethodName)) ∈ lw_all := lw_g (lw_at lw_m3 150 rfl) rfl
theorem q857 : (Jvm.Cond.fieldLinkNest "OldLight" (217 : Nat) "OldLight$Fault" "place" "I" "OldLight") ∈ lw_tbl := lw_at lw_m4 64 rfl
theorem q906 : (Jvm.Cond.instanceMethod ({ cls := "OldLight", name := "law", desc := "(IIII)I" } : Jvm.MethodName)) ∈ lw_all := lw_g (lw_at lw_m4 113 rfl) rfl
theorem q907 : (Jvm.Cond.selects "OldLight" ({ cls := "OldLight", name := "law", desc := "(IIII)I" } : Jvm.MethodName) ({ cls := "OldLight", name := "law", desc := "(IIII)I" } : Jvm.MethodName)) ∈ lw_all := lw_g (lw_at lw_m4 114 rfl) rfl
theorem q908 : (Jvm.Cond.codeWith ({ cls := "OldLight", name := "law", desc := "(IIII)I" } : Jvm.MethodName) prog_1_method_30_code (6 : Nat) (Option.some Jvm.ClassFile.FieldType.int) [((0 : Nat), (40 : Nat), (41 : Nat), (8 : Nat))]) ∈ lw_all := lw_g (lw_at lw_m4 115 rfl) rfl
theorem q909 : (Jvm.Cond.methodLink "OldLight" (220 : Nat) ({ cls := "OldLight$Bay", name := "depthBy", desc := "(III)I" } : Jvm.MethodName)) ∈ lw_all := lw_g (lw_at lw_m4 116 rfl) rfl
theorem q910 : (Jvm.Cond.methodLink "OldLight" (224 : Nat) ({ cls := "OldLight$Bay", name := "elseBy", desc := "(III)I" } : Jvm.MethodName)) ∈ lw_all := lw_g (lw_at lw_m4 117 rfl) rfl
theorem q915 : (Jvm.Cond.instanceMethod ({ cls := "OldLight", name := "hours", desc := "(I)I" } : Jvm.MethodName)) ∈ lw_all := lw_g (lw_at lw_m4 122 rfl) rfl
theorem q916 : (Jvm.Cond.selects "OldLight" ({ cls := "OldLight", name := "hours", desc := "(I)I" } : Jvm.MethodName) ({ cls := "OldLight", name := "hours", desc := "(I)I" } : Jvm.MethodName)) ∈ lw_all := lw_g (lw_at lw_m4 123 rfl) rfl
theorem q917 : (Jvm.Cond.codeWith ({ cls := "OldLight", name := "hours", desc := "(I)I" } : Jvm.MethodName) prog_1_method_32_code (3 : Nat) (Option.some Jvm.ClassFile.FieldType.int) [((0 : Nat), (18 : Nat), (19 : Nat), (8 : Nat))]) ∈ lw_all := lw_g (lw_at lw_m4 124 rfl) rfl
theorem q918 : (Jvm.Cond.methodLink "OldLight" (230 : Nat) ({ cls := "OldLight", name := "mustGo", desc := "(II)V" } : Jvm.MethodName)) ∈ lw_all := lw_g (lw_at lw_m4 125 rfl) rfl
theorem q919 : (Jvm.Cond.privateMethod ({ cls := "OldLight", name := "mustGo", desc := "(II)V" } : Jvm.MethodName)) ∈ lw_tbl := lw_at lw_m4 126 rfl
theorem q920 : (Jvm.Cond.instanceMethod ({ cls := "OldLight", name := "mustGo", desc := "(II)V" } : Jvm.MethodName)) ∈ lw_all := lw_g (lw_at lw_m4 127 rfl) rfl
theorem q921 : (Jvm.Cond.code ({ cls := "OldLight", name := "mustGo", desc := "(II)V" } : Jvm.MethodName) prog_1_method_31_code (3 : Nat) (Option.none : Option Jvm.ClassFile.FieldType)) ∈ lw_all := lw_g (lw_at lw_m4 128 rfl) rfl
theorem q922 : (Jvm.Cond.methodLink "OldLight" (234 : Nat) ({ cls := "OldLight$Bay", name := "goes", desc := "(I)LOldLight$Bay;" } : Jvm.MethodName)) ∈ lw_all := lw_g (lw_at lw_m4 129 rfl) rfl
theorem q940 : (Jvm.Cond.methodLink "OldLight" (238 : Nat) ({ cls := "OldLight$Bay", name := "atHome", desc := "()I" } : Jvm.MethodName)) ∈ lw_all := lw_g (lw_at lw_m4 147 rfl) rfl
theorem q945 : (Jvm.Cond.instanceMethod ({ cls := "OldLight", name := "loose", desc := "(I)I" } : Jvm.MethodName)) ∈ lw_all := lw_g (lw_at lw_m4 152 rfl) rfl
theorem q946 : (Jvm.Cond.selects "OldLight" ({ cls := "OldLight", name := "loose", desc := "(I)I" } : Jvm.MethodName) ({ cls := "OldLight", name := "loose", desc := "(I)I" } : Jvm.MethodName)) ∈ lw_all := lw_g (lw_at lw_m4 153 rfl) rfl
theorem q947 : (Jvm.Cond.codeWith ({ cls := "OldLight", name := "loose", desc := "(I)I" } : Jvm.MethodName) prog_1_method_33_code (3 : Nat) (Option.some Jvm.ClassFile.FieldType.int) [((0 : Nat), (34 : Nat), (35 : Nat), (8 : Nat))]) ∈ lw_all := lw_g (lw_at lw_m4 154 rfl) rfl
theorem q948 : (Jvm.Cond.methodLink "OldLight" (241 : Nat) ({ cls := "OldLight$Bay", name := "goesLoose", desc := "()V" } : Jvm.MethodName)) ∈ lw_all := lw_g (lw_at lw_m4 155 rfl) rfl
theorem q958 : (Jvm.Cond.instanceMethod ({ cls := "OldLight", name := "depth", desc := "(II)I" } : Jvm.MethodName)) ∈ lw_all := lw_g (lw_at lw_m4 165 rfl) rfl
theorem q959 : (Jvm.Cond.selects "OldLight" ({ cls := "OldLight", name := "depth", desc := "(II)I" } : Jvm.MethodName) ({ cls := "OldLight", name := "depth", desc := "(II)I" } : Jvm.MethodName)) ∈ lw_all := lw_g (lw_at lw_m4 166 rfl) rfl
theorem q960 : (Jvm.Cond.codeWith ({ cls := "OldLight", name := "depth", desc := "(II)I" } : Jvm.MethodName) prog_1_method_34_code (4 : Nat) (Option.some Jvm.ClassFile.FieldType.int) [((0 : Nat), (39 : Nat), (40 : Nat), (8 : Nat))]) ∈ lw_all := lw_g (lw_at lw_m4 167 rfl) rfl
theorem q961 : (Jvm.Cond.methodLink "OldLight" (244 : Nat) ({ cls := "OldLight$Bay", name := "depthIn", desc := "(II)I" } : Jvm.MethodName)) ∈ lw_all := lw_g (lw_at lw_m4 168 rfl) rfl
theorem q963 : (Jvm.Cond.instanceMethod ({ cls := "OldLight", name := "then", desc := "(III)I" } : Jvm.MethodName)) ∈ lw_all := lw_g (lw_at lw_m4 170 rfl) rfl
theorem q964 : (Jvm.Cond.selects "OldLight" ({ cls := "OldLight", name := "then", desc := "(III)I" } : Jvm.MethodName) ({ cls := "OldLight", name := "then", desc := "(III)I" } : Jvm.MethodName)) ∈ lw_all := lw_g (lw_at lw_m4 171 rfl) rfl
theorem q965 : (Jvm.Cond.codeWith ({ cls := "OldLight", name := "then", desc := "(III)I" } : Jvm.MethodName) prog_1_method_35_code (5 : Nat) (Option.some Jvm.ClassFile.FieldType.int) [((0 : Nat), (75 : Nat), (76 : Nat), (8 : Nat))]) ∈ lw_all := lw_g (lw_at lw_m4 172 rfl) rfl
theorem q966 : (Jvm.Cond.methodLink "OldLight" (247 : Nat) ({ cls := "OldLight", name := "isAhead", desc := "(I)Z" } : Jvm.MethodName)) ∈ lw_all := lw_g (lw_at lw_m4 173 rfl) rfl
theorem q967 : (Jvm.Cond.static ({ cls := "OldLight", name := "isAhead", desc := "(I)Z" } : Jvm.MethodName)) ∈ lw_all := lw_g (lw_at lw_m4 174 rfl) rfl
theorem q968 : (Jvm.Cond.code ({ cls := "OldLight", name := "isAhead", desc := "(I)Z" } : Jvm.MethodName) prog_1_method_7_code (1 : Nat) (Option.some Jvm.ClassFile.FieldType.boolean)) ∈ lw_all := lw_g (lw_at lw_m4 175 rfl) rfl
theorem q969 : (Jvm.Cond.methodLink "OldLight" (250 : Nat) ({ cls := "OldLight$Bay", name := "become", desc := "(LOldLight$Bay;)LOldLight$Bay;" } : Jvm.MethodName)) ∈ lw_all := lw_g (lw_at lw_m4 176 rfl) rfl
theorem q977 : (Jvm.Cond.instanceMethod ({ cls := "OldLight", name := "lost", desc := "(I)I" } : Jvm.MethodName)) ∈ lw_all := lw_g (lw_at lw_m4 184 rfl) rfl
theorem q978 : (Jvm.Cond.selects "OldLight" ({ cls := "OldLight", name := "lost", desc := "(I)I" } : Jvm.MethodName) ({ cls := "OldLight", name := "lost", desc := "(I)I" } : Jvm.MethodName)) ∈ lw_all := lw_g (lw_at lw_m4 185 rfl) rfl
theorem q979 : (Jvm.Cond.codeWith ({ cls := "OldLight", name := "lost", desc := "(I)I" } : Jvm.MethodName) prog_1_method_36_code (4 : Nat) (Option.some Jvm.ClassFile.FieldType.int) [((0 : Nat), (101 : Nat), (102 : Nat), (8 : Nat))]) ∈ lw_all := lw_g (lw_at lw_m4 186 rfl) rfl
theorem q980 : (Jvm.Cond.methodLink "OldLight" (254 : Nat) ({ cls := "OldLight$Bay", name := "whoAreLost", desc := "()I" } : Jvm.MethodName)) ∈ lw_all := lw_g (lw_at lw_m4 187 rfl) rfl
theorem q984 : (Jvm.Cond.methodLink "OldLight" (257 : Nat) ({ cls := "OldLight$Bay", name := "passes", desc := "()V" } : Jvm.MethodName)) ∈ lw_all := lw_g (lw_at lw_m4 191 rfl) rfl
theorem q985 : (Jvm.Cond.methodLink "OldLight" (260 : Nat) ({ cls := "java/lang/Integer", name := "numberOfTrailingZeros", desc := "(I)I" } : Jvm.MethodName)) ∈ lw_all := lw_g (lw_at lw_m4 192 rfl) rfl
theorem q990 : (Jvm.Cond.instanceMethod ({ cls := "OldLight", name := "setting", desc := "(II)I" } : Jvm.MethodName)) ∈ lw_all := lw_g (lw_at lw_m4 197 rfl) rfl
theorem q991 : (Jvm.Cond.selects "OldLight" ({ cls := "OldLight", name := "setting", desc := "(II)I" } : Jvm.MethodName) ({ cls := "OldLight", name := "setting", desc := "(II)I" } : Jvm.MethodName)) ∈ lw_all := lw_g (lw_at lw_m4 198 rfl) rfl
theorem q992 : (Jvm.Cond.codeWith ({ cls := "OldLight", name := "setting", desc := "(II)I" } : Jvm.MethodName) prog_1_method_38_code (4 : Nat) (Option.some Jvm.ClassFile.FieldType.int) [((0 : Nat), (80 : Nat), (81 : Nat), (8 : Nat))]) ∈ lw_all := lw_g (lw_at lw_m4 199 rfl) rfl
theorem q993 : (Jvm.Cond.methodLink "OldLight" (265 : Nat) ({ cls := "OldLight", name := "areInBy", desc := "(III)Z" } : Jvm.MethodName)) ∈ lw_all := lw_g (lw_at lw_m4 200 rfl) rfl
theorem q994 : (Jvm.Cond.privateMethod ({ cls := "OldLight", name := "areInBy", desc := "(III)Z" } : Jvm.MethodName)) ∈ lw_tbl := lw_at lw_m4 201 rfl
theorem q995 : (Jvm.Cond.instanceMethod ({ cls := "OldLight", name := "areInBy", desc := "(III)Z" } : Jvm.MethodName)) ∈ lw_all := lw_g (lw_at lw_m4 202 rfl) rfl
theorem q996 : (Jvm.Cond.code ({ cls := "OldLight", name := "areInBy", desc := "(III)Z" } : Jvm.MethodName) prog_1_method_37_code (4 : Nat) (Option.some Jvm.ClassFile.FieldType.boolean)) ∈ lw_all := lw_g (lw_at lw_m4 203 rfl) rfl
theorem q998 : (Jvm.Cond.instanceMethod ({ cls := "OldLight", name := "leastFalse", desc := "(I)I" } : Jvm.MethodName)) ∈ lw_all := lw_g (lw_at lw_m4 205 rfl) rfl
theorem q999 : (Jvm.Cond.selects "OldLight" ({ cls := "OldLight", name := "leastFalse", desc := "(I)I" } : Jvm.MethodName) ({ cls := "OldLight", name := "leastFalse", desc := "(I)I" } : Jvm.MethodName)) ∈ lw_all := lw_g (lw_at lw_m4 206 rfl) rfl
theorem q1000 : (Jvm.Cond.codeWith ({ cls := "OldLight", name := "leastFalse", desc := "(I)I" } : Jvm.MethodName) prog_1_method_39_code (7 : Nat) (Option.some Jvm.ClassFile.FieldType.int) [((0 : Nat), (126 : Nat), (127 : Nat), (8 : Nat))]) ∈ lw_all := lw_g (lw_at lw_m4 207 rfl) rfl
theorem q1001 : (Jvm.Cond.methodLink "OldLight" (268 : Nat) ({ cls := "java/lang/Math", name := "min", desc := "(II)I" } : Jvm.MethodName)) ∈ lw_all := lw_g (lw_at lw_m4 208 rfl) rfl
theorem q1003 : (Jvm.Cond.instanceMethod ({ cls := "OldLight", name := "which", desc := "(II)I" } : Jvm.MethodName)) ∈ lw_all := lw_g (lw_at lw_m4 210 rfl) rfl
theorem q1004 : (Jvm.Cond.selects "OldLight" ({ cls := "OldLight", name := "which", desc := "(II)I" } : Jvm.MethodName) ({ cls := "OldLight", name := "which", desc := "(II)I" } : Jvm.MethodName)) ∈ lw_all := lw_g (lw_at lw_m4 211 rfl) rfl
theorem q1005 : (Jvm.Cond.codeWith ({ cls := "OldLight", name := "which", desc := "(II)I" } : Jvm.MethodName) prog_1_method_41_code (8 : Nat) (Option.some Jvm.ClassFile.FieldType.int) [((0 : Nat), (151 : Nat), (152 : Nat), (8 : Nat))]) ∈ lw_all := lw_g (lw_at lw_m4 212 rfl) rfl
theorem q1006 : (Jvm.Cond.methodLink "OldLight" (276 : Nat) ({ cls := "OldLight", name := "isSheet", desc := "(I)Z" } : Jvm.MethodName)) ∈ lw_all := lw_g (lw_at lw_m4 213 rfl) rfl
theorem q1007 : (Jvm.Cond.static ({ cls := "OldLight", name := "isSheet", desc := "(I)Z" } : Jvm.MethodName)) ∈ lw_all := lw_g (lw_at lw_m4 214 rfl) rfl
theorem q1008 : (Jvm.Cond.code ({ cls := "OldLight", name := "isSheet", desc := "(I)Z" } : Jvm.MethodName) prog_1_method_8_code (1 : Nat) (Option.some Jvm.ClassFile.FieldType.boolean)) ∈ lw_all := lw_g (lw_at lw_m4 215 rfl) rfl
theorem q1009 : (Jvm.Cond.methodLink "OldLight" (279 : Nat) ({ cls := "OldLight", name := "sheetAt", desc := "(I)LOldLight$Sheet;" } : Jvm.MethodName)) ∈ lw_all := lw_g (lw_at lw_m4 216 rfl) rfl
theorem q1010 : (Jvm.Cond.privateMethod ({ cls := "OldLight", name := "sheetAt", desc := "(I)LOldLight$Sheet;" } : Jvm.MethodName)) ∈ lw_tbl := lw_at lw_m4 217 rfl
theorem q1011 : (Jvm.Cond.instanceMethod ({ cls := "OldLight", name := "sheetAt", desc := "(I)LOldLight$Sheet;" } : Jvm.MethodName)) ∈ lw_all := lw_g (lw_at lw_m4 218 rfl) rfl
theorem q1012 : (Jvm.Cond.code ({ cls := "OldLight", name := "sheetAt", desc := "(I)LOldLight$Sheet;" } : Jvm.MethodName) prog_1_method_10_code (2 : Nat) (Option.some (Jvm.ClassFile.FieldType.object "OldLight$Sheet"))) ∈ lw_all := lw_g (lw_at lw_m4 219 rfl) rfl
theorem q1013 : (Jvm.Cond.classLink "OldLight" (91 : Nat) "OldLight$Sheet") ∈ lw_all := lw_g (lw_at lw_m4 220 rfl) rfl
theorem q1014 : (Jvm.Cond.methodLink "OldLight" (283 : Nat) ({ cls := "OldLight$Sheet", name := "size", desc := "()I" } : Jvm.MethodName)) ∈ lw_all := lw_g (lw_at lw_m4 221 rfl) rfl
theorem q1026 : (Jvm.Cond.methodLink "OldLight" (286 : Nat) ({ cls := "OldLight", name := "isShownSo", desc := "(LOldLight$Sheet;I)Z" } : Jvm.MethodName)) ∈ lw_all := lw_g (lw_at lw_m4 233 rfl) rfl
theorem q1027 : (Jvm.Cond.privateMethod ({ cls := "OldLight", name := "isShownSo", desc := "(LOldLight$Sheet;I)Z" } : Jvm.MethodName)) ∈ lw_tbl := lw_at lw_m4 234 rfl
theorem q1028 : (Jvm.Cond.instanceMethod ({ cls := "OldLight", name := "isShownSo", desc := "(LOldLight$Sheet;I)Z" } : Jvm.MethodName)) ∈ lw_all := lw_g (lw_at lw_m4 235 rfl) rfl
theorem q1029 : (Jvm.Cond.code ({ cls := "OldLight", name := "isShownSo", desc := "(LOldLight$Sheet;I)Z" } : Jvm.MethodName) prog_1_method_40_code (5 : Nat) (Option.some Jvm.ClassFile.FieldType.boolean)) ∈ lw_all := lw_g (lw_at lw_m4 236 rfl) rfl
theorem q1030 : (Jvm.Cond.methodLink "OldLight" (273 : Nat) ({ cls := "OldLight$Sheet", name := "get", desc := "(I)I" } : Jvm.MethodName)) ∈ lw_all := lw_g (lw_at lw_m4 237 rfl) rfl
theorem q1043 : (Jvm.Cond.instanceMethod ({ cls := "OldLight", name := "struck", desc := "(I)I" } : Jvm.MethodName)) ∈ lw_all := lw_g (lw_at lw_m5 10 rfl) rfl
theorem q1044 : (Jvm.Cond.selects "OldLight" ({ cls := "OldLight", name := "struck", desc := "(I)I" } : Jvm.MethodName) ({ cls := "OldLight", name := "struck", desc := "(I)I" } : Jvm.MethodName)) ∈ lw_all := lw_g (lw_at lw_m5 11 rfl) rfl
theorem q1045 : (Jvm.Cond.codeWith ({ cls := "OldLight", name := "struck", desc := "(I)I" } : Jvm.MethodName) prog_1_method_42_code (3 : Nat) (Option.some Jvm.ClassFile.FieldType.int) [((0 : Nat), (43 : Nat), (44 : Nat), (8 : Nat))]) ∈ lw_all := lw_g (lw_at lw_m5 12 rfl) rfl
theorem q1047 : (Jvm.Cond.instanceMethod ({ cls := "OldLight", name := "dark", desc := "(I)I" } : Jvm.MethodName)) ∈ lw_all := lw_g (lw_at lw_m5 14 rfl) rfl
theorem q1048 : (Jvm.Cond.selects "OldLight" ({ cls := "OldLight", name := "dark", desc := "(I)I" } : Jvm.MethodName) ({ cls := "OldLight", name := "dark", desc := "(I)I" } : Jvm.MethodName)) ∈ lw_all := lw_g (lw_at lw_m5 15 rfl) rfl
theorem q1049 : (Jvm.Cond.codeWith ({ cls := "OldLight", name := "dark", desc := "(I)I" } : Jvm.MethodName) prog_1_method_44_code (5 : Nat) (Option.some Jvm.ClassFile.FieldType.int) [((0 : Nat), (106 : Nat), (107 : Nat), (8 : Nat))]) ∈ lw_all := lw_g (lw_at lw_m5 16 rfl) rfl
theorem q1050 : (Jvm.Cond.methodLink "OldLight" (290 : Nat) ({ cls := "java/lang/Integer", name := "bitCount", desc := "(I)I" } : Jvm.MethodName)) ∈ lw_all := lw_g (lw_at lw_m5 17 rfl) rfl
theorem q1056 : (Jvm.Cond.methodLink "OldLight" (293 : Nat) ({ cls := "OldLight", name := "isSafeWithout", desc := "(II)Z" } : Jvm.MethodName)) ∈ lw_all := lw_g (lw_at lw_m5 23 rfl) rfl
theorem q1057 : (Jvm.Cond.privateMethod ({ cls := "OldLight", name := "isSafeWithout", desc := "(II)Z" } : Jvm.MethodName)) ∈ lw_tbl := lw_at lw_m5 24 rfl
theorem q1058 : (Jvm.Cond.instanceMethod ({ cls := "OldLight", name := "isSafeWithout", desc := "(II)Z" } : Jvm.MethodName)) ∈ lw_all := lw_g (lw_at lw_m5 25 rfl) rfl
theorem q1059 : (Jvm.Cond.code ({ cls := "OldLight", name := "isSafeWithout", desc := "(II)Z" } : Jvm.MethodName) prog_1_method_43_code (3 : Nat) (Option.some Jvm.ClassFile.FieldType.boolean)) ∈ lw_all := lw_g (lw_at lw_m5 26 rfl) rfl
theorem q1061 : (Jvm.Cond.instanceMethod ({ cls := "OldLight", name := "deep", desc := "(II)I" } : Jvm.MethodName)) ∈ lw_all := lw_g (lw_at lw_m5 28 rfl) rfl
theorem q1062 : (Jvm.Cond.selects "OldLight" ({ cls := "OldLight", name := "deep", desc := "(II)I" } : Jvm.MethodName) ({ cls := "OldLight", name := "deep", desc := "(II)I" } : Jvm.MethodName)) ∈ lw_all := lw_g (lw_at lw_m5 29 rfl) rfl
theorem q1063 : (Jvm.Cond.codeWith ({ cls := "OldLight", name := "deep", desc := "(II)I" } : Jvm.MethodName) prog_1_method_45_code (4 : Nat) (Option.some Jvm.ClassFile.FieldType.int) [((0 : Nat), (80 : Nat), (81 : Nat), (8 : Nat))]) ∈ lw_all := lw_g (lw_at lw_m5 30 rfl) rfl
theorem q1065 : (Jvm.Cond.instanceMethod ({ cls := "OldLight", name := "draws", desc := "(I)I" } : Jvm.MethodName)) ∈ lw_all := lw_g (lw_at lw_m5 32 rfl) rfl
theorem q1066 : (Jvm.Cond.selects "OldLight" ({ cls := "OldLight", name := "draws", desc := "(I)I" } : Jvm.MethodName) ({ cls := "OldLight", name := "draws", desc := "(I)I" } : Jvm.MethodName)) ∈ lw_all := lw_g (lw_at lw_m5 33 rfl) rfl
theorem q1067 : (Jvm.Cond.codeWith ({ cls := "OldLight", name := "draws", desc := "(I)I" } : Jvm.MethodName) prog_1_method_47_code (3 : Nat) (Option.some Jvm.ClassFile.FieldType.int) [((0 : Nat), (69 : Nat), (70 : Nat), (8 : Nat))]) ∈ lw_all := lw_g (lw_at lw_m5 34 rfl) rfl
theorem q1068 : (Jvm.Cond.methodLink "OldLight" (296 : Nat) ({ cls := "OldLight", name := "isInWith", desc := "(II)Z" } : Jvm.MethodName)) ∈ lw_all := lw_g (lw_at lw_m5 35 rfl) rfl
theorem q1069 : (Jvm.Cond.privateMethod ({ cls := "OldLight", name := "isInWith", desc := "(II)Z" } : Jvm.MethodName)) ∈ lw_tbl := lw_at lw_m5 36 rfl
theorem q1070 : (Jvm.Cond.instanceMethod ({ cls := "OldLight", name := "isInWith", desc := "(II)Z" } : Jvm.MethodName)) ∈ lw_all := lw_g (lw_at lw_m5 37 rfl) rfl
theorem q1071 : (Jvm.Cond.code ({ cls := "OldLight", name := "isInWith", desc := "(II)Z" } : Jvm.MethodName) prog_1_method_46_code (3 : Nat) (Option.some Jvm.ClassFile.FieldType.boolean)) ∈ lw_all := lw_g (lw_at lw_m5 38 rfl) rfl
theorem q1073 : (Jvm.Cond.instanceMethod ({ cls := "OldLight", name := "traffic", desc := "(II)I" } : Jvm.MethodName)) ∈ lw_all := lw_g (lw_at lw_m5 40 rfl) rfl
theorem q1074 : (Jvm.Cond.selects "OldLight" ({ cls := "OldLight", name := "traffic", desc := "(II)I" } : Jvm.MethodName) ({ cls := "OldLight", name := "traffic", desc := "(II)I" } : Jvm.MethodName)) ∈ lw_all := lw_g (lw_at lw_m5 41 rfl) rfl
theorem q1075 : (Jvm.Cond.codeWith ({ cls := "OldLight", name := "traffic", desc := "(II)I" } : Jvm.MethodName) prog_1_method_48_code (7 : Nat) (Option.some Jvm.ClassFile.FieldType.int) [((0 : Nat), (125 : Nat), (126 : Nat), (8 : Nat))]) ∈ lw_all := lw_g (lw_at lw_m5 42 rfl) rfl
theorem q1076 : (Jvm.Cond.methodLink "OldLight" (299 : Nat) ({ cls := "java/lang/Math", name := "max", desc := "(II)I" } : Jvm.MethodName)) ∈ lw_all := lw_g (lw_at lw_m5 43 rfl) rfl
theorem q1078 : (Jvm.Cond.instanceMethod ({ cls := "OldLight", name := "odds", desc := "(III)I" } : Jvm.MethodName)) ∈ lw_all := lw_g (lw_at lw_m5 45 rfl) rfl
theorem q1079 : (Jvm.Cond.selects "OldLight" ({ cls := "OldLight", name := "odds", desc := "(III)I" } : Jvm.MethodName) ({ cls := "OldLight", name := "odds", desc := "(III)I" } : Jvm.MethodName)) ∈ lw_all := lw_g (lw_at lw_m5 46 rfl) rfl
theorem q1080 : (Jvm.Cond.codeWith ({ cls := "OldLight", name := "odds", desc := "(III)I" } : Jvm.MethodName) prog_1_method_50_code (6 : Nat) (Option.some Jvm.ClassFile.FieldType.int) [((0 : Nat), (102 : Nat), (103 : Nat), (8 : Nat))]) ∈ lw_all := lw_g (lw_at lw_m5 47 rfl) rfl
theorem q1081 : (Jvm.Cond.methodLink "OldLight" (302 : Nat) ({ cls := "OldLight", name := "common", desc := "(II)I" } : Jvm.MethodName)) ∈ lw_all := lw_g (lw_at lw_m5 48 rfl) rfl
theorem q1082 : (Jvm.Cond.static ({ cls := "OldLight", name := "common", desc := "(II)I" } : Jvm.MethodName)) ∈ lw_all := lw_g (lw_at lw_m5 49 rfl) rfl
theorem q1083 : (Jvm.Cond.code ({ cls := "OldLight", name := "common", desc := "(II)I" } : Jvm.MethodName) prog_1_method_49_code (5 : Nat) (Option.some Jvm.ClassFile.FieldType.int)) ∈ lw_all := lw_g (lw_at lw_m5 50 rfl) rfl
theorem q1085 : (Jvm.Cond.instanceMethod ({ cls := "OldLight", name := "seed", desc := "(I)I" } : Jvm.MethodName)) ∈ lw_all := lw_g (lw_at lw_m5 52 rfl) rfl
theorem q1086 : (Jvm.Cond.selects "OldLight" ({ cls := "OldLight", name := "seed", desc := "(I)I" } : Jvm.MethodName) ({ cls := "OldLight", name := "seed", desc := "(I)I" } : Jvm.MethodName)) ∈ lw_all := lw_g (lw_at lw_m5 53 rfl) rfl
theorem q1087 : (Jvm.Cond.code ({ cls := "OldLight", name := "seed", desc := "(I)I" } : Jvm.MethodName) prog_1_method_51_code (3 : Nat) (Option.some Jvm.ClassFile.FieldType.int)) ∈ lw_all := lw_g (lw_at lw_m5 54 rfl) rfl
theorem q1089 : (Jvm.Cond.instanceMethod ({ cls := "OldLight", name := "voice", desc := "(III)I" } : Jvm.MethodName)) ∈ lw_all := lw_g (lw_at lw_m5 56 rfl) rfl
theorem q1090 : (Jvm.Cond.selects "OldLight" ({ cls := "OldLight", name := "voice", desc := "(III)I" } : Jvm.MethodName) ({ cls := "OldLight", name := "voice", desc := "(III)I" } : Jvm.MethodName)) ∈ lw_all := lw_g (lw_at lw_m5 57 rfl) rfl
theorem q1091 : (Jvm.Cond.codeWith ({ cls := "OldLight", name := "voice", desc := "(III)I" } : Jvm.MethodName) prog_1_method_52_code (5 : Nat) (Option.some Jvm.ClassFile.FieldType.int) [((0 : Nat), (56 : Nat), (84 : Nat), (8 : Nat)), ((57 : Nat), (65 : Nat), (84 : Nat), (8 : Nat)), ((66 : Nat), (74 : Nat), (84 : Nat), (8 : Nat)), ((75 : Nat), (83 : Nat), (84 : Nat), (8 : Nat))]) ∈ lw_all := lw_g (lw_at lw_m5 58 rfl) rfl
theorem q1092 : (Jvm.Cond.interfaceEntry "OldLight" (311 : Nat)) ∈ lw_tbl := lw_at lw_m5 59 rfl
theorem q1093 : (Jvm.Cond.methodLink "OldLight" (311 : Nat) ({ cls := "OldLight$Sails", name := "sails", desc := "(I)I" } : Jvm.MethodName)) ∈ lw_all := lw_g (lw_at lw_m5 60 rfl) rfl
theorem q1129 : (Jvm.Cond.interfaceEntry "OldLight" (316 : Nat)) ∈ lw_tbl := lw_at lw_m5 96 rfl
theorem q1130 : (Jvm.Cond.methodLink "OldLight" (316 : Nat) ({ cls := "OldLight$Steers", name := "steers", desc := "(I)I" } : Jvm.MethodName)) ∈ lw_all := lw_g (lw_at lw_m5 97 rfl) rfl
theorem q1175 : (Jvm.Cond.interfaceEntry "OldLight" (321 : Nat)) ∈ lw_tbl := lw_at lw_m5 142 rfl
theorem q1176 : (Jvm.Cond.methodLink "OldLight" (321 : Nat) ({ cls := "OldLight$Sounds", name := "sounds", desc := "(I)I" } : Jvm.MethodName)) ∈ lw_all := lw_g (lw_at lw_m5 143 rfl) rfl
theorem q1211 : (Jvm.Cond.interfaceEntry "OldLight" (326 : Nat)) ∈ lw_tbl := lw_at lw_m5 178 rfl
theorem q1212 : (Jvm.Cond.methodLink "OldLight" (326 : Nat) ({ cls := "OldLight$Logs", name := "logs", desc := "(I)I" } : Jvm.MethodName)) ∈ lw_all := lw_g (lw_at lw_m5 179 rfl) rfl
theorem q1262 : (Jvm.Cond.instanceMethod ({ cls := "OldLight", name := "trace", desc := "(I)I" } : Jvm.MethodName)) ∈ lw_all := lw_g (lw_at lw_m5 229 rfl) rfl
theorem q1263 : (Jvm.Cond.selects "OldLight" ({ cls := "OldLight", name := "trace", desc := "(I)I" } : Jvm.MethodName) ({ cls := "OldLight", name := "trace", desc := "(I)I" } : Jvm.MethodName)) ∈ lw_all := lw_g (lw_at lw_m5 230 rfl) rfl
theorem q1264 : (Jvm.Cond.codeWith ({ cls := "OldLight", name := "trace", desc := "(I)I" } : Jvm.MethodName) prog_1_method_53_code (3 : Nat) (Option.some Jvm.ClassFile.FieldType.int) [((0 : Nat), (28 : Nat), (29 : Nat), (8 : Nat))]) ∈ lw_all := lw_g (lw_at lw_m5 231 rfl) rfl
theorem q1266 : (Jvm.Cond.instanceMethod ({ cls := "OldLight", name := "beds", desc := "(I)I" } : Jvm.MethodName)) ∈ lw_all := lw_g (lw_at lw_m5 233 rfl) rfl
theorem q1267 : (Jvm.Cond.selects "OldLight" ({ cls := "OldLight", name := "beds", desc := "(I)I" } : Jvm.MethodName) ({ cls := "OldLight", name := "beds", desc := "(I)I" } : Jvm.MethodName)) ∈ lw_all := lw_g (lw_at lw_m5 234 rfl) rfl
theorem q1268 : (Jvm.Cond.codeWith ({ cls := "OldLight", name := "beds", desc := "(I)I" } : Jvm.MethodName) prog_1_method_54_code (4 : Nat) (Option.some Jvm.ClassFile.FieldType.int) [((0 : Nat), (68 : Nat), (69 : Nat), (8 : Nat))]) ∈ lw_all := lw_g (lw_at lw_m5 235 rfl) rfl
theorem q1270 : (Jvm.Cond.instanceMethod ({ cls := "OldLight", name := "judge", desc := "(I)I" } : Jvm.MethodName)) ∈ lw_all := lw_g (lw_at lw_m5 237 rfl) rfl
theorem q1271 : (Jvm.Cond.selects "OldLight" ({ cls := "OldLight", name := "judge", desc := "(I)I" } : Jvm.MethodName) ({ cls := "OldLight", name := "judge", desc := "(I)I" } : Jvm.MethodName)) ∈ lw_all := lw_g (lw_at lw_m5 238 rfl) rfl
theorem q1272 : (Jvm.Cond.codeWith ({ cls := "OldLight", name := "judge", desc := "(I)I" } : Jvm.MethodName) prog_1_method_55_code (4 : Nat) (Option.some Jvm.ClassFile.FieldType.int) [((0 : Nat), (80 : Nat), (81 : Nat), (8 : Nat))]) ∈ lw_all := lw_g (lw_at lw_m5 239 rfl) rfl
theorem q1274 : (Jvm.Cond.instanceMethod ({ cls := "OldLight", name := "sheet", desc := "(III)I" } : Jvm.MethodName)) ∈ lw_all := lw_g (lw_at lw_m6 1 rfl) rfl
theorem q1275 : (Jvm.Cond.selects "OldLight" ({ cls := "OldLight", name := "sheet", desc := "(III)I" } : Jvm.MethodName) ({ cls := "OldLight", name := "sheet", desc := "(III)I" } : Jvm.MethodName)) ∈ lw_all := lw_g (lw_at lw_m6 2 rfl) rfl
theorem q1276 : (Jvm.Cond.codeWith ({ cls := "OldLight", name := "sheet", desc := "(III)I" } : Jvm.MethodName) prog_1_method_56_code (5 : Nat) (Option.some Jvm.ClassFile.FieldType.int) [((0 : Nat), (43 : Nat), (127 : Nat), (8 : Nat)), ((44 : Nat), (126 : Nat), (127 : Nat), (8 : Nat))]) ∈ lw_all := lw_g (lw_at lw_m6 3 rfl) rfl
theorem q1277 : (Jvm.Cond.methodLink "OldLight" (334 : Nat) ({ cls := "OldLight", name := "isWidth", desc := "(I)Z" } : Jvm.MethodName)) ∈ lw_all := lw_g (lw_at lw_m6 4 rfl) rfl
theorem q1278 : (Jvm.Cond.static ({ cls := "OldLight", name := "isWidth", desc := "(I)Z" } : Jvm.MethodName)) ∈ lw_all := lw_g (lw_at lw_m6 5 rfl) rfl
theorem q1279 : (Jvm.Cond.code ({ cls := "OldLight", name := "isWidth", desc := "(I)Z" } : Jvm.MethodName) prog_1_method_9_code (1 : Nat) (Option.some Jvm.ClassFile.FieldType.boolean)) ∈ lw_all := lw_g (lw_at lw_m6 6 rfl) rfl
theorem q1280 : (Jvm.Cond.classLink "OldLight" (337 : Nat) "OldLight$Bytes") ∈ lw_all := lw_g (lw_at lw_m6 7 rfl) rfl
theorem q1282 : (Jvm.Cond.methodLink "OldLight" (339 : Nat) ({ cls := "OldLight$Bytes", name := "<init>", desc := "(I)V" } : Jvm.MethodName)) ∈ lw_all := lw_g (lw_at lw_m6 9 rfl) rfl
theorem q1293 : (Jvm.Cond.classLink "OldLight" (342 : Nat) "OldLight$Shorts") ∈ lw_all := lw_g (lw_at lw_m6 20 rfl) rfl
theorem q1295 : (Jvm.Cond.methodLink "OldLight" (344 : Nat) ({ cls := "OldLight$Shorts", name := "<init>", desc := "(I)V" } : Jvm.MethodName)) ∈ lw_all := lw_g (lw_at lw_m6 22 rfl) rfl
theorem q1304 : (Jvm.Cond.classLink "OldLight" (345 : Nat) "OldLight$Ints") ∈ lw_all := lw_g (lw_at lw_m6 31 rfl) rfl
theorem q1306 : (Jvm.Cond.methodLink "OldLight" (347 : Nat) ({ cls := "OldLight$Ints", name := "<init>", desc := "(I)V" } : Jvm.MethodName)) ∈ lw_all := lw_g (lw_at lw_m6 33 rfl) rfl
theorem q1315 : (Jvm.Cond.instanceMethod ({ cls := "OldLight", name := "put", desc := "(III)I" } : Jvm.MethodName)) ∈ lw_all := lw_g (lw_at lw_m6 42 rfl) rfl
theorem q1316 : (Jvm.Cond.selects "OldLight" ({ cls := "OldLight", name := "put", desc := "(III)I" } : Jvm.MethodName) ({ cls := "OldLight", name := "put", desc := "(III)I" } : Jvm.MethodName)) ∈ lw_all := lw_g (lw_at lw_m6 43 rfl) rfl
theorem q1317 : (Jvm.Cond.codeWith ({ cls := "OldLight", name := "put", desc := "(III)I" } : Jvm.MethodName) prog_1_method_57_code (5 : Nat) (Option.some Jvm.ClassFile.FieldType.int) [((0 : Nat), (41 : Nat), (42 : Nat), (8 : Nat))]) ∈ lw_all := lw_g (lw_at lw_m6 44 rfl) rfl
theorem q1318 : (Jvm.Cond.methodLink "OldLight" (348 : Nat) ({ cls := "OldLight$Sheet", name := "put", desc := "(II)V" } : Jvm.MethodName)) ∈ lw_all := lw_g (lw_at lw_m6 45 rfl) rfl
theorem q1331 : (Jvm.Cond.instanceMethod ({ cls := "OldLight", name := "move", desc := "(IIIII)I" } : Jvm.MethodName)) ∈ lw_all := lw_g (lw_at lw_m6 58 rfl) rfl
theorem q1332 : (Jvm.Cond.selects "OldLight" ({ cls := "OldLight", name := "move", desc := "(IIIII)I" } : Jvm.MethodName) ({ cls := "OldLight", name := "move", desc := "(IIIII)I" } : Jvm.MethodName)) ∈ lw_all := lw_g (lw_at lw_m6 59 rfl) rfl
theorem q1333 : (Jvm.Cond.codeWith ({ cls := "OldLight", name := "move", desc := "(IIIII)I" } : Jvm.MethodName) prog_1_method_58_code (10 : Nat) (Option.some Jvm.ClassFile.FieldType.int) [((0 : Nat), (152 : Nat), (153 : Nat), (8 : Nat))]) ∈ lw_all := lw_g (lw_at lw_m6 60 rfl) rfl
theorem q1334 : (Jvm.Cond.methodLink "OldLight" (351 : Nat) ({ cls := "OldLight$Sheet", name := "width", desc := "()I" } : Jvm.MethodName)) ∈ lw_all := lw_g (lw_at lw_m6 61 rfl) rfl
theorem q1346 : (Jvm.Cond.methodLink "OldLight" (354 : Nat) ({ cls := "OldLight$Sheet", name := "row", desc := "()[I" } : Jvm.MethodName)) ∈ lw_all := lw_g (lw_at lw_m6 73 rfl) rfl
theorem q1356 : (Jvm.Cond.instanceMethod ({ cls := "OldLight", name := "image", desc := "()I" } : Jvm.MethodName)) ∈ lw_all := lw_g (lw_at lw_m6 83 rfl) rfl
theorem q1357 : (Jvm.Cond.selects "OldLight" ({ cls := "OldLight", name := "image", desc := "()I" } : Jvm.MethodName) ({ cls := "OldLight", name := "image", desc := "()I" } : Jvm.MethodName)) ∈ lw_all := lw_g (lw_at lw_m6 84 rfl) rfl
theorem q1358 : (Jvm.Cond.code ({ cls := "OldLight", name := "image", desc := "()I" } : Jvm.MethodName) prog_1_method_59_code (2 : Nat) (Option.some Jvm.ClassFile.FieldType.int)) ∈ lw_all := lw_g (lw_at lw_m6 85 rfl) rfl
theorem q1360 : (Jvm.Cond.instanceMethod ({ cls := "OldLight", name := "restore", desc := "()I" } : Jvm.MethodName)) ∈ lw_all := lw_g (lw_at lw_m6 87 rfl) rfl
theorem q1361 : (Jvm.Cond.selects "OldLight" ({ cls := "OldLight", name := "restore", desc := "()I" } : Jvm.MethodName) ({ cls := "OldLight", name := "restore", desc := "()I" } : Jvm.MethodName)) ∈ lw_all := lw_g (lw_at lw_m6 88 rfl) rfl
theorem q1362 : (Jvm.Cond.codeWith ({ cls := "OldLight", name := "restore", desc := "()I" } : Jvm.MethodName) prog_1_method_60_code (2 : Nat) (Option.some Jvm.ClassFile.FieldType.int) [((0 : Nat), (31 : Nat), (32 : Nat), (8 : Nat))]) ∈ lw_all := lw_g (lw_at lw_m6 89 rfl) rfl
theorem q1364 : (Jvm.Cond.instanceMethod ({ cls := "OldLight", name := "tell", desc := "(I)I" } : Jvm.MethodName)) ∈ lw_all := lw_g (lw_at lw_m6 91 rfl) rfl
theorem q1365 : (Jvm.Cond.selects "OldLight" ({ cls := "OldLight", name := "tell", desc := "(I)I" } : Jvm.MethodName) ({ cls := "OldLight", name := "tell", desc := "(I)I" } : Jvm.MethodName)) ∈ lw_all := lw_g (lw_at lw_m6 92 rfl) rfl
theorem q1366 : (Jvm.Cond.codeWith ({ cls := "OldLight", name := "tell", desc := "(I)I" } : Jvm.MethodName) prog_1_method_61_code (3 : Nat) (Option.some Jvm.ClassFile.FieldType.int) [((0 : Nat), (58 : Nat), (59 : Nat), (8 : Nat))]) ∈ lw_all := lw_g (lw_at lw_m6 93 rfl) rfl
theorem q1368 : (Jvm.Cond.instanceMethod ({ cls := "OldLight", name := "check", desc := "()I" } : Jvm.MethodName)) ∈ lw_all := lw_g (lw_at lw_m6 95 rfl) rfl
theorem q1369 : (Jvm.Cond.selects "OldLight" ({ cls := "OldLight", name := "check", desc := "()I" } : Jvm.MethodName) ({ cls := "OldLight", name := "check", desc := "()I" } : Jvm.MethodName)) ∈ lw_all := lw_g (lw_at lw_m6 96 rfl) rfl
theorem q1370 : (Jvm.Cond.code ({ cls := "OldLight", name := "check", desc := "()I" } : Jvm.MethodName) prog_1_method_62_code (4 : Nat) (Option.some Jvm.ClassFile.FieldType.int)) ∈ lw_all := lw_g (lw_at lw_m6 97 rfl) rfl
theorem q1372 : (Jvm.Cond.instanceMethod ({ cls := "OldLight", name := "count", desc := "(I)I" } : Jvm.MethodName)) ∈ lw_all := lw_g (lw_at lw_m6 99 rfl) rfl
theorem q1373 : (Jvm.Cond.selects "OldLight" ({ cls := "OldLight", name := "count", desc := "(I)I" } : Jvm.MethodName) ({ cls := "OldLight", name := "count", desc := "(I)I" } : Jvm.MethodName)) ∈ lw_all := lw_g (lw_at lw_m6 100 rfl) rfl
theorem q1374 : (Jvm.Cond.codeWith ({ cls := "OldLight", name := "count", desc := "(I)I" } : Jvm.MethodName) prog_1_method_63_code (3 : Nat) (Option.some Jvm.ClassFile.FieldType.int) [((0 : Nat), (79 : Nat), (171 : Nat), (8 : Nat)), ((80 : Nat), (87 : Nat), (171 : Nat), (8 : Nat)), ((88 : Nat), (95 : Nat), (171 : Nat), (8 : Nat)), ((96 : Nat), (103 : Nat), (171 : Nat), (8 : Nat)), ((104 : Nat), (111 : Nat), (171 : Nat), (8 : Nat)), ((112 : Nat), (119 : Nat), (171 : Nat), (8 : Nat)), ((120 : Nat), (127 : Nat), (171 : Nat), (8 : Nat)), ((128 : Nat), (138 : Nat), (171 : Nat), (8 : Nat)), ((139 : Nat), (146 : Nat), (171 : Nat), (8 : Nat)), ((147 : Nat), (154 : Nat), (171 : Nat), (8 : Nat)), ((155 : Nat), (162 : Nat), (171 : Nat), (8 : Nat)), ((163 : Nat), (170 : Nat), (171 : Nat), (8 : Nat))]) ∈ lw_all := lw_g (lw_at lw_m6 101 rfl) rfl
theorem q1376 : (Jvm.Cond.instanceMethod ({ cls := "OldLight", name := "told", desc := "(I)I" } : Jvm.MethodName)) ∈ lw_all := lw_g (lw_at lw_m6 103 rfl) rfl
theorem q1377 : (Jvm.Cond.selects "OldLight" ({ cls := "OldLight", name := "told", desc := "(I)I" } : Jvm.MethodName) ({ cls := "OldLight", name := "told", desc := "(I)I" } : Jvm.MethodName)) ∈ lw_all := lw_g (lw_at lw_m6 104 rfl) rfl
theorem q1378 : (Jvm.Cond.codeWith ({ cls := "OldLight", name := "told", desc := "(I)I" } : Jvm.MethodName) prog_1_method_64_code (3 : Nat) (Option.some Jvm.ClassFile.FieldType.int) [((0 : Nat), (17 : Nat), (18 : Nat), (8 : Nat))]) ∈ lw_all := lw_g (lw_at lw_m6 105 rfl) rfl
theorem in_X0 : ∀ w ∈ wsX00, w ∈ lw_all := lw_in wsX00 [327, 329, 331, 333, 335, 337, 339, 341] (by decide +kernel) (by decide +kernel)
