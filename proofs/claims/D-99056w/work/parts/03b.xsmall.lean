/-! SableCrown$Land -/
set_option maxRecDepth 100000
def RX2 : String := "SableCrown$Land"
def TX2 : u_T := fun k => match k with
  | 0 => ("SableCrown$Land", "tax", "I", false)
  | 1 => ("SableCrown$Land", "fox", "I", false)
  | 2 => ("SableCrown$Land", "limit", "I", false)
  | 3 => ("SableCrown$Land", "rivers", "I", false)
  | 4 => ("SableCrown$Land", "forests", "Ljava/util/ArrayList;", true)
  | 5 => ("SableCrown$Land", "bands", "Ljava/util/ArrayList;", true)
  | 6 => ("SableCrown$Land", "forts", "Ljava/util/ArrayList;", true)
  | 7 => ("SableCrown$Land", "days", "[I", true)
  | 8 => ("SableCrown$Land", "far", "[I", true)
  | 9 => ("SableCrown$Land", "hunts", "LSableCrown$Expr;", false)
  | _ => ("SableCrown$Land", "view", "LSableCrown$View;", true)
def tyX2 : Nat → FieldType := fun k => match k with
  | 0 => .int
  | 1 => .int
  | 2 => .int
  | 3 => .int
  | 4 => .object "java/util/ArrayList"
  | 5 => .object "java/util/ArrayList"
  | 6 => .object "java/util/ArrayList"
  | 7 => .array .int
  | 8 => .array .int
  | 9 => .object "SableCrown$Expr"
  | _ => .object "SableCrown$View"
abbrev wsX20 : List Cond := u_ws RX2 TX2 11
theorem nmX2 : ∀ a, a < 11 → ∀ b, b < 11 → a ≠ b → (TX2 a).2.1 ≠ (TX2 b).2.1 := by decide +kernel
theorem tyX2_ok : ∀ k, k < 11 → parseFieldDescriptor (TX2 k).2.2.1 = some (tyX2 k) := by decide +kernel
abbrev cX2_init : ByteArray := prog_8_method_1_code
def yX2_init : MethodName := ⟨RX2, "<init>", "()V"⟩
def dkwX2_init_3 : List UInt8 := [42, 187, 0, 43, 89, 183, 0, 45, 181, 0, 46, 177]
abbrev dktX2_init_3 : List UInt8 := dkwX2_init_3 ++ []
def dkwX2_init_2 : List UInt8 := [89, 4, 183, 0, 23, 181, 0, 33, 42, 16, 64, 188, 10, 181, 0, 36, 42, 16, 64, 188, 10, 181, 0, 40]
abbrev dktX2_init_2 : List UInt8 := dkwX2_init_2 ++ dktX2_init_3
def dkwX2_init_1 : List UInt8 := [89, 4, 183, 0, 23, 181, 0, 26, 42, 187, 0, 21, 89, 4, 183, 0, 23, 181, 0, 30, 42, 187, 0, 21]
abbrev dktX2_init_1 : List UInt8 := dkwX2_init_1 ++ dktX2_init_2
def dkwX2_init_0 : List UInt8 := [42, 183, 0, 3, 42, 5, 181, 0, 9, 42, 6, 181, 0, 15, 42, 16, 20, 181, 0, 18, 42, 187, 0, 21]
abbrev dktX2_init_0 : List UInt8 := dkwX2_init_0 ++ dktX2_init_1
theorem dksX2_init_0 : cX2_init.data.toList.drop 0 = dktX2_init_0 := by decide +kernel
theorem dksX2_init_1 : cX2_init.data.toList.drop 24 = dktX2_init_1 := dk_seg dksX2_init_0 24 rfl rfl
theorem dksX2_init_2 : cX2_init.data.toList.drop 48 = dktX2_init_2 := dk_seg dksX2_init_1 24 rfl rfl
theorem dksX2_init_3 : cX2_init.data.toList.drop 72 = dktX2_init_3 := dk_seg dksX2_init_2 24 rfl rfl
theorem dX2_init_0 : decode cX2_init 0 = .ok (.aload_n 0, 1) := dk_42 (dk_at dksX2_init_0 0 rfl rfl)
theorem dX2_init_1 : decode cX2_init 1 = .ok (.invokespecial 3, 3) := dk_183 0 3 (dk_at dksX2_init_0 1 rfl rfl)
theorem dX2_init_4 : decode cX2_init 4 = .ok (.aload_n 0, 1) := dk_42 (dk_at dksX2_init_0 4 rfl rfl)
theorem dX2_init_5 : decode cX2_init 5 = .ok (.iconst 2, 1) := dk_5 (dk_at dksX2_init_0 5 rfl rfl)
theorem dX2_init_6 : decode cX2_init 6 = .ok (.putfield 9, 3) := dk_181 0 9 (dk_at dksX2_init_0 6 rfl rfl)
theorem dX2_init_9 : decode cX2_init 9 = .ok (.aload_n 0, 1) := dk_42 (dk_at dksX2_init_0 9 rfl rfl)
theorem dX2_init_10 : decode cX2_init 10 = .ok (.iconst 3, 1) := dk_6 (dk_at dksX2_init_0 10 rfl rfl)
theorem dX2_init_11 : decode cX2_init 11 = .ok (.putfield 15, 3) := dk_181 0 15 (dk_at dksX2_init_0 11 rfl rfl)
theorem dX2_init_14 : decode cX2_init 14 = .ok (.aload_n 0, 1) := dk_42 (dk_at dksX2_init_0 14 rfl rfl)
theorem dX2_init_15 : decode cX2_init 15 = .ok (.bipush 20, 2) := dk_16 20 (dk_at dksX2_init_0 15 rfl rfl)
theorem dX2_init_17 : decode cX2_init 17 = .ok (.putfield 18, 3) := dk_181 0 18 (dk_at dksX2_init_0 17 rfl rfl)
theorem dX2_init_20 : decode cX2_init 20 = .ok (.aload_n 0, 1) := dk_42 (dk_at dksX2_init_0 20 rfl rfl)
theorem dX2_init_21 : decode cX2_init 21 = .ok (.new 21, 3) := dk_187 0 21 (dk_at dksX2_init_0 21 rfl rfl)
theorem dX2_init_24 : decode cX2_init 24 = .ok (.dup, 1) := dk_89 (dk_at dksX2_init_1 0 rfl rfl)
theorem dX2_init_25 : decode cX2_init 25 = .ok (.iconst 1, 1) := dk_4 (dk_at dksX2_init_1 1 rfl rfl)
theorem dX2_init_26 : decode cX2_init 26 = .ok (.invokespecial 23, 3) := dk_183 0 23 (dk_at dksX2_init_1 2 rfl rfl)
theorem dX2_init_29 : decode cX2_init 29 = .ok (.putfield 26, 3) := dk_181 0 26 (dk_at dksX2_init_1 5 rfl rfl)
theorem dX2_init_32 : decode cX2_init 32 = .ok (.aload_n 0, 1) := dk_42 (dk_at dksX2_init_1 8 rfl rfl)
theorem dX2_init_33 : decode cX2_init 33 = .ok (.new 21, 3) := dk_187 0 21 (dk_at dksX2_init_1 9 rfl rfl)
theorem dX2_init_36 : decode cX2_init 36 = .ok (.dup, 1) := dk_89 (dk_at dksX2_init_1 12 rfl rfl)
theorem dX2_init_37 : decode cX2_init 37 = .ok (.iconst 1, 1) := dk_4 (dk_at dksX2_init_1 13 rfl rfl)
theorem dX2_init_38 : decode cX2_init 38 = .ok (.invokespecial 23, 3) := dk_183 0 23 (dk_at dksX2_init_1 14 rfl rfl)
theorem dX2_init_41 : decode cX2_init 41 = .ok (.putfield 30, 3) := dk_181 0 30 (dk_at dksX2_init_1 17 rfl rfl)
theorem dX2_init_44 : decode cX2_init 44 = .ok (.aload_n 0, 1) := dk_42 (dk_at dksX2_init_1 20 rfl rfl)
theorem dX2_init_45 : decode cX2_init 45 = .ok (.new 21, 3) := dk_187 0 21 (dk_at dksX2_init_1 21 rfl rfl)
theorem dX2_init_48 : decode cX2_init 48 = .ok (.dup, 1) := dk_89 (dk_at dksX2_init_2 0 rfl rfl)
theorem dX2_init_49 : decode cX2_init 49 = .ok (.iconst 1, 1) := dk_4 (dk_at dksX2_init_2 1 rfl rfl)
theorem dX2_init_50 : decode cX2_init 50 = .ok (.invokespecial 23, 3) := dk_183 0 23 (dk_at dksX2_init_2 2 rfl rfl)
theorem dX2_init_53 : decode cX2_init 53 = .ok (.putfield 33, 3) := dk_181 0 33 (dk_at dksX2_init_2 5 rfl rfl)
theorem dX2_init_56 : decode cX2_init 56 = .ok (.aload_n 0, 1) := dk_42 (dk_at dksX2_init_2 8 rfl rfl)
theorem dX2_init_57 : decode cX2_init 57 = .ok (.bipush 64, 2) := dk_16 64 (dk_at dksX2_init_2 9 rfl rfl)
theorem dX2_init_59 : decode cX2_init 59 = .ok (.newarray .int, 2) := dk_188_10 (dk_at dksX2_init_2 11 rfl rfl)
theorem dX2_init_61 : decode cX2_init 61 = .ok (.putfield 36, 3) := dk_181 0 36 (dk_at dksX2_init_2 13 rfl rfl)
theorem dX2_init_64 : decode cX2_init 64 = .ok (.aload_n 0, 1) := dk_42 (dk_at dksX2_init_2 16 rfl rfl)
theorem dX2_init_65 : decode cX2_init 65 = .ok (.bipush 64, 2) := dk_16 64 (dk_at dksX2_init_2 17 rfl rfl)
theorem dX2_init_67 : decode cX2_init 67 = .ok (.newarray .int, 2) := dk_188_10 (dk_at dksX2_init_2 19 rfl rfl)
theorem dX2_init_69 : decode cX2_init 69 = .ok (.putfield 40, 3) := dk_181 0 40 (dk_at dksX2_init_2 21 rfl rfl)
theorem dX2_init_72 : decode cX2_init 72 = .ok (.aload_n 0, 1) := dk_42 (dk_at dksX2_init_3 0 rfl rfl)
theorem dX2_init_73 : decode cX2_init 73 = .ok (.new 43, 3) := dk_187 0 43 (dk_at dksX2_init_3 1 rfl rfl)
theorem dX2_init_76 : decode cX2_init 76 = .ok (.dup, 1) := dk_89 (dk_at dksX2_init_3 4 rfl rfl)
theorem dX2_init_77 : decode cX2_init 77 = .ok (.invokespecial 45, 3) := dk_183 0 45 (dk_at dksX2_init_3 5 rfl rfl)
theorem dX2_init_80 : decode cX2_init 80 = .ok (.putfield 46, 3) := dk_181 0 46 (dk_at dksX2_init_3 8 rfl rfl)
theorem dX2_init_83 : decode cX2_init 83 = .ok (.return_, 1) := dk_177 (dk_at dksX2_init_3 11 rfl rfl)
abbrev cX2_hasRiver : ByteArray := prog_8_method_2_code
def yX2_hasRiver : MethodName := ⟨RX2, "hasRiver", "(II)Z"⟩
def dkwX2_hasRiver_0 : List UInt8 := [42, 180, 0, 36, 16, 8, 27, 104, 28, 96, 46, 158, 0, 7, 4, 167, 0, 4, 3, 172]
abbrev dktX2_hasRiver_0 : List UInt8 := dkwX2_hasRiver_0 ++ []
theorem dksX2_hasRiver_0 : cX2_hasRiver.data.toList.drop 0 = dktX2_hasRiver_0 := by decide +kernel
theorem dX2_hasRiver_0 : decode cX2_hasRiver 0 = .ok (.aload_n 0, 1) := dk_42 (dk_at dksX2_hasRiver_0 0 rfl rfl)
theorem dX2_hasRiver_1 : decode cX2_hasRiver 1 = .ok (.getfield 36, 3) := dk_180 0 36 (dk_at dksX2_hasRiver_0 1 rfl rfl)
theorem dX2_hasRiver_4 : decode cX2_hasRiver 4 = .ok (.bipush 8, 2) := dk_16 8 (dk_at dksX2_hasRiver_0 4 rfl rfl)
theorem dX2_hasRiver_6 : decode cX2_hasRiver 6 = .ok (.iload_n 1, 1) := dk_27 (dk_at dksX2_hasRiver_0 6 rfl rfl)
theorem dX2_hasRiver_7 : decode cX2_hasRiver 7 = .ok (.imul, 1) := dk_104 (dk_at dksX2_hasRiver_0 7 rfl rfl)
theorem dX2_hasRiver_8 : decode cX2_hasRiver 8 = .ok (.iload_n 2, 1) := dk_28 (dk_at dksX2_hasRiver_0 8 rfl rfl)
theorem dX2_hasRiver_9 : decode cX2_hasRiver 9 = .ok (.iadd, 1) := dk_96 (dk_at dksX2_hasRiver_0 9 rfl rfl)
theorem dX2_hasRiver_10 : decode cX2_hasRiver 10 = .ok (.iaload, 1) := dk_46 (dk_at dksX2_hasRiver_0 10 rfl rfl)
theorem dX2_hasRiver_11 : decode cX2_hasRiver 11 = .ok (.ifCond .le 7, 3) := dk_158 0 7 (dk_at dksX2_hasRiver_0 11 rfl rfl)
theorem dX2_hasRiver_14 : decode cX2_hasRiver 14 = .ok (.iconst 1, 1) := dk_4 (dk_at dksX2_hasRiver_0 14 rfl rfl)
theorem dX2_hasRiver_15 : decode cX2_hasRiver 15 = .ok (.goto 4, 3) := dk_167 0 4 (dk_at dksX2_hasRiver_0 15 rfl rfl)
theorem dX2_hasRiver_18 : decode cX2_hasRiver 18 = .ok (.iconst 0, 1) := dk_3 (dk_at dksX2_hasRiver_0 18 rfl rfl)
theorem dX2_hasRiver_19 : decode cX2_hasRiver 19 = .ok (.ireturn, 1) := dk_172 (dk_at dksX2_hasRiver_0 19 rfl rfl)
abbrev cX2_measures : ByteArray := prog_8_method_4_code
def yX2_measures : MethodName := ⟨RX2, "measures", "()V"⟩
def dkwX2_measures_6 : List UInt8 := [167, 255, 211, 132, 3, 1, 167, 255, 197, 132, 2, 1, 167, 255, 184, 177]
abbrev dktX2_measures_6 : List UInt8 := dkwX2_measures_6 ++ []
def dkwX2_measures_5 : List UInt8 := [182, 0, 59, 42, 29, 28, 182, 0, 59, 42, 28, 21, 4, 182, 0, 59, 96, 184, 0, 62, 79, 132, 4, 1]
abbrev dktX2_measures_5 : List UInt8 := dkwX2_measures_5 ++ dktX2_measures_6
def dkwX2_measures_4 : List UInt8 := [54, 4, 21, 4, 27, 162, 0, 45, 42, 180, 0, 40, 16, 8, 29, 104, 21, 4, 96, 42, 29, 21, 4]
abbrev dktX2_measures_4 : List UInt8 := dkwX2_measures_4 ++ dktX2_measures_5
def dkwX2_measures_3 : List UInt8 := [167, 255, 203, 132, 2, 1, 167, 255, 190, 3, 61, 28, 27, 162, 0, 73, 3, 62, 29, 27, 162, 0, 60, 3]
abbrev dktX2_measures_3 : List UInt8 := dkwX2_measures_3 ++ dktX2_measures_4
def dkwX2_measures_2 : List UInt8 := [153, 0, 17, 42, 180, 0, 36, 16, 8, 28, 104, 29, 96, 46, 167, 0, 5, 18, 58, 79, 132, 3, 1]
abbrev dktX2_measures_2 : List UInt8 := dkwX2_measures_2 ++ dktX2_measures_3
def dkwX2_measures_1 : List UInt8 := [180, 0, 40, 16, 8, 28, 104, 29, 96, 28, 29, 160, 0, 7, 3, 167, 0, 28, 42, 28, 29, 182, 0, 54]
abbrev dktX2_measures_1 : List UInt8 := dkwX2_measures_1 ++ dktX2_measures_2
def dkwX2_measures_0 : List UInt8 := [42, 180, 0, 26, 182, 0, 50, 60, 3, 61, 28, 27, 162, 0, 67, 3, 62, 29, 27, 162, 0, 54, 42]
abbrev dktX2_measures_0 : List UInt8 := dkwX2_measures_0 ++ dktX2_measures_1
theorem dksX2_measures_0 : cX2_measures.data.toList.drop 0 = dktX2_measures_0 := by decide +kernel
theorem dksX2_measures_1 : cX2_measures.data.toList.drop 23 = dktX2_measures_1 := dk_seg dksX2_measures_0 23 rfl rfl
theorem dksX2_measures_2 : cX2_measures.data.toList.drop 47 = dktX2_measures_2 := dk_seg dksX2_measures_1 24 rfl rfl
theorem dksX2_measures_3 : cX2_measures.data.toList.drop 70 = dktX2_measures_3 := dk_seg dksX2_measures_2 23 rfl rfl
theorem dksX2_measures_4 : cX2_measures.data.toList.drop 94 = dktX2_measures_4 := dk_seg dksX2_measures_3 24 rfl rfl
theorem dksX2_measures_5 : cX2_measures.data.toList.drop 117 = dktX2_measures_5 := dk_seg dksX2_measures_4 23 rfl rfl
theorem dksX2_measures_6 : cX2_measures.data.toList.drop 141 = dktX2_measures_6 := dk_seg dksX2_measures_5 24 rfl rfl
theorem dX2_measures_0 : decode cX2_measures 0 = .ok (.aload_n 0, 1) := dk_42 (dk_at dksX2_measures_0 0 rfl rfl)
theorem dX2_measures_1 : decode cX2_measures 1 = .ok (.getfield 26, 3) := dk_180 0 26 (dk_at dksX2_measures_0 1 rfl rfl)
theorem dX2_measures_4 : decode cX2_measures 4 = .ok (.invokevirtual 50, 3) := dk_182 0 50 (dk_at dksX2_measures_0 4 rfl rfl)
theorem dX2_measures_7 : decode cX2_measures 7 = .ok (.istore_n 1, 1) := dk_60 (dk_at dksX2_measures_0 7 rfl rfl)
theorem dX2_measures_8 : decode cX2_measures 8 = .ok (.iconst 0, 1) := dk_3 (dk_at dksX2_measures_0 8 rfl rfl)
theorem dX2_measures_9 : decode cX2_measures 9 = .ok (.istore_n 2, 1) := dk_61 (dk_at dksX2_measures_0 9 rfl rfl)
theorem dX2_measures_10 : decode cX2_measures 10 = .ok (.iload_n 2, 1) := dk_28 (dk_at dksX2_measures_0 10 rfl rfl)
theorem dX2_measures_11 : decode cX2_measures 11 = .ok (.iload_n 1, 1) := dk_27 (dk_at dksX2_measures_0 11 rfl rfl)
theorem dX2_measures_12 : decode cX2_measures 12 = .ok (.if_icmp .ge 67, 3) := dk_162 0 67 (dk_at dksX2_measures_0 12 rfl rfl)
theorem dX2_measures_15 : decode cX2_measures 15 = .ok (.iconst 0, 1) := dk_3 (dk_at dksX2_measures_0 15 rfl rfl)
theorem dX2_measures_16 : decode cX2_measures 16 = .ok (.istore_n 3, 1) := dk_62 (dk_at dksX2_measures_0 16 rfl rfl)
theorem dX2_measures_17 : decode cX2_measures 17 = .ok (.iload_n 3, 1) := dk_29 (dk_at dksX2_measures_0 17 rfl rfl)
theorem dX2_measures_18 : decode cX2_measures 18 = .ok (.iload_n 1, 1) := dk_27 (dk_at dksX2_measures_0 18 rfl rfl)
theorem dX2_measures_19 : decode cX2_measures 19 = .ok (.if_icmp .ge 54, 3) := dk_162 0 54 (dk_at dksX2_measures_0 19 rfl rfl)
theorem dX2_measures_22 : decode cX2_measures 22 = .ok (.aload_n 0, 1) := dk_42 (dk_at dksX2_measures_0 22 rfl rfl)
theorem dX2_measures_23 : decode cX2_measures 23 = .ok (.getfield 40, 3) := dk_180 0 40 (dk_at dksX2_measures_1 0 rfl rfl)
theorem dX2_measures_26 : decode cX2_measures 26 = .ok (.bipush 8, 2) := dk_16 8 (dk_at dksX2_measures_1 3 rfl rfl)
theorem dX2_measures_28 : decode cX2_measures 28 = .ok (.iload_n 2, 1) := dk_28 (dk_at dksX2_measures_1 5 rfl rfl)
theorem dX2_measures_29 : decode cX2_measures 29 = .ok (.imul, 1) := dk_104 (dk_at dksX2_measures_1 6 rfl rfl)
theorem dX2_measures_30 : decode cX2_measures 30 = .ok (.iload_n 3, 1) := dk_29 (dk_at dksX2_measures_1 7 rfl rfl)
theorem dX2_measures_31 : decode cX2_measures 31 = .ok (.iadd, 1) := dk_96 (dk_at dksX2_measures_1 8 rfl rfl)
theorem dX2_measures_32 : decode cX2_measures 32 = .ok (.iload_n 2, 1) := dk_28 (dk_at dksX2_measures_1 9 rfl rfl)
theorem dX2_measures_33 : decode cX2_measures 33 = .ok (.iload_n 3, 1) := dk_29 (dk_at dksX2_measures_1 10 rfl rfl)
theorem dX2_measures_34 : decode cX2_measures 34 = .ok (.if_icmp .ne 7, 3) := dk_160 0 7 (dk_at dksX2_measures_1 11 rfl rfl)
theorem dX2_measures_37 : decode cX2_measures 37 = .ok (.iconst 0, 1) := dk_3 (dk_at dksX2_measures_1 14 rfl rfl)
theorem dX2_measures_38 : decode cX2_measures 38 = .ok (.goto 28, 3) := dk_167 0 28 (dk_at dksX2_measures_1 15 rfl rfl)
theorem dX2_measures_41 : decode cX2_measures 41 = .ok (.aload_n 0, 1) := dk_42 (dk_at dksX2_measures_1 18 rfl rfl)
theorem dX2_measures_42 : decode cX2_measures 42 = .ok (.iload_n 2, 1) := dk_28 (dk_at dksX2_measures_1 19 rfl rfl)
theorem dX2_measures_43 : decode cX2_measures 43 = .ok (.iload_n 3, 1) := dk_29 (dk_at dksX2_measures_1 20 rfl rfl)
theorem dX2_measures_44 : decode cX2_measures 44 = .ok (.invokevirtual 54, 3) := dk_182 0 54 (dk_at dksX2_measures_1 21 rfl rfl)
theorem dX2_measures_47 : decode cX2_measures 47 = .ok (.ifCond .eq 17, 3) := dk_153 0 17 (dk_at dksX2_measures_2 0 rfl rfl)
theorem dX2_measures_50 : decode cX2_measures 50 = .ok (.aload_n 0, 1) := dk_42 (dk_at dksX2_measures_2 3 rfl rfl)
theorem dX2_measures_51 : decode cX2_measures 51 = .ok (.getfield 36, 3) := dk_180 0 36 (dk_at dksX2_measures_2 4 rfl rfl)
theorem dX2_measures_54 : decode cX2_measures 54 = .ok (.bipush 8, 2) := dk_16 8 (dk_at dksX2_measures_2 7 rfl rfl)
theorem dX2_measures_56 : decode cX2_measures 56 = .ok (.iload_n 2, 1) := dk_28 (dk_at dksX2_measures_2 9 rfl rfl)
theorem dX2_measures_57 : decode cX2_measures 57 = .ok (.imul, 1) := dk_104 (dk_at dksX2_measures_2 10 rfl rfl)
theorem dX2_measures_58 : decode cX2_measures 58 = .ok (.iload_n 3, 1) := dk_29 (dk_at dksX2_measures_2 11 rfl rfl)
theorem dX2_measures_59 : decode cX2_measures 59 = .ok (.iadd, 1) := dk_96 (dk_at dksX2_measures_2 12 rfl rfl)
theorem dX2_measures_60 : decode cX2_measures 60 = .ok (.iaload, 1) := dk_46 (dk_at dksX2_measures_2 13 rfl rfl)
theorem dX2_measures_61 : decode cX2_measures 61 = .ok (.goto 5, 3) := dk_167 0 5 (dk_at dksX2_measures_2 14 rfl rfl)
theorem dX2_measures_64 : decode cX2_measures 64 = .ok (.ldc 58, 2) := dk_18 58 (dk_at dksX2_measures_2 17 rfl rfl)
theorem dX2_measures_66 : decode cX2_measures 66 = .ok (.iastore, 1) := dk_79 (dk_at dksX2_measures_2 19 rfl rfl)
theorem dX2_measures_67 : decode cX2_measures 67 = .ok (.iinc 3 1, 3) := dk_132 3 1 (dk_at dksX2_measures_2 20 rfl rfl)
theorem dX2_measures_70 : decode cX2_measures 70 = .ok (.goto (-53), 3) := dk_167 255 203 (dk_at dksX2_measures_3 0 rfl rfl)
theorem dX2_measures_73 : decode cX2_measures 73 = .ok (.iinc 2 1, 3) := dk_132 2 1 (dk_at dksX2_measures_3 3 rfl rfl)
theorem dX2_measures_76 : decode cX2_measures 76 = .ok (.goto (-66), 3) := dk_167 255 190 (dk_at dksX2_measures_3 6 rfl rfl)
theorem dX2_measures_79 : decode cX2_measures 79 = .ok (.iconst 0, 1) := dk_3 (dk_at dksX2_measures_3 9 rfl rfl)
theorem dX2_measures_80 : decode cX2_measures 80 = .ok (.istore_n 2, 1) := dk_61 (dk_at dksX2_measures_3 10 rfl rfl)
theorem dX2_measures_81 : decode cX2_measures 81 = .ok (.iload_n 2, 1) := dk_28 (dk_at dksX2_measures_3 11 rfl rfl)
theorem dX2_measures_82 : decode cX2_measures 82 = .ok (.iload_n 1, 1) := dk_27 (dk_at dksX2_measures_3 12 rfl rfl)
theorem dX2_measures_83 : decode cX2_measures 83 = .ok (.if_icmp .ge 73, 3) := dk_162 0 73 (dk_at dksX2_measures_3 13 rfl rfl)
theorem dX2_measures_86 : decode cX2_measures 86 = .ok (.iconst 0, 1) := dk_3 (dk_at dksX2_measures_3 16 rfl rfl)
theorem dX2_measures_87 : decode cX2_measures 87 = .ok (.istore_n 3, 1) := dk_62 (dk_at dksX2_measures_3 17 rfl rfl)
theorem dX2_measures_88 : decode cX2_measures 88 = .ok (.iload_n 3, 1) := dk_29 (dk_at dksX2_measures_3 18 rfl rfl)
theorem dX2_measures_89 : decode cX2_measures 89 = .ok (.iload_n 1, 1) := dk_27 (dk_at dksX2_measures_3 19 rfl rfl)
theorem dX2_measures_90 : decode cX2_measures 90 = .ok (.if_icmp .ge 60, 3) := dk_162 0 60 (dk_at dksX2_measures_3 20 rfl rfl)
theorem dX2_measures_93 : decode cX2_measures 93 = .ok (.iconst 0, 1) := dk_3 (dk_at dksX2_measures_3 23 rfl rfl)
theorem dX2_measures_94 : decode cX2_measures 94 = .ok (.istore 4, 2) := dk_54 4 (dk_at dksX2_measures_4 0 rfl rfl)
theorem dX2_measures_96 : decode cX2_measures 96 = .ok (.iload 4, 2) := dk_21 4 (dk_at dksX2_measures_4 2 rfl rfl)
theorem dX2_measures_98 : decode cX2_measures 98 = .ok (.iload_n 1, 1) := dk_27 (dk_at dksX2_measures_4 4 rfl rfl)
theorem dX2_measures_99 : decode cX2_measures 99 = .ok (.if_icmp .ge 45, 3) := dk_162 0 45 (dk_at dksX2_measures_4 5 rfl rfl)
theorem dX2_measures_102 : decode cX2_measures 102 = .ok (.aload_n 0, 1) := dk_42 (dk_at dksX2_measures_4 8 rfl rfl)
theorem dX2_measures_103 : decode cX2_measures 103 = .ok (.getfield 40, 3) := dk_180 0 40 (dk_at dksX2_measures_4 9 rfl rfl)
theorem dX2_measures_106 : decode cX2_measures 106 = .ok (.bipush 8, 2) := dk_16 8 (dk_at dksX2_measures_4 12 rfl rfl)
theorem dX2_measures_108 : decode cX2_measures 108 = .ok (.iload_n 3, 1) := dk_29 (dk_at dksX2_measures_4 14 rfl rfl)
theorem dX2_measures_109 : decode cX2_measures 109 = .ok (.imul, 1) := dk_104 (dk_at dksX2_measures_4 15 rfl rfl)
theorem dX2_measures_110 : decode cX2_measures 110 = .ok (.iload 4, 2) := dk_21 4 (dk_at dksX2_measures_4 16 rfl rfl)
theorem dX2_measures_112 : decode cX2_measures 112 = .ok (.iadd, 1) := dk_96 (dk_at dksX2_measures_4 18 rfl rfl)
theorem dX2_measures_113 : decode cX2_measures 113 = .ok (.aload_n 0, 1) := dk_42 (dk_at dksX2_measures_4 19 rfl rfl)
theorem dX2_measures_114 : decode cX2_measures 114 = .ok (.iload_n 3, 1) := dk_29 (dk_at dksX2_measures_4 20 rfl rfl)
theorem dX2_measures_115 : decode cX2_measures 115 = .ok (.iload 4, 2) := dk_21 4 (dk_at dksX2_measures_4 21 rfl rfl)
theorem dX2_measures_117 : decode cX2_measures 117 = .ok (.invokevirtual 59, 3) := dk_182 0 59 (dk_at dksX2_measures_5 0 rfl rfl)
theorem dX2_measures_120 : decode cX2_measures 120 = .ok (.aload_n 0, 1) := dk_42 (dk_at dksX2_measures_5 3 rfl rfl)
theorem dX2_measures_121 : decode cX2_measures 121 = .ok (.iload_n 3, 1) := dk_29 (dk_at dksX2_measures_5 4 rfl rfl)
theorem dX2_measures_122 : decode cX2_measures 122 = .ok (.iload_n 2, 1) := dk_28 (dk_at dksX2_measures_5 5 rfl rfl)
theorem dX2_measures_123 : decode cX2_measures 123 = .ok (.invokevirtual 59, 3) := dk_182 0 59 (dk_at dksX2_measures_5 6 rfl rfl)
theorem dX2_measures_126 : decode cX2_measures 126 = .ok (.aload_n 0, 1) := dk_42 (dk_at dksX2_measures_5 9 rfl rfl)
theorem dX2_measures_127 : decode cX2_measures 127 = .ok (.iload_n 2, 1) := dk_28 (dk_at dksX2_measures_5 10 rfl rfl)
theorem dX2_measures_128 : decode cX2_measures 128 = .ok (.iload 4, 2) := dk_21 4 (dk_at dksX2_measures_5 11 rfl rfl)
theorem dX2_measures_130 : decode cX2_measures 130 = .ok (.invokevirtual 59, 3) := dk_182 0 59 (dk_at dksX2_measures_5 13 rfl rfl)
theorem dX2_measures_133 : decode cX2_measures 133 = .ok (.iadd, 1) := dk_96 (dk_at dksX2_measures_5 16 rfl rfl)
theorem dX2_measures_134 : decode cX2_measures 134 = .ok (.invokestatic 62, 3) := dk_184 0 62 (dk_at dksX2_measures_5 17 rfl rfl)
theorem dX2_measures_137 : decode cX2_measures 137 = .ok (.iastore, 1) := dk_79 (dk_at dksX2_measures_5 20 rfl rfl)
theorem dX2_measures_138 : decode cX2_measures 138 = .ok (.iinc 4 1, 3) := dk_132 4 1 (dk_at dksX2_measures_5 21 rfl rfl)
theorem dX2_measures_141 : decode cX2_measures 141 = .ok (.goto (-45), 3) := dk_167 255 211 (dk_at dksX2_measures_6 0 rfl rfl)
theorem dX2_measures_144 : decode cX2_measures 144 = .ok (.iinc 3 1, 3) := dk_132 3 1 (dk_at dksX2_measures_6 3 rfl rfl)
theorem dX2_measures_147 : decode cX2_measures 147 = .ok (.goto (-59), 3) := dk_167 255 197 (dk_at dksX2_measures_6 6 rfl rfl)
theorem dX2_measures_150 : decode cX2_measures 150 = .ok (.iinc 2 1, 3) := dk_132 2 1 (dk_at dksX2_measures_6 9 rfl rfl)
theorem dX2_measures_153 : decode cX2_measures 153 = .ok (.goto (-72), 3) := dk_167 255 184 (dk_at dksX2_measures_6 12 rfl rfl)
theorem dX2_measures_156 : decode cX2_measures 156 = .ok (.return_, 1) := dk_177 (dk_at dksX2_measures_6 15 rfl rfl)
abbrev cX2_far : ByteArray := prog_8_method_3_code
def yX2_far : MethodName := ⟨RX2, "far", "(II)I"⟩
def dkwX2_far_0 : List UInt8 := [42, 180, 0, 40, 16, 8, 27, 104, 28, 96, 46, 172]
abbrev dktX2_far_0 : List UInt8 := dkwX2_far_0 ++ []
theorem dksX2_far_0 : cX2_far.data.toList.drop 0 = dktX2_far_0 := by decide +kernel
theorem dX2_far_0 : decode cX2_far 0 = .ok (.aload_n 0, 1) := dk_42 (dk_at dksX2_far_0 0 rfl rfl)
theorem dX2_far_1 : decode cX2_far 1 = .ok (.getfield 40, 3) := dk_180 0 40 (dk_at dksX2_far_0 1 rfl rfl)
theorem dX2_far_4 : decode cX2_far 4 = .ok (.bipush 8, 2) := dk_16 8 (dk_at dksX2_far_0 4 rfl rfl)
theorem dX2_far_6 : decode cX2_far 6 = .ok (.iload_n 1, 1) := dk_27 (dk_at dksX2_far_0 6 rfl rfl)
theorem dX2_far_7 : decode cX2_far 7 = .ok (.imul, 1) := dk_104 (dk_at dksX2_far_0 7 rfl rfl)
theorem dX2_far_8 : decode cX2_far 8 = .ok (.iload_n 2, 1) := dk_28 (dk_at dksX2_far_0 8 rfl rfl)
theorem dX2_far_9 : decode cX2_far 9 = .ok (.iadd, 1) := dk_96 (dk_at dksX2_far_0 9 rfl rfl)
theorem dX2_far_10 : decode cX2_far 10 = .ok (.iaload, 1) := dk_46 (dk_at dksX2_far_0 10 rfl rfl)
theorem dX2_far_11 : decode cX2_far 11 = .ok (.ireturn, 1) := dk_172 (dk_at dksX2_far_0 11 rfl rfl)
theorem q106 : (Jvm.Cond.initialized "SableCrown$Land") ∈ lw_all := lw_g (lw_at lw_m1 2 rfl) rfl
theorem q154 : (Jvm.Cond.instantiable "SableCrown$Land" (11 : Nat)) ∈ lw_all := lw_g (lw_at lw_m1 50 rfl) rfl
theorem q156 : (Jvm.Cond.instanceMethod ({ cls := "SableCrown$Land", name := "<init>", desc := "()V" } : Jvm.MethodName)) ∈ lw_all := lw_g (lw_at lw_m1 52 rfl) rfl
theorem q157 : (Jvm.Cond.code ({ cls := "SableCrown$Land", name := "<init>", desc := "()V" } : Jvm.MethodName) prog_8_method_1_code (1 : Nat) (Option.none : Option Jvm.ClassFile.FieldType)) ∈ lw_all := lw_g (lw_at lw_m1 53 rfl) rfl
theorem q158 : (Jvm.Cond.methodLink "SableCrown$Land" (3 : Nat) ({ cls := "java/lang/Object", name := "<init>", desc := "()V" } : Jvm.MethodName)) ∈ lw_all := lw_g (lw_at lw_m1 54 rfl) rfl
theorem q159 : (Jvm.Cond.classLink "SableCrown$Land" (21 : Nat) "java/util/ArrayList") ∈ lw_all := lw_g (lw_at lw_m1 55 rfl) rfl
theorem q161 : (Jvm.Cond.methodLink "SableCrown$Land" (23 : Nat) ({ cls := "java/util/ArrayList", name := "<init>", desc := "(I)V" } : Jvm.MethodName)) ∈ lw_all := lw_g (lw_at lw_m1 57 rfl) rfl
theorem q499 : (Jvm.Cond.classLink "SableCrown$Land" (43 : Nat) "SableCrown$View") ∈ lw_all := lw_g (lw_at lw_m2 155 rfl) rfl
theorem q501 : (Jvm.Cond.methodLinkNest "SableCrown$Land" (45 : Nat) ({ cls := "SableCrown$View", name := "<init>", desc := "()V" } : Jvm.MethodName) "SableCrown") ∈ lw_tbl := lw_at lw_m2 157 rfl
theorem q522 : (Jvm.Cond.fieldLink "SableCrown$Land" (9 : Nat) "SableCrown$Land" "tax" "I") ∈ lw_all := lw_g (lw_at lw_m2 178 rfl) rfl
theorem q526 : (Jvm.Cond.fieldLink "SableCrown$Land" (15 : Nat) "SableCrown$Land" "fox" "I") ∈ lw_all := lw_g (lw_at lw_m2 182 rfl) rfl
theorem q530 : (Jvm.Cond.fieldLink "SableCrown$Land" (18 : Nat) "SableCrown$Land" "limit" "I") ∈ lw_all := lw_g (lw_at lw_m2 186 rfl) rfl
theorem q536 : (Jvm.Cond.fieldLink "SableCrown$Land" (26 : Nat) "SableCrown$Land" "forests" "Ljava/util/ArrayList;") ∈ lw_all := lw_g (lw_at lw_m2 192 rfl) rfl
theorem q540 : (Jvm.Cond.fieldLink "SableCrown$Land" (30 : Nat) "SableCrown$Land" "bands" "Ljava/util/ArrayList;") ∈ lw_all := lw_g (lw_at lw_m2 196 rfl) rfl
theorem q544 : (Jvm.Cond.fieldLink "SableCrown$Land" (33 : Nat) "SableCrown$Land" "forts" "Ljava/util/ArrayList;") ∈ lw_all := lw_g (lw_at lw_m2 200 rfl) rfl
theorem q547 : (Jvm.Cond.fieldLink "SableCrown$Land" (36 : Nat) "SableCrown$Land" "days" "[I") ∈ lw_all := lw_g (lw_at lw_m2 203 rfl) rfl
theorem q549 : (Jvm.Cond.fieldLink "SableCrown$Land" (40 : Nat) "SableCrown$Land" "far" "[I") ∈ lw_all := lw_g (lw_at lw_m2 205 rfl) rfl
theorem q552 : (Jvm.Cond.fieldLink "SableCrown$Land" (46 : Nat) "SableCrown$Land" "view" "LSableCrown$View;") ∈ lw_all := lw_g (lw_at lw_m2 208 rfl) rfl
theorem q554 : (Jvm.Cond.lays "SableCrown$Land" "SableCrown$Land" "tax" "I") ∈ lw_all := lw_g (lw_at lw_m2 210 rfl) rfl
theorem q555 : (Jvm.Cond.soleField "SableCrown$Land" "tax") ∈ lw_all := lw_g (lw_at lw_m2 211 rfl) rfl
theorem q556 : (Jvm.Cond.lays "SableCrown$Land" "SableCrown$Land" "fox" "I") ∈ lw_all := lw_g (lw_at lw_m2 212 rfl) rfl
theorem q557 : (Jvm.Cond.soleField "SableCrown$Land" "fox") ∈ lw_all := lw_g (lw_at lw_m2 213 rfl) rfl
theorem q558 : (Jvm.Cond.lays "SableCrown$Land" "SableCrown$Land" "limit" "I") ∈ lw_all := lw_g (lw_at lw_m2 214 rfl) rfl
theorem q559 : (Jvm.Cond.soleField "SableCrown$Land" "limit") ∈ lw_all := lw_g (lw_at lw_m2 215 rfl) rfl
theorem q560 : (Jvm.Cond.lays "SableCrown$Land" "SableCrown$Land" "rivers" "I") ∈ lw_all := lw_g (lw_at lw_m2 216 rfl) rfl
theorem q561 : (Jvm.Cond.soleField "SableCrown$Land" "rivers") ∈ lw_all := lw_g (lw_at lw_m2 217 rfl) rfl
theorem q562 : (Jvm.Cond.laysFinal "SableCrown$Land" "SableCrown$Land" "forests" "Ljava/util/ArrayList;") ∈ lw_all := lw_g (lw_at lw_m2 218 rfl) rfl
theorem q563 : (Jvm.Cond.soleField "SableCrown$Land" "forests") ∈ lw_all := lw_g (lw_at lw_m2 219 rfl) rfl
theorem q564 : (Jvm.Cond.laysFinal "SableCrown$Land" "SableCrown$Land" "bands" "Ljava/util/ArrayList;") ∈ lw_all := lw_g (lw_at lw_m2 220 rfl) rfl
theorem q565 : (Jvm.Cond.soleField "SableCrown$Land" "bands") ∈ lw_all := lw_g (lw_at lw_m2 221 rfl) rfl
theorem q566 : (Jvm.Cond.laysFinal "SableCrown$Land" "SableCrown$Land" "forts" "Ljava/util/ArrayList;") ∈ lw_all := lw_g (lw_at lw_m2 222 rfl) rfl
theorem q567 : (Jvm.Cond.soleField "SableCrown$Land" "forts") ∈ lw_all := lw_g (lw_at lw_m2 223 rfl) rfl
theorem q568 : (Jvm.Cond.laysFinal "SableCrown$Land" "SableCrown$Land" "days" "[I") ∈ lw_all := lw_g (lw_at lw_m2 224 rfl) rfl
theorem q569 : (Jvm.Cond.soleField "SableCrown$Land" "days") ∈ lw_all := lw_g (lw_at lw_m2 225 rfl) rfl
theorem q570 : (Jvm.Cond.laysFinal "SableCrown$Land" "SableCrown$Land" "far" "[I") ∈ lw_all := lw_g (lw_at lw_m2 226 rfl) rfl
theorem q571 : (Jvm.Cond.soleField "SableCrown$Land" "far") ∈ lw_all := lw_g (lw_at lw_m2 227 rfl) rfl
theorem q572 : (Jvm.Cond.lays "SableCrown$Land" "SableCrown$Land" "hunts" "LSableCrown$Expr;") ∈ lw_all := lw_g (lw_at lw_m2 228 rfl) rfl
theorem q573 : (Jvm.Cond.soleField "SableCrown$Land" "hunts") ∈ lw_all := lw_g (lw_at lw_m2 229 rfl) rfl
theorem q574 : (Jvm.Cond.laysFinal "SableCrown$Land" "SableCrown$Land" "view" "LSableCrown$View;") ∈ lw_all := lw_g (lw_at lw_m2 230 rfl) rfl
theorem q575 : (Jvm.Cond.soleField "SableCrown$Land" "view") ∈ lw_all := lw_g (lw_at lw_m2 231 rfl) rfl
theorem q576 : (Jvm.Cond.superclass "SableCrown$Land" "java/lang/Object") ∈ lw_all := lw_g (lw_at lw_m2 232 rfl) rfl
theorem q675 : (Jvm.Cond.selects "SableCrown$Land" ({ cls := "java/lang/Object", name := "getClass", desc := "()Ljava/lang/Class;" } : Jvm.MethodName) ({ cls := "java/lang/Object", name := "getClass", desc := "()Ljava/lang/Class;" } : Jvm.MethodName)) ∈ lw_all := lw_g (lw_at lw_m3 91 rfl) rfl
theorem q1159 : (Jvm.Cond.instanceMethod ({ cls := "SableCrown$Land", name := "hasRiver", desc := "(II)Z" } : Jvm.MethodName)) ∈ lw_all := lw_g (lw_at lw_m5 95 rfl) rfl
theorem q1160 : (Jvm.Cond.selects "SableCrown$Land" ({ cls := "SableCrown$Land", name := "hasRiver", desc := "(II)Z" } : Jvm.MethodName) ({ cls := "SableCrown$Land", name := "hasRiver", desc := "(II)Z" } : Jvm.MethodName)) ∈ lw_all := lw_g (lw_at lw_m5 96 rfl) rfl
theorem q1161 : (Jvm.Cond.code ({ cls := "SableCrown$Land", name := "hasRiver", desc := "(II)Z" } : Jvm.MethodName) prog_8_method_2_code (3 : Nat) (Option.some Jvm.ClassFile.FieldType.boolean)) ∈ lw_all := lw_g (lw_at lw_m5 97 rfl) rfl
theorem q1343 : (Jvm.Cond.instanceMethod ({ cls := "SableCrown$Land", name := "measures", desc := "()V" } : Jvm.MethodName)) ∈ lw_all := lw_g (lw_at lw_m6 39 rfl) rfl
theorem q1344 : (Jvm.Cond.selects "SableCrown$Land" ({ cls := "SableCrown$Land", name := "measures", desc := "()V" } : Jvm.MethodName) ({ cls := "SableCrown$Land", name := "measures", desc := "()V" } : Jvm.MethodName)) ∈ lw_all := lw_g (lw_at lw_m6 40 rfl) rfl
theorem q1345 : (Jvm.Cond.code ({ cls := "SableCrown$Land", name := "measures", desc := "()V" } : Jvm.MethodName) prog_8_method_4_code (5 : Nat) (Option.none : Option Jvm.ClassFile.FieldType)) ∈ lw_all := lw_g (lw_at lw_m6 41 rfl) rfl
theorem q1346 : (Jvm.Cond.methodLink "SableCrown$Land" (50 : Nat) ({ cls := "java/util/ArrayList", name := "size", desc := "()I" } : Jvm.MethodName)) ∈ lw_all := lw_g (lw_at lw_m6 42 rfl) rfl
theorem q1347 : (Jvm.Cond.methodLink "SableCrown$Land" (54 : Nat) ({ cls := "SableCrown$Land", name := "hasRiver", desc := "(II)Z" } : Jvm.MethodName)) ∈ lw_all := lw_g (lw_at lw_m6 43 rfl) rfl
theorem q1348 : (Jvm.Cond.constant "SableCrown$Land" (58 : Nat) (100000 : Int32)) ∈ lw_all := lw_g (lw_at lw_m6 44 rfl) rfl
theorem q1349 : (Jvm.Cond.methodLink "SableCrown$Land" (59 : Nat) ({ cls := "SableCrown$Land", name := "far", desc := "(II)I" } : Jvm.MethodName)) ∈ lw_all := lw_g (lw_at lw_m6 45 rfl) rfl
theorem q1350 : (Jvm.Cond.instanceMethod ({ cls := "SableCrown$Land", name := "far", desc := "(II)I" } : Jvm.MethodName)) ∈ lw_all := lw_g (lw_at lw_m6 46 rfl) rfl
theorem q1351 : (Jvm.Cond.selects "SableCrown$Land" ({ cls := "SableCrown$Land", name := "far", desc := "(II)I" } : Jvm.MethodName) ({ cls := "SableCrown$Land", name := "far", desc := "(II)I" } : Jvm.MethodName)) ∈ lw_all := lw_g (lw_at lw_m6 47 rfl) rfl
theorem q1352 : (Jvm.Cond.code ({ cls := "SableCrown$Land", name := "far", desc := "(II)I" } : Jvm.MethodName) prog_8_method_3_code (3 : Nat) (Option.some Jvm.ClassFile.FieldType.int)) ∈ lw_all := lw_g (lw_at lw_m6 48 rfl) rfl
theorem q1353 : (Jvm.Cond.methodLink "SableCrown$Land" (62 : Nat) ({ cls := "java/lang/Math", name := "min", desc := "(II)I" } : Jvm.MethodName)) ∈ lw_all := lw_g (lw_at lw_m6 49 rfl) rfl
theorem q2306 : (Jvm.Cond.castable "SableCrown$Land" "java/lang/Object") ∈ lw_tbl := lw_at lw_m10 42 rfl
theorem in_X2 : ∀ w ∈ wsX20, w ∈ lw_all := lw_in wsX20 [554, 556, 558, 560, 562, 564, 566, 568, 570, 572, 574] (by decide +kernel) (by decide +kernel)
/-! SableCrown$View -/
set_option maxRecDepth 100000
def RX3 : String := "SableCrown$View"
def TX3 : u_T := fun k => match k with
  | _ => ("SableCrown$View", "of", "[I", true)
def tyX3 : Nat → FieldType := fun k => match k with
  | _ => .array .int
abbrev wsX30 : List Cond := u_ws RX3 TX3 1
theorem nmX3 : ∀ a, a < 1 → ∀ b, b < 1 → a ≠ b → (TX3 a).2.1 ≠ (TX3 b).2.1 := by decide +kernel
theorem tyX3_ok : ∀ k, k < 1 → parseFieldDescriptor (TX3 k).2.2.1 = some (tyX3 k) := by decide +kernel
abbrev cX3_init : ByteArray := prog_16_method_1_code
def yX3_init : MethodName := ⟨RX3, "<init>", "()V"⟩
def dkwX3_init_0 : List UInt8 := [42, 183, 0, 1, 42, 184, 0, 7, 190, 188, 10, 181, 0, 13, 177]
abbrev dktX3_init_0 : List UInt8 := dkwX3_init_0 ++ []
theorem dksX3_init_0 : cX3_init.data.toList.drop 0 = dktX3_init_0 := by decide +kernel
theorem dX3_init_0 : decode cX3_init 0 = .ok (.aload_n 0, 1) := dk_42 (dk_at dksX3_init_0 0 rfl rfl)
theorem dX3_init_1 : decode cX3_init 1 = .ok (.invokespecial 1, 3) := dk_183 0 1 (dk_at dksX3_init_0 1 rfl rfl)
theorem dX3_init_4 : decode cX3_init 4 = .ok (.aload_n 0, 1) := dk_42 (dk_at dksX3_init_0 4 rfl rfl)
theorem dX3_init_5 : decode cX3_init 5 = .ok (.invokestatic 7, 3) := dk_184 0 7 (dk_at dksX3_init_0 5 rfl rfl)
theorem dX3_init_8 : decode cX3_init 8 = .ok (.arraylength, 1) := dk_190 (dk_at dksX3_init_0 8 rfl rfl)
theorem dX3_init_9 : decode cX3_init 9 = .ok (.newarray .int, 2) := dk_188_10 (dk_at dksX3_init_0 9 rfl rfl)
theorem dX3_init_11 : decode cX3_init 11 = .ok (.putfield 13, 3) := dk_181 0 13 (dk_at dksX3_init_0 11 rfl rfl)
theorem dX3_init_14 : decode cX3_init 14 = .ok (.return_, 1) := dk_177 (dk_at dksX3_init_0 14 rfl rfl)
abbrev cX3_sees : ByteArray := prog_16_method_2_code
def yX3_sees : MethodName := ⟨RX3, "sees", "(LSableCrown$Value;I)V"⟩
def dkwX3_sees_0 : List UInt8 := [42, 180, 0, 13, 43, 182, 0, 19, 28, 79, 177]
abbrev dktX3_sees_0 : List UInt8 := dkwX3_sees_0 ++ []
theorem dksX3_sees_0 : cX3_sees.data.toList.drop 0 = dktX3_sees_0 := by decide +kernel
theorem dX3_sees_0 : decode cX3_sees 0 = .ok (.aload_n 0, 1) := dk_42 (dk_at dksX3_sees_0 0 rfl rfl)
theorem dX3_sees_1 : decode cX3_sees 1 = .ok (.getfield 13, 3) := dk_180 0 13 (dk_at dksX3_sees_0 1 rfl rfl)
theorem dX3_sees_4 : decode cX3_sees 4 = .ok (.aload_n 1, 1) := dk_43 (dk_at dksX3_sees_0 4 rfl rfl)
theorem dX3_sees_5 : decode cX3_sees 5 = .ok (.invokevirtual 19, 3) := dk_182 0 19 (dk_at dksX3_sees_0 5 rfl rfl)
theorem dX3_sees_8 : decode cX3_sees 8 = .ok (.iload_n 2, 1) := dk_28 (dk_at dksX3_sees_0 8 rfl rfl)
theorem dX3_sees_9 : decode cX3_sees 9 = .ok (.iastore, 1) := dk_79 (dk_at dksX3_sees_0 9 rfl rfl)
theorem dX3_sees_10 : decode cX3_sees 10 = .ok (.return_, 1) := dk_177 (dk_at dksX3_sees_0 10 rfl rfl)
theorem q126 : (Jvm.Cond.initialized "SableCrown$View") ∈ lw_all := lw_g (lw_at lw_m1 22 rfl) rfl
theorem q500 : (Jvm.Cond.instantiable "SableCrown$View" (1 : Nat)) ∈ lw_all := lw_g (lw_at lw_m2 156 rfl) rfl
theorem q502 : (Jvm.Cond.instanceMethod ({ cls := "SableCrown$View", name := "<init>", desc := "()V" } : Jvm.MethodName)) ∈ lw_all := lw_g (lw_at lw_m2 158 rfl) rfl
theorem q503 : (Jvm.Cond.code ({ cls := "SableCrown$View", name := "<init>", desc := "()V" } : Jvm.MethodName) prog_16_method_1_code (1 : Nat) (Option.none : Option Jvm.ClassFile.FieldType)) ∈ lw_all := lw_g (lw_at lw_m2 159 rfl) rfl
theorem q504 : (Jvm.Cond.methodLink "SableCrown$View" (1 : Nat) ({ cls := "java/lang/Object", name := "<init>", desc := "()V" } : Jvm.MethodName)) ∈ lw_all := lw_g (lw_at lw_m2 160 rfl) rfl
theorem q505 : (Jvm.Cond.methodLink "SableCrown$View" (7 : Nat) ({ cls := "SableCrown$Value", name := "values", desc := "()[LSableCrown$Value;" } : Jvm.MethodName)) ∈ lw_all := lw_g (lw_at lw_m2 161 rfl) rfl
theorem q516 : (Jvm.Cond.fieldLink "SableCrown$View" (13 : Nat) "SableCrown$View" "of" "[I") ∈ lw_all := lw_g (lw_at lw_m2 172 rfl) rfl
theorem q518 : (Jvm.Cond.laysFinal "SableCrown$View" "SableCrown$View" "of" "[I") ∈ lw_all := lw_g (lw_at lw_m2 174 rfl) rfl
theorem q519 : (Jvm.Cond.soleField "SableCrown$View" "of") ∈ lw_all := lw_g (lw_at lw_m2 175 rfl) rfl
theorem q520 : (Jvm.Cond.superclass "SableCrown$View" "java/lang/Object") ∈ lw_all := lw_g (lw_at lw_m2 176 rfl) rfl
theorem q683 : (Jvm.Cond.selects "SableCrown$View" ({ cls := "java/lang/Object", name := "getClass", desc := "()Ljava/lang/Class;" } : Jvm.MethodName) ({ cls := "java/lang/Object", name := "getClass", desc := "()Ljava/lang/Class;" } : Jvm.MethodName)) ∈ lw_all := lw_g (lw_at lw_m3 99 rfl) rfl
theorem q849 : (Jvm.Cond.instanceMethod ({ cls := "SableCrown$View", name := "sees", desc := "(LSableCrown$Value;I)V" } : Jvm.MethodName)) ∈ lw_all := lw_g (lw_at lw_m4 25 rfl) rfl
theorem q850 : (Jvm.Cond.selects "SableCrown$View" ({ cls := "SableCrown$View", name := "sees", desc := "(LSableCrown$Value;I)V" } : Jvm.MethodName) ({ cls := "SableCrown$View", name := "sees", desc := "(LSableCrown$Value;I)V" } : Jvm.MethodName)) ∈ lw_all := lw_g (lw_at lw_m4 26 rfl) rfl
theorem q851 : (Jvm.Cond.code ({ cls := "SableCrown$View", name := "sees", desc := "(LSableCrown$Value;I)V" } : Jvm.MethodName) prog_16_method_2_code (3 : Nat) (Option.none : Option Jvm.ClassFile.FieldType)) ∈ lw_all := lw_g (lw_at lw_m4 27 rfl) rfl
theorem q852 : (Jvm.Cond.methodLink "SableCrown$View" (19 : Nat) ({ cls := "SableCrown$Value", name := "ordinal", desc := "()I" } : Jvm.MethodName)) ∈ lw_all := lw_g (lw_at lw_m4 28 rfl) rfl
theorem q2310 : (Jvm.Cond.castable "SableCrown$View" "java/lang/Object") ∈ lw_tbl := lw_at lw_m10 46 rfl
theorem in_X3 : ∀ w ∈ wsX30, w ∈ lw_all := lw_in wsX30 [518] (by decide +kernel) (by decide +kernel)
/-! SableCrown$Value -/
set_option maxRecDepth 100000
def RX4 : String := "SableCrown$Value"
abbrev cX4_values : ByteArray := prog_15_method_1_code
def yX4_values : MethodName := ⟨RX4, "values", "()[LSableCrown$Value;"⟩
def dkwX4_values_0 : List UInt8 := [178, 0, 25, 182, 0, 29, 192, 0, 30, 176]
abbrev dktX4_values_0 : List UInt8 := dkwX4_values_0 ++ []
theorem dksX4_values_0 : cX4_values.data.toList.drop 0 = dktX4_values_0 := by decide +kernel
theorem dX4_values_0 : decode cX4_values 0 = .ok (.getstatic 25, 3) := dk_178 0 25 (dk_at dksX4_values_0 0 rfl rfl)
theorem dX4_values_3 : decode cX4_values 3 = .ok (.invokevirtual 29, 3) := dk_182 0 29 (dk_at dksX4_values_0 3 rfl rfl)
theorem dX4_values_6 : decode cX4_values 6 = .ok (.checkcast 30, 3) := dk_192 0 30 (dk_at dksX4_values_0 6 rfl rfl)
theorem dX4_values_9 : decode cX4_values 9 = .ok (.areturn, 1) := dk_176 (dk_at dksX4_values_0 9 rfl rfl)
theorem q128 : (Jvm.Cond.initialized "SableCrown$Value") ∈ lw_all := lw_g (lw_at lw_m1 24 rfl) rfl
theorem q506 : (Jvm.Cond.static ({ cls := "SableCrown$Value", name := "values", desc := "()[LSableCrown$Value;" } : Jvm.MethodName)) ∈ lw_all := lw_g (lw_at lw_m2 162 rfl) rfl
theorem q507 : (Jvm.Cond.code ({ cls := "SableCrown$Value", name := "values", desc := "()[LSableCrown$Value;" } : Jvm.MethodName) prog_15_method_1_code (0 : Nat) (Option.some (Jvm.ClassFile.FieldType.array (Jvm.ClassFile.FieldType.object "SableCrown$Value")))) ∈ lw_all := lw_g (lw_at lw_m2 163 rfl) rfl
theorem q508 : (Jvm.Cond.fieldLink "SableCrown$Value" (25 : Nat) "SableCrown$Value" "$VALUES" "[LSableCrown$Value;") ∈ lw_all := lw_g (lw_at lw_m2 164 rfl) rfl
theorem q509 : (Jvm.Cond.laysStatic "SableCrown$Value" "$VALUES" "[LSableCrown$Value;") ∈ lw_tbl := lw_at lw_m2 165 rfl
theorem q510 : (Jvm.Cond.methodLink "SableCrown$Value" (29 : Nat) ({ cls := "[LSableCrown$Value;", name := "clone", desc := "()Ljava/lang/Object;" } : Jvm.MethodName)) ∈ lw_all := lw_g (lw_at lw_m2 166 rfl) rfl
theorem q515 : (Jvm.Cond.classLink "SableCrown$Value" (30 : Nat) "[LSableCrown$Value;") ∈ lw_all := lw_g (lw_at lw_m2 171 rfl) rfl
theorem q682 : (Jvm.Cond.selects "SableCrown$Value" ({ cls := "java/lang/Object", name := "getClass", desc := "()Ljava/lang/Class;" } : Jvm.MethodName) ({ cls := "java/lang/Object", name := "getClass", desc := "()Ljava/lang/Class;" } : Jvm.MethodName)) ∈ lw_all := lw_g (lw_at lw_m3 98 rfl) rfl
theorem q847 : (Jvm.Cond.laysStatic "SableCrown$Value" "BOWS" "LSableCrown$Value;") ∈ lw_tbl := lw_at lw_m4 23 rfl
theorem q853 : (Jvm.Cond.sameMethod "SableCrown$Value" "java/lang/Enum" "ordinal" "()I") ∈ lw_all := lw_g (lw_at lw_m4 29 rfl) rfl
theorem q855 : (Jvm.Cond.selects "SableCrown$Value" ({ cls := "SableCrown$Value", name := "ordinal", desc := "()I" } : Jvm.MethodName) ({ cls := "java/lang/Enum", name := "ordinal", desc := "()I" } : Jvm.MethodName)) ∈ lw_all := lw_g (lw_at lw_m4 31 rfl) rfl
theorem q859 : (Jvm.Cond.laysStatic "SableCrown$Value" "SABLES" "LSableCrown$Value;") ∈ lw_tbl := lw_at lw_m4 35 rfl
theorem q861 : (Jvm.Cond.laysStatic "SableCrown$Value" "OWES" "LSableCrown$Value;") ∈ lw_tbl := lw_at lw_m4 37 rfl
theorem q863 : (Jvm.Cond.laysStatic "SableCrown$Value" "DUE" "LSableCrown$Value;") ∈ lw_tbl := lw_at lw_m4 39 rfl
theorem q865 : (Jvm.Cond.laysStatic "SableCrown$Value" "YEAR" "LSableCrown$Value;") ∈ lw_tbl := lw_at lw_m4 41 rfl
theorem q867 : (Jvm.Cond.laysStatic "SableCrown$Value" "STORE" "LSableCrown$Value;") ∈ lw_tbl := lw_at lw_m4 43 rfl
theorem q869 : (Jvm.Cond.laysStatic "SableCrown$Value" "OTHERS" "LSableCrown$Value;") ∈ lw_tbl := lw_at lw_m4 45 rfl
theorem q2303 : (Jvm.Cond.castable "SableCrown$Value" "java/lang/Object") ∈ lw_tbl := lw_at lw_m10 39 rfl
/-! SableCrown$Book -/
set_option maxRecDepth 100000
def RX5 : String := "SableCrown$Book"
def TX5 : u_T := fun k => match k with
  | 0 => ("SableCrown$Book", "now", "LSableCrown$State;", true)
  | 1 => ("SableCrown$Book", "ahead", "Ljava/util/ArrayList;", true)
  | 2 => ("SableCrown$Book", "band", "[I", true)
  | 3 => ("SableCrown$Book", "when", "[I", true)
  | 4 => ("SableCrown$Book", "much", "[I", true)
  | 5 => ("SableCrown$Book", "refused", "[I", true)
  | 6 => ("SableCrown$Book", "acts", "I", false)
  | _ => ("SableCrown$Book", "many", "I", false)
def tyX5 : Nat → FieldType := fun k => match k with
  | 0 => .object "SableCrown$State"
  | 1 => .object "java/util/ArrayList"
  | 2 => .array .int
  | 3 => .array .int
  | 4 => .array .int
  | 5 => .array .int
  | 6 => .int
  | _ => .int
abbrev wsX50 : List Cond := u_ws RX5 TX5 8
theorem nmX5 : ∀ a, a < 8 → ∀ b, b < 8 → a ≠ b → (TX5 a).2.1 ≠ (TX5 b).2.1 := by decide +kernel
theorem tyX5_ok : ∀ k, k < 8 → parseFieldDescriptor (TX5 k).2.2.1 = some (tyX5 k) := by decide +kernel
abbrev cX5_init : ByteArray := prog_3_method_1_code
def yX5_init : MethodName := ⟨RX5, "<init>", "()V"⟩
def dkwX5_init_3 : List UInt8 := [180, 0, 23, 187, 0, 9, 89, 183, 0, 11, 182, 0, 40, 87, 132, 1, 1, 167, 255, 232, 177]
abbrev dktX5_init_3 : List UInt8 := dkwX5_init_3 ++ []
def dkwX5_init_2 : List UInt8 := [16, 8, 188, 10, 181, 0, 34, 42, 6, 188, 10, 181, 0, 37, 3, 60, 27, 16, 40, 162, 0, 24, 42]
abbrev dktX5_init_2 : List UInt8 := dkwX5_init_2 ++ dktX5_init_3
def dkwX5_init_1 : List UInt8 := [183, 0, 20, 181, 0, 23, 42, 16, 8, 188, 10, 181, 0, 27, 42, 16, 8, 188, 10, 181, 0, 31, 42]
abbrev dktX5_init_1 : List UInt8 := dkwX5_init_1 ++ dktX5_init_2
def dkwX5_init_0 : List UInt8 := [42, 183, 0, 3, 42, 187, 0, 9, 89, 183, 0, 11, 181, 0, 12, 42, 187, 0, 18, 89, 16, 40]
abbrev dktX5_init_0 : List UInt8 := dkwX5_init_0 ++ dktX5_init_1
theorem dksX5_init_0 : cX5_init.data.toList.drop 0 = dktX5_init_0 := by decide +kernel
theorem dksX5_init_1 : cX5_init.data.toList.drop 22 = dktX5_init_1 := dk_seg dksX5_init_0 22 rfl rfl
theorem dksX5_init_2 : cX5_init.data.toList.drop 45 = dktX5_init_2 := dk_seg dksX5_init_1 23 rfl rfl
theorem dksX5_init_3 : cX5_init.data.toList.drop 68 = dktX5_init_3 := dk_seg dksX5_init_2 23 rfl rfl
theorem dX5_init_0 : decode cX5_init 0 = .ok (.aload_n 0, 1) := dk_42 (dk_at dksX5_init_0 0 rfl rfl)
theorem dX5_init_1 : decode cX5_init 1 = .ok (.invokespecial 3, 3) := dk_183 0 3 (dk_at dksX5_init_0 1 rfl rfl)
theorem dX5_init_4 : decode cX5_init 4 = .ok (.aload_n 0, 1) := dk_42 (dk_at dksX5_init_0 4 rfl rfl)
theorem dX5_init_5 : decode cX5_init 5 = .ok (.new 9, 3) := dk_187 0 9 (dk_at dksX5_init_0 5 rfl rfl)
theorem dX5_init_8 : decode cX5_init 8 = .ok (.dup, 1) := dk_89 (dk_at dksX5_init_0 8 rfl rfl)
theorem dX5_init_9 : decode cX5_init 9 = .ok (.invokespecial 11, 3) := dk_183 0 11 (dk_at dksX5_init_0 9 rfl rfl)
theorem dX5_init_12 : decode cX5_init 12 = .ok (.putfield 12, 3) := dk_181 0 12 (dk_at dksX5_init_0 12 rfl rfl)
theorem dX5_init_15 : decode cX5_init 15 = .ok (.aload_n 0, 1) := dk_42 (dk_at dksX5_init_0 15 rfl rfl)
theorem dX5_init_16 : decode cX5_init 16 = .ok (.new 18, 3) := dk_187 0 18 (dk_at dksX5_init_0 16 rfl rfl)
theorem dX5_init_19 : decode cX5_init 19 = .ok (.dup, 1) := dk_89 (dk_at dksX5_init_0 19 rfl rfl)
theorem dX5_init_20 : decode cX5_init 20 = .ok (.bipush 40, 2) := dk_16 40 (dk_at dksX5_init_0 20 rfl rfl)
theorem dX5_init_22 : decode cX5_init 22 = .ok (.invokespecial 20, 3) := dk_183 0 20 (dk_at dksX5_init_1 0 rfl rfl)
theorem dX5_init_25 : decode cX5_init 25 = .ok (.putfield 23, 3) := dk_181 0 23 (dk_at dksX5_init_1 3 rfl rfl)
theorem dX5_init_28 : decode cX5_init 28 = .ok (.aload_n 0, 1) := dk_42 (dk_at dksX5_init_1 6 rfl rfl)
theorem dX5_init_29 : decode cX5_init 29 = .ok (.bipush 8, 2) := dk_16 8 (dk_at dksX5_init_1 7 rfl rfl)
theorem dX5_init_31 : decode cX5_init 31 = .ok (.newarray .int, 2) := dk_188_10 (dk_at dksX5_init_1 9 rfl rfl)
theorem dX5_init_33 : decode cX5_init 33 = .ok (.putfield 27, 3) := dk_181 0 27 (dk_at dksX5_init_1 11 rfl rfl)
theorem dX5_init_36 : decode cX5_init 36 = .ok (.aload_n 0, 1) := dk_42 (dk_at dksX5_init_1 14 rfl rfl)
theorem dX5_init_37 : decode cX5_init 37 = .ok (.bipush 8, 2) := dk_16 8 (dk_at dksX5_init_1 15 rfl rfl)
theorem dX5_init_39 : decode cX5_init 39 = .ok (.newarray .int, 2) := dk_188_10 (dk_at dksX5_init_1 17 rfl rfl)
theorem dX5_init_41 : decode cX5_init 41 = .ok (.putfield 31, 3) := dk_181 0 31 (dk_at dksX5_init_1 19 rfl rfl)
theorem dX5_init_44 : decode cX5_init 44 = .ok (.aload_n 0, 1) := dk_42 (dk_at dksX5_init_1 22 rfl rfl)
theorem dX5_init_45 : decode cX5_init 45 = .ok (.bipush 8, 2) := dk_16 8 (dk_at dksX5_init_2 0 rfl rfl)
theorem dX5_init_47 : decode cX5_init 47 = .ok (.newarray .int, 2) := dk_188_10 (dk_at dksX5_init_2 2 rfl rfl)
theorem dX5_init_49 : decode cX5_init 49 = .ok (.putfield 34, 3) := dk_181 0 34 (dk_at dksX5_init_2 4 rfl rfl)
theorem dX5_init_52 : decode cX5_init 52 = .ok (.aload_n 0, 1) := dk_42 (dk_at dksX5_init_2 7 rfl rfl)
theorem dX5_init_53 : decode cX5_init 53 = .ok (.iconst 3, 1) := dk_6 (dk_at dksX5_init_2 8 rfl rfl)
theorem dX5_init_54 : decode cX5_init 54 = .ok (.newarray .int, 2) := dk_188_10 (dk_at dksX5_init_2 9 rfl rfl)
theorem dX5_init_56 : decode cX5_init 56 = .ok (.putfield 37, 3) := dk_181 0 37 (dk_at dksX5_init_2 11 rfl rfl)
theorem dX5_init_59 : decode cX5_init 59 = .ok (.iconst 0, 1) := dk_3 (dk_at dksX5_init_2 14 rfl rfl)
theorem dX5_init_60 : decode cX5_init 60 = .ok (.istore_n 1, 1) := dk_60 (dk_at dksX5_init_2 15 rfl rfl)
theorem dX5_init_61 : decode cX5_init 61 = .ok (.iload_n 1, 1) := dk_27 (dk_at dksX5_init_2 16 rfl rfl)
theorem dX5_init_62 : decode cX5_init 62 = .ok (.bipush 40, 2) := dk_16 40 (dk_at dksX5_init_2 17 rfl rfl)
theorem dX5_init_64 : decode cX5_init 64 = .ok (.if_icmp .ge 24, 3) := dk_162 0 24 (dk_at dksX5_init_2 19 rfl rfl)
theorem dX5_init_67 : decode cX5_init 67 = .ok (.aload_n 0, 1) := dk_42 (dk_at dksX5_init_2 22 rfl rfl)
theorem dX5_init_68 : decode cX5_init 68 = .ok (.getfield 23, 3) := dk_180 0 23 (dk_at dksX5_init_3 0 rfl rfl)
theorem dX5_init_71 : decode cX5_init 71 = .ok (.new 9, 3) := dk_187 0 9 (dk_at dksX5_init_3 3 rfl rfl)
theorem dX5_init_74 : decode cX5_init 74 = .ok (.dup, 1) := dk_89 (dk_at dksX5_init_3 6 rfl rfl)
theorem dX5_init_75 : decode cX5_init 75 = .ok (.invokespecial 11, 3) := dk_183 0 11 (dk_at dksX5_init_3 7 rfl rfl)
theorem dX5_init_78 : decode cX5_init 78 = .ok (.invokevirtual 40, 3) := dk_182 0 40 (dk_at dksX5_init_3 10 rfl rfl)
theorem dX5_init_81 : decode cX5_init 81 = .ok (.pop, 1) := dk_87 (dk_at dksX5_init_3 13 rfl rfl)
theorem dX5_init_82 : decode cX5_init 82 = .ok (.iinc 1 1, 3) := dk_132 1 1 (dk_at dksX5_init_3 14 rfl rfl)
theorem dX5_init_85 : decode cX5_init 85 = .ok (.goto (-24), 3) := dk_167 255 232 (dk_at dksX5_init_3 17 rfl rfl)
theorem dX5_init_88 : decode cX5_init 88 = .ok (.return_, 1) := dk_177 (dk_at dksX5_init_3 20 rfl rfl)
abbrev cX5_keeps : ByteArray := prog_3_method_2_code
def yX5_keeps : MethodName := ⟨RX5, "keeps", "()V"⟩
def dkwX5_keeps_2 : List UInt8 := [182, 0, 52, 192, 0, 9, 42, 180, 0, 12, 182, 0, 55, 42, 89, 180, 0, 44, 4, 96, 181, 0, 44, 177]
abbrev dktX5_keeps_2 : List UInt8 := dkwX5_keeps_2 ++ []
def dkwX5_keeps_1 : List UInt8 := [182, 0, 40, 87, 42, 89, 180, 0, 44, 4, 100, 181, 0, 44, 42, 180, 0, 23, 42, 180, 0, 44]
abbrev dktX5_keeps_1 : List UInt8 := dkwX5_keeps_1 ++ dktX5_keeps_2
def dkwX5_keeps_0 : List UInt8 := [42, 180, 0, 44, 16, 40, 160, 0, 32, 42, 180, 0, 23, 42, 180, 0, 23, 3, 182, 0, 48, 192, 0, 9]
abbrev dktX5_keeps_0 : List UInt8 := dkwX5_keeps_0 ++ dktX5_keeps_1
theorem dksX5_keeps_0 : cX5_keeps.data.toList.drop 0 = dktX5_keeps_0 := by decide +kernel
theorem dksX5_keeps_1 : cX5_keeps.data.toList.drop 24 = dktX5_keeps_1 := dk_seg dksX5_keeps_0 24 rfl rfl
theorem dksX5_keeps_2 : cX5_keeps.data.toList.drop 46 = dktX5_keeps_2 := dk_seg dksX5_keeps_1 22 rfl rfl
theorem dX5_keeps_0 : decode cX5_keeps 0 = .ok (.aload_n 0, 1) := dk_42 (dk_at dksX5_keeps_0 0 rfl rfl)
theorem dX5_keeps_1 : decode cX5_keeps 1 = .ok (.getfield 44, 3) := dk_180 0 44 (dk_at dksX5_keeps_0 1 rfl rfl)
theorem dX5_keeps_4 : decode cX5_keeps 4 = .ok (.bipush 40, 2) := dk_16 40 (dk_at dksX5_keeps_0 4 rfl rfl)
theorem dX5_keeps_6 : decode cX5_keeps 6 = .ok (.if_icmp .ne 32, 3) := dk_160 0 32 (dk_at dksX5_keeps_0 6 rfl rfl)
theorem dX5_keeps_9 : decode cX5_keeps 9 = .ok (.aload_n 0, 1) := dk_42 (dk_at dksX5_keeps_0 9 rfl rfl)
theorem dX5_keeps_10 : decode cX5_keeps 10 = .ok (.getfield 23, 3) := dk_180 0 23 (dk_at dksX5_keeps_0 10 rfl rfl)
theorem dX5_keeps_13 : decode cX5_keeps 13 = .ok (.aload_n 0, 1) := dk_42 (dk_at dksX5_keeps_0 13 rfl rfl)
theorem dX5_keeps_14 : decode cX5_keeps 14 = .ok (.getfield 23, 3) := dk_180 0 23 (dk_at dksX5_keeps_0 14 rfl rfl)
theorem dX5_keeps_17 : decode cX5_keeps 17 = .ok (.iconst 0, 1) := dk_3 (dk_at dksX5_keeps_0 17 rfl rfl)
theorem dX5_keeps_18 : decode cX5_keeps 18 = .ok (.invokevirtual 48, 3) := dk_182 0 48 (dk_at dksX5_keeps_0 18 rfl rfl)
theorem dX5_keeps_21 : decode cX5_keeps 21 = .ok (.checkcast 9, 3) := dk_192 0 9 (dk_at dksX5_keeps_0 21 rfl rfl)
theorem dX5_keeps_24 : decode cX5_keeps 24 = .ok (.invokevirtual 40, 3) := dk_182 0 40 (dk_at dksX5_keeps_1 0 rfl rfl)
theorem dX5_keeps_27 : decode cX5_keeps 27 = .ok (.pop, 1) := dk_87 (dk_at dksX5_keeps_1 3 rfl rfl)
theorem dX5_keeps_28 : decode cX5_keeps 28 = .ok (.aload_n 0, 1) := dk_42 (dk_at dksX5_keeps_1 4 rfl rfl)
theorem dX5_keeps_29 : decode cX5_keeps 29 = .ok (.dup, 1) := dk_89 (dk_at dksX5_keeps_1 5 rfl rfl)
theorem dX5_keeps_30 : decode cX5_keeps 30 = .ok (.getfield 44, 3) := dk_180 0 44 (dk_at dksX5_keeps_1 6 rfl rfl)
theorem dX5_keeps_33 : decode cX5_keeps 33 = .ok (.iconst 1, 1) := dk_4 (dk_at dksX5_keeps_1 9 rfl rfl)
theorem dX5_keeps_34 : decode cX5_keeps 34 = .ok (.isub, 1) := dk_100 (dk_at dksX5_keeps_1 10 rfl rfl)
theorem dX5_keeps_35 : decode cX5_keeps 35 = .ok (.putfield 44, 3) := dk_181 0 44 (dk_at dksX5_keeps_1 11 rfl rfl)
theorem dX5_keeps_38 : decode cX5_keeps 38 = .ok (.aload_n 0, 1) := dk_42 (dk_at dksX5_keeps_1 14 rfl rfl)
theorem dX5_keeps_39 : decode cX5_keeps 39 = .ok (.getfield 23, 3) := dk_180 0 23 (dk_at dksX5_keeps_1 15 rfl rfl)
theorem dX5_keeps_42 : decode cX5_keeps 42 = .ok (.aload_n 0, 1) := dk_42 (dk_at dksX5_keeps_1 18 rfl rfl)
theorem dX5_keeps_43 : decode cX5_keeps 43 = .ok (.getfield 44, 3) := dk_180 0 44 (dk_at dksX5_keeps_1 19 rfl rfl)
theorem dX5_keeps_46 : decode cX5_keeps 46 = .ok (.invokevirtual 52, 3) := dk_182 0 52 (dk_at dksX5_keeps_2 0 rfl rfl)
theorem dX5_keeps_49 : decode cX5_keeps 49 = .ok (.checkcast 9, 3) := dk_192 0 9 (dk_at dksX5_keeps_2 3 rfl rfl)
theorem dX5_keeps_52 : decode cX5_keeps 52 = .ok (.aload_n 0, 1) := dk_42 (dk_at dksX5_keeps_2 6 rfl rfl)
theorem dX5_keeps_53 : decode cX5_keeps 53 = .ok (.getfield 12, 3) := dk_180 0 12 (dk_at dksX5_keeps_2 7 rfl rfl)
theorem dX5_keeps_56 : decode cX5_keeps 56 = .ok (.invokevirtual 55, 3) := dk_182 0 55 (dk_at dksX5_keeps_2 10 rfl rfl)
theorem dX5_keeps_59 : decode cX5_keeps 59 = .ok (.aload_n 0, 1) := dk_42 (dk_at dksX5_keeps_2 13 rfl rfl)
theorem dX5_keeps_60 : decode cX5_keeps 60 = .ok (.dup, 1) := dk_89 (dk_at dksX5_keeps_2 14 rfl rfl)
theorem dX5_keeps_61 : decode cX5_keeps 61 = .ok (.getfield 44, 3) := dk_180 0 44 (dk_at dksX5_keeps_2 15 rfl rfl)
theorem dX5_keeps_64 : decode cX5_keeps 64 = .ok (.iconst 1, 1) := dk_4 (dk_at dksX5_keeps_2 18 rfl rfl)
theorem dX5_keeps_65 : decode cX5_keeps 65 = .ok (.iadd, 1) := dk_96 (dk_at dksX5_keeps_2 19 rfl rfl)
theorem dX5_keeps_66 : decode cX5_keeps 66 = .ok (.putfield 44, 3) := dk_181 0 44 (dk_at dksX5_keeps_2 20 rfl rfl)
theorem dX5_keeps_69 : decode cX5_keeps 69 = .ok (.return_, 1) := dk_177 (dk_at dksX5_keeps_2 23 rfl rfl)
abbrev cX5_like : ByteArray := prog_3_method_3_code
def yX5_like : MethodName := ⟨RX5, "like", "(LSableCrown$Book;)V"⟩
def dkwX5_like_5 : List UInt8 := [43, 180, 0, 44, 181, 0, 44, 42, 43, 180, 0, 65, 181, 0, 65, 177]
abbrev dktX5_like_5 : List UInt8 := dkwX5_like_5 ++ []
def dkwX5_like_4 : List UInt8 := [16, 8, 184, 0, 59, 43, 180, 0, 37, 3, 42, 180, 0, 37, 3, 42, 180, 0, 37, 190, 184, 0, 59, 42]
abbrev dktX5_like_4 : List UInt8 := dkwX5_like_4 ++ dktX5_like_5
def dkwX5_like_3 : List UInt8 := [180, 0, 31, 3, 42, 180, 0, 31, 3, 16, 8, 184, 0, 59, 43, 180, 0, 34, 3, 42, 180, 0, 34, 3]
abbrev dktX5_like_3 : List UInt8 := dkwX5_like_3 ++ dktX5_like_4
def dkwX5_like_2 : List UInt8 := [132, 2, 1, 167, 255, 220, 43, 180, 0, 27, 3, 42, 180, 0, 27, 3, 16, 8, 184, 0, 59, 43]
abbrev dktX5_like_2 : List UInt8 := dkwX5_like_2 ++ dktX5_like_3
def dkwX5_like_1 : List UInt8 := [180, 0, 23, 28, 182, 0, 52, 192, 0, 9, 43, 180, 0, 23, 28, 182, 0, 52, 192, 0, 9, 182, 0, 55]
abbrev dktX5_like_1 : List UInt8 := dkwX5_like_1 ++ dktX5_like_2
def dkwX5_like_0 : List UInt8 := [42, 180, 0, 12, 43, 180, 0, 12, 182, 0, 55, 3, 61, 28, 43, 180, 0, 44, 162, 0, 34, 42]
abbrev dktX5_like_0 : List UInt8 := dkwX5_like_0 ++ dktX5_like_1
theorem dksX5_like_0 : cX5_like.data.toList.drop 0 = dktX5_like_0 := by decide +kernel
theorem dksX5_like_1 : cX5_like.data.toList.drop 22 = dktX5_like_1 := dk_seg dksX5_like_0 22 rfl rfl
theorem dksX5_like_2 : cX5_like.data.toList.drop 46 = dktX5_like_2 := dk_seg dksX5_like_1 24 rfl rfl
theorem dksX5_like_3 : cX5_like.data.toList.drop 68 = dktX5_like_3 := dk_seg dksX5_like_2 22 rfl rfl
theorem dksX5_like_4 : cX5_like.data.toList.drop 92 = dktX5_like_4 := dk_seg dksX5_like_3 24 rfl rfl
theorem dksX5_like_5 : cX5_like.data.toList.drop 116 = dktX5_like_5 := dk_seg dksX5_like_4 24 rfl rfl
theorem dX5_like_0 : decode cX5_like 0 = .ok (.aload_n 0, 1) := dk_42 (dk_at dksX5_like_0 0 rfl rfl)
theorem dX5_like_1 : decode cX5_like 1 = .ok (.getfield 12, 3) := dk_180 0 12 (dk_at dksX5_like_0 1 rfl rfl)
theorem dX5_like_4 : decode cX5_like 4 = .ok (.aload_n 1, 1) := dk_43 (dk_at dksX5_like_0 4 rfl rfl)
theorem dX5_like_5 : decode cX5_like 5 = .ok (.getfield 12, 3) := dk_180 0 12 (dk_at dksX5_like_0 5 rfl rfl)
theorem dX5_like_8 : decode cX5_like 8 = .ok (.invokevirtual 55, 3) := dk_182 0 55 (dk_at dksX5_like_0 8 rfl rfl)
theorem dX5_like_11 : decode cX5_like 11 = .ok (.iconst 0, 1) := dk_3 (dk_at dksX5_like_0 11 rfl rfl)
theorem dX5_like_12 : decode cX5_like 12 = .ok (.istore_n 2, 1) := dk_61 (dk_at dksX5_like_0 12 rfl rfl)
theorem dX5_like_13 : decode cX5_like 13 = .ok (.iload_n 2, 1) := dk_28 (dk_at dksX5_like_0 13 rfl rfl)
theorem dX5_like_14 : decode cX5_like 14 = .ok (.aload_n 1, 1) := dk_43 (dk_at dksX5_like_0 14 rfl rfl)
theorem dX5_like_15 : decode cX5_like 15 = .ok (.getfield 44, 3) := dk_180 0 44 (dk_at dksX5_like_0 15 rfl rfl)
theorem dX5_like_18 : decode cX5_like 18 = .ok (.if_icmp .ge 34, 3) := dk_162 0 34 (dk_at dksX5_like_0 18 rfl rfl)
theorem dX5_like_21 : decode cX5_like 21 = .ok (.aload_n 0, 1) := dk_42 (dk_at dksX5_like_0 21 rfl rfl)
theorem dX5_like_22 : decode cX5_like 22 = .ok (.getfield 23, 3) := dk_180 0 23 (dk_at dksX5_like_1 0 rfl rfl)
theorem dX5_like_25 : decode cX5_like 25 = .ok (.iload_n 2, 1) := dk_28 (dk_at dksX5_like_1 3 rfl rfl)
theorem dX5_like_26 : decode cX5_like 26 = .ok (.invokevirtual 52, 3) := dk_182 0 52 (dk_at dksX5_like_1 4 rfl rfl)
theorem dX5_like_29 : decode cX5_like 29 = .ok (.checkcast 9, 3) := dk_192 0 9 (dk_at dksX5_like_1 7 rfl rfl)
theorem dX5_like_32 : decode cX5_like 32 = .ok (.aload_n 1, 1) := dk_43 (dk_at dksX5_like_1 10 rfl rfl)
theorem dX5_like_33 : decode cX5_like 33 = .ok (.getfield 23, 3) := dk_180 0 23 (dk_at dksX5_like_1 11 rfl rfl)
theorem dX5_like_36 : decode cX5_like 36 = .ok (.iload_n 2, 1) := dk_28 (dk_at dksX5_like_1 14 rfl rfl)
theorem dX5_like_37 : decode cX5_like 37 = .ok (.invokevirtual 52, 3) := dk_182 0 52 (dk_at dksX5_like_1 15 rfl rfl)
theorem dX5_like_40 : decode cX5_like 40 = .ok (.checkcast 9, 3) := dk_192 0 9 (dk_at dksX5_like_1 18 rfl rfl)
theorem dX5_like_43 : decode cX5_like 43 = .ok (.invokevirtual 55, 3) := dk_182 0 55 (dk_at dksX5_like_1 21 rfl rfl)
theorem dX5_like_46 : decode cX5_like 46 = .ok (.iinc 2 1, 3) := dk_132 2 1 (dk_at dksX5_like_2 0 rfl rfl)
theorem dX5_like_49 : decode cX5_like 49 = .ok (.goto (-36), 3) := dk_167 255 220 (dk_at dksX5_like_2 3 rfl rfl)
theorem dX5_like_52 : decode cX5_like 52 = .ok (.aload_n 1, 1) := dk_43 (dk_at dksX5_like_2 6 rfl rfl)
theorem dX5_like_53 : decode cX5_like 53 = .ok (.getfield 27, 3) := dk_180 0 27 (dk_at dksX5_like_2 7 rfl rfl)
theorem dX5_like_56 : decode cX5_like 56 = .ok (.iconst 0, 1) := dk_3 (dk_at dksX5_like_2 10 rfl rfl)
theorem dX5_like_57 : decode cX5_like 57 = .ok (.aload_n 0, 1) := dk_42 (dk_at dksX5_like_2 11 rfl rfl)
theorem dX5_like_58 : decode cX5_like 58 = .ok (.getfield 27, 3) := dk_180 0 27 (dk_at dksX5_like_2 12 rfl rfl)
theorem dX5_like_61 : decode cX5_like 61 = .ok (.iconst 0, 1) := dk_3 (dk_at dksX5_like_2 15 rfl rfl)
theorem dX5_like_62 : decode cX5_like 62 = .ok (.bipush 8, 2) := dk_16 8 (dk_at dksX5_like_2 16 rfl rfl)
theorem dX5_like_64 : decode cX5_like 64 = .ok (.invokestatic 59, 3) := dk_184 0 59 (dk_at dksX5_like_2 18 rfl rfl)
theorem dX5_like_67 : decode cX5_like 67 = .ok (.aload_n 1, 1) := dk_43 (dk_at dksX5_like_2 21 rfl rfl)
theorem dX5_like_68 : decode cX5_like 68 = .ok (.getfield 31, 3) := dk_180 0 31 (dk_at dksX5_like_3 0 rfl rfl)
theorem dX5_like_71 : decode cX5_like 71 = .ok (.iconst 0, 1) := dk_3 (dk_at dksX5_like_3 3 rfl rfl)
theorem dX5_like_72 : decode cX5_like 72 = .ok (.aload_n 0, 1) := dk_42 (dk_at dksX5_like_3 4 rfl rfl)
theorem dX5_like_73 : decode cX5_like 73 = .ok (.getfield 31, 3) := dk_180 0 31 (dk_at dksX5_like_3 5 rfl rfl)
theorem dX5_like_76 : decode cX5_like 76 = .ok (.iconst 0, 1) := dk_3 (dk_at dksX5_like_3 8 rfl rfl)
theorem dX5_like_77 : decode cX5_like 77 = .ok (.bipush 8, 2) := dk_16 8 (dk_at dksX5_like_3 9 rfl rfl)
theorem dX5_like_79 : decode cX5_like 79 = .ok (.invokestatic 59, 3) := dk_184 0 59 (dk_at dksX5_like_3 11 rfl rfl)
theorem dX5_like_82 : decode cX5_like 82 = .ok (.aload_n 1, 1) := dk_43 (dk_at dksX5_like_3 14 rfl rfl)
theorem dX5_like_83 : decode cX5_like 83 = .ok (.getfield 34, 3) := dk_180 0 34 (dk_at dksX5_like_3 15 rfl rfl)
theorem dX5_like_86 : decode cX5_like 86 = .ok (.iconst 0, 1) := dk_3 (dk_at dksX5_like_3 18 rfl rfl)
theorem dX5_like_87 : decode cX5_like 87 = .ok (.aload_n 0, 1) := dk_42 (dk_at dksX5_like_3 19 rfl rfl)
theorem dX5_like_88 : decode cX5_like 88 = .ok (.getfield 34, 3) := dk_180 0 34 (dk_at dksX5_like_3 20 rfl rfl)
theorem dX5_like_91 : decode cX5_like 91 = .ok (.iconst 0, 1) := dk_3 (dk_at dksX5_like_3 23 rfl rfl)
theorem dX5_like_92 : decode cX5_like 92 = .ok (.bipush 8, 2) := dk_16 8 (dk_at dksX5_like_4 0 rfl rfl)
theorem dX5_like_94 : decode cX5_like 94 = .ok (.invokestatic 59, 3) := dk_184 0 59 (dk_at dksX5_like_4 2 rfl rfl)
theorem dX5_like_97 : decode cX5_like 97 = .ok (.aload_n 1, 1) := dk_43 (dk_at dksX5_like_4 5 rfl rfl)
theorem dX5_like_98 : decode cX5_like 98 = .ok (.getfield 37, 3) := dk_180 0 37 (dk_at dksX5_like_4 6 rfl rfl)
theorem dX5_like_101 : decode cX5_like 101 = .ok (.iconst 0, 1) := dk_3 (dk_at dksX5_like_4 9 rfl rfl)
theorem dX5_like_102 : decode cX5_like 102 = .ok (.aload_n 0, 1) := dk_42 (dk_at dksX5_like_4 10 rfl rfl)
theorem dX5_like_103 : decode cX5_like 103 = .ok (.getfield 37, 3) := dk_180 0 37 (dk_at dksX5_like_4 11 rfl rfl)
theorem dX5_like_106 : decode cX5_like 106 = .ok (.iconst 0, 1) := dk_3 (dk_at dksX5_like_4 14 rfl rfl)
theorem dX5_like_107 : decode cX5_like 107 = .ok (.aload_n 0, 1) := dk_42 (dk_at dksX5_like_4 15 rfl rfl)
theorem dX5_like_108 : decode cX5_like 108 = .ok (.getfield 37, 3) := dk_180 0 37 (dk_at dksX5_like_4 16 rfl rfl)
theorem dX5_like_111 : decode cX5_like 111 = .ok (.arraylength, 1) := dk_190 (dk_at dksX5_like_4 19 rfl rfl)
theorem dX5_like_112 : decode cX5_like 112 = .ok (.invokestatic 59, 3) := dk_184 0 59 (dk_at dksX5_like_4 20 rfl rfl)
theorem dX5_like_115 : decode cX5_like 115 = .ok (.aload_n 0, 1) := dk_42 (dk_at dksX5_like_4 23 rfl rfl)
theorem dX5_like_116 : decode cX5_like 116 = .ok (.aload_n 1, 1) := dk_43 (dk_at dksX5_like_5 0 rfl rfl)
theorem dX5_like_117 : decode cX5_like 117 = .ok (.getfield 44, 3) := dk_180 0 44 (dk_at dksX5_like_5 1 rfl rfl)
theorem dX5_like_120 : decode cX5_like 120 = .ok (.putfield 44, 3) := dk_181 0 44 (dk_at dksX5_like_5 4 rfl rfl)
theorem dX5_like_123 : decode cX5_like 123 = .ok (.aload_n 0, 1) := dk_42 (dk_at dksX5_like_5 7 rfl rfl)
theorem dX5_like_124 : decode cX5_like 124 = .ok (.aload_n 1, 1) := dk_43 (dk_at dksX5_like_5 8 rfl rfl)
theorem dX5_like_125 : decode cX5_like 125 = .ok (.getfield 65, 3) := dk_180 0 65 (dk_at dksX5_like_5 9 rfl rfl)
theorem dX5_like_128 : decode cX5_like 128 = .ok (.putfield 65, 3) := dk_181 0 65 (dk_at dksX5_like_5 12 rfl rfl)
theorem dX5_like_131 : decode cX5_like 131 = .ok (.return_, 1) := dk_177 (dk_at dksX5_like_5 15 rfl rfl)
theorem q129 : (Jvm.Cond.initialized "SableCrown$Book") ∈ lw_all := lw_g (lw_at lw_m1 25 rfl) rfl
theorem q578 : (Jvm.Cond.instantiable "SableCrown$Book" (8 : Nat)) ∈ lw_all := lw_g (lw_at lw_m2 234 rfl) rfl
theorem q580 : (Jvm.Cond.instanceMethod ({ cls := "SableCrown$Book", name := "<init>", desc := "()V" } : Jvm.MethodName)) ∈ lw_all := lw_g (lw_at lw_m2 236 rfl) rfl
theorem q581 : (Jvm.Cond.code ({ cls := "SableCrown$Book", name := "<init>", desc := "()V" } : Jvm.MethodName) prog_3_method_1_code (2 : Nat) (Option.none : Option Jvm.ClassFile.FieldType)) ∈ lw_all := lw_g (lw_at lw_m2 237 rfl) rfl
theorem q582 : (Jvm.Cond.methodLink "SableCrown$Book" (3 : Nat) ({ cls := "java/lang/Object", name := "<init>", desc := "()V" } : Jvm.MethodName)) ∈ lw_all := lw_g (lw_at lw_m2 238 rfl) rfl
theorem q583 : (Jvm.Cond.classLink "SableCrown$Book" (9 : Nat) "SableCrown$State") ∈ lw_all := lw_g (lw_at lw_m2 239 rfl) rfl
theorem q585 : (Jvm.Cond.methodLinkNest "SableCrown$Book" (11 : Nat) ({ cls := "SableCrown$State", name := "<init>", desc := "()V" } : Jvm.MethodName) "SableCrown") ∈ lw_tbl := lw_at lw_m3 1 rfl
theorem q642 : (Jvm.Cond.classLink "SableCrown$Book" (18 : Nat) "java/util/ArrayList") ∈ lw_all := lw_g (lw_at lw_m3 58 rfl) rfl
theorem q643 : (Jvm.Cond.methodLink "SableCrown$Book" (20 : Nat) ({ cls := "java/util/ArrayList", name := "<init>", desc := "(I)V" } : Jvm.MethodName)) ∈ lw_all := lw_g (lw_at lw_m3 59 rfl) rfl
theorem q644 : (Jvm.Cond.methodLink "SableCrown$Book" (40 : Nat) ({ cls := "java/util/ArrayList", name := "add", desc := "(Ljava/lang/Object;)Z" } : Jvm.MethodName)) ∈ lw_all := lw_g (lw_at lw_m3 60 rfl) rfl
theorem q671 : (Jvm.Cond.selects "SableCrown$Book" ({ cls := "java/lang/Object", name := "getClass", desc := "()Ljava/lang/Class;" } : Jvm.MethodName) ({ cls := "java/lang/Object", name := "getClass", desc := "()Ljava/lang/Class;" } : Jvm.MethodName)) ∈ lw_all := lw_g (lw_at lw_m3 87 rfl) rfl
theorem q698 : (Jvm.Cond.fieldLink "SableCrown$Book" (12 : Nat) "SableCrown$Book" "now" "LSableCrown$State;") ∈ lw_all := lw_g (lw_at lw_m3 114 rfl) rfl
theorem q700 : (Jvm.Cond.fieldLink "SableCrown$Book" (23 : Nat) "SableCrown$Book" "ahead" "Ljava/util/ArrayList;") ∈ lw_all := lw_g (lw_at lw_m3 116 rfl) rfl
theorem q702 : (Jvm.Cond.fieldLink "SableCrown$Book" (27 : Nat) "SableCrown$Book" "band" "[I") ∈ lw_all := lw_g (lw_at lw_m3 118 rfl) rfl
theorem q704 : (Jvm.Cond.fieldLink "SableCrown$Book" (31 : Nat) "SableCrown$Book" "when" "[I") ∈ lw_all := lw_g (lw_at lw_m3 120 rfl) rfl
theorem q706 : (Jvm.Cond.fieldLink "SableCrown$Book" (34 : Nat) "SableCrown$Book" "much" "[I") ∈ lw_all := lw_g (lw_at lw_m3 122 rfl) rfl
theorem q708 : (Jvm.Cond.fieldLink "SableCrown$Book" (37 : Nat) "SableCrown$Book" "refused" "[I") ∈ lw_all := lw_g (lw_at lw_m3 124 rfl) rfl
theorem q710 : (Jvm.Cond.fieldLink "SableCrown$Book" (44 : Nat) "SableCrown$Book" "acts" "I") ∈ lw_all := lw_g (lw_at lw_m3 126 rfl) rfl
theorem q712 : (Jvm.Cond.fieldLink "SableCrown$Book" (65 : Nat) "SableCrown$Book" "many" "I") ∈ lw_all := lw_g (lw_at lw_m3 128 rfl) rfl
theorem q714 : (Jvm.Cond.laysFinal "SableCrown$Book" "SableCrown$Book" "now" "LSableCrown$State;") ∈ lw_all := lw_g (lw_at lw_m3 130 rfl) rfl
theorem q715 : (Jvm.Cond.soleField "SableCrown$Book" "now") ∈ lw_all := lw_g (lw_at lw_m3 131 rfl) rfl
theorem q716 : (Jvm.Cond.laysFinal "SableCrown$Book" "SableCrown$Book" "ahead" "Ljava/util/ArrayList;") ∈ lw_all := lw_g (lw_at lw_m3 132 rfl) rfl
theorem q717 : (Jvm.Cond.soleField "SableCrown$Book" "ahead") ∈ lw_all := lw_g (lw_at lw_m3 133 rfl) rfl
theorem q718 : (Jvm.Cond.laysFinal "SableCrown$Book" "SableCrown$Book" "band" "[I") ∈ lw_all := lw_g (lw_at lw_m3 134 rfl) rfl
theorem q719 : (Jvm.Cond.soleField "SableCrown$Book" "band") ∈ lw_all := lw_g (lw_at lw_m3 135 rfl) rfl
theorem q720 : (Jvm.Cond.laysFinal "SableCrown$Book" "SableCrown$Book" "when" "[I") ∈ lw_all := lw_g (lw_at lw_m3 136 rfl) rfl
theorem q721 : (Jvm.Cond.soleField "SableCrown$Book" "when") ∈ lw_all := lw_g (lw_at lw_m3 137 rfl) rfl
theorem q722 : (Jvm.Cond.laysFinal "SableCrown$Book" "SableCrown$Book" "much" "[I") ∈ lw_all := lw_g (lw_at lw_m3 138 rfl) rfl
theorem q723 : (Jvm.Cond.soleField "SableCrown$Book" "much") ∈ lw_all := lw_g (lw_at lw_m3 139 rfl) rfl
theorem q724 : (Jvm.Cond.laysFinal "SableCrown$Book" "SableCrown$Book" "refused" "[I") ∈ lw_all := lw_g (lw_at lw_m3 140 rfl) rfl
theorem q725 : (Jvm.Cond.soleField "SableCrown$Book" "refused") ∈ lw_all := lw_g (lw_at lw_m3 141 rfl) rfl
theorem q726 : (Jvm.Cond.lays "SableCrown$Book" "SableCrown$Book" "acts" "I") ∈ lw_all := lw_g (lw_at lw_m3 142 rfl) rfl
theorem q727 : (Jvm.Cond.soleField "SableCrown$Book" "acts") ∈ lw_all := lw_g (lw_at lw_m3 143 rfl) rfl
theorem q728 : (Jvm.Cond.lays "SableCrown$Book" "SableCrown$Book" "many" "I") ∈ lw_all := lw_g (lw_at lw_m3 144 rfl) rfl
theorem q729 : (Jvm.Cond.soleField "SableCrown$Book" "many") ∈ lw_all := lw_g (lw_at lw_m3 145 rfl) rfl
theorem q730 : (Jvm.Cond.superclass "SableCrown$Book" "java/lang/Object") ∈ lw_all := lw_g (lw_at lw_m3 146 rfl) rfl
theorem q794 : (Jvm.Cond.instanceMethod ({ cls := "SableCrown$Book", name := "keeps", desc := "()V" } : Jvm.MethodName)) ∈ lw_all := lw_g (lw_at lw_m3 210 rfl) rfl
theorem q795 : (Jvm.Cond.selects "SableCrown$Book" ({ cls := "SableCrown$Book", name := "keeps", desc := "()V" } : Jvm.MethodName) ({ cls := "SableCrown$Book", name := "keeps", desc := "()V" } : Jvm.MethodName)) ∈ lw_all := lw_g (lw_at lw_m3 211 rfl) rfl
theorem q796 : (Jvm.Cond.code ({ cls := "SableCrown$Book", name := "keeps", desc := "()V" } : Jvm.MethodName) prog_3_method_2_code (1 : Nat) (Option.none : Option Jvm.ClassFile.FieldType)) ∈ lw_all := lw_g (lw_at lw_m3 212 rfl) rfl
theorem q797 : (Jvm.Cond.methodLink "SableCrown$Book" (48 : Nat) ({ cls := "java/util/ArrayList", name := "remove", desc := "(I)Ljava/lang/Object;" } : Jvm.MethodName)) ∈ lw_all := lw_g (lw_at lw_m3 213 rfl) rfl
theorem q812 : (Jvm.Cond.methodLink "SableCrown$Book" (52 : Nat) ({ cls := "java/util/ArrayList", name := "get", desc := "(I)Ljava/lang/Object;" } : Jvm.MethodName)) ∈ lw_all := lw_g (lw_at lw_m3 228 rfl) rfl
theorem q820 : (Jvm.Cond.methodLink "SableCrown$Book" (55 : Nat) ({ cls := "SableCrown$State", name := "like", desc := "(LSableCrown$State;)V" } : Jvm.MethodName)) ∈ lw_all := lw_g (lw_at lw_m3 236 rfl) rfl
theorem q937 : (Jvm.Cond.instanceMethod ({ cls := "SableCrown$Book", name := "like", desc := "(LSableCrown$Book;)V" } : Jvm.MethodName)) ∈ lw_all := lw_g (lw_at lw_m4 113 rfl) rfl
theorem q938 : (Jvm.Cond.selects "SableCrown$Book" ({ cls := "SableCrown$Book", name := "like", desc := "(LSableCrown$Book;)V" } : Jvm.MethodName) ({ cls := "SableCrown$Book", name := "like", desc := "(LSableCrown$Book;)V" } : Jvm.MethodName)) ∈ lw_all := lw_g (lw_at lw_m4 114 rfl) rfl
theorem q939 : (Jvm.Cond.code ({ cls := "SableCrown$Book", name := "like", desc := "(LSableCrown$Book;)V" } : Jvm.MethodName) prog_3_method_3_code (3 : Nat) (Option.none : Option Jvm.ClassFile.FieldType)) ∈ lw_all := lw_g (lw_at lw_m4 115 rfl) rfl
theorem q940 : (Jvm.Cond.methodLink "SableCrown$Book" (59 : Nat) ({ cls := "java/lang/System", name := "arraycopy", desc := "(Ljava/lang/Object;ILjava/lang/Object;II)V" } : Jvm.MethodName)) ∈ lw_all := lw_g (lw_at lw_m4 116 rfl) rfl
theorem q2311 : (Jvm.Cond.castable "SableCrown$Book" "java/lang/Object") ∈ lw_tbl := lw_at lw_m10 47 rfl
theorem in_X5 : ∀ w ∈ wsX50, w ∈ lw_all := lw_in wsX50 [714, 716, 718, 720, 722, 724, 726, 728] (by decide +kernel) (by decide +kernel)
/-! SableCrown$Fault -/
set_option maxRecDepth 100000
def RX9 : String := "SableCrown$Fault"
def TX9 : u_T := fun k => match k with
  | 0 => ("java/lang/Throwable", "cause", "Ljava/lang/Throwable;", false)
  | 1 => ("java/lang/Throwable", "stackTrace", "[Ljava/lang/StackTraceElement;", false)
  | 2 => ("java/lang/Throwable", "suppressedExceptions", "Ljava/util/List;", false)
  | 3 => ("java/lang/Throwable", "detailMessage", "Ljava/lang/String;", false)
  | 4 => ("java/lang/Throwable", "backtrace", "Ljava/lang/Object;", false)
  | 5 => ("java/lang/Throwable", "depth", "I", false)
  | 6 => ("SableCrown$Fault", "kind", "I", true)
  | _ => ("SableCrown$Fault", "place", "I", true)
def tyX9 : Nat → FieldType := fun k => match k with
  | 0 => .object "java/lang/Throwable"
  | 1 => .array (.object "java/lang/StackTraceElement")
  | 2 => .object "java/util/List"
  | 3 => .object "java/lang/String"
  | 4 => .object "java/lang/Object"
  | 5 => .int
  | 6 => .int
  | _ => .int
abbrev wsX90 : List Cond := u_ws RX9 TX9 8
theorem nmX9 : ∀ a, a < 8 → ∀ b, b < 8 → a ≠ b → (TX9 a).2.1 ≠ (TX9 b).2.1 := by decide +kernel
theorem tyX9_ok : ∀ k, k < 8 → parseFieldDescriptor (TX9 k).2.2.1 = some (tyX9 k) := by decide +kernel
abbrev cX9_init : ByteArray := prog_6_method_1_code
def yX9_init : MethodName := ⟨RX9, "<init>", "(II)V"⟩
def dkwX9_init_0 : List UInt8 := [42, 183, 0, 1, 42, 27, 181, 0, 7, 42, 28, 181, 0, 13, 177]
abbrev dktX9_init_0 : List UInt8 := dkwX9_init_0 ++ []
theorem dksX9_init_0 : cX9_init.data.toList.drop 0 = dktX9_init_0 := by decide +kernel
theorem dX9_init_0 : decode cX9_init 0 = .ok (.aload_n 0, 1) := dk_42 (dk_at dksX9_init_0 0 rfl rfl)
theorem dX9_init_1 : decode cX9_init 1 = .ok (.invokespecial 1, 3) := dk_183 0 1 (dk_at dksX9_init_0 1 rfl rfl)
theorem dX9_init_4 : decode cX9_init 4 = .ok (.aload_n 0, 1) := dk_42 (dk_at dksX9_init_0 4 rfl rfl)
theorem dX9_init_5 : decode cX9_init 5 = .ok (.iload_n 1, 1) := dk_27 (dk_at dksX9_init_0 5 rfl rfl)
theorem dX9_init_6 : decode cX9_init 6 = .ok (.putfield 7, 3) := dk_181 0 7 (dk_at dksX9_init_0 6 rfl rfl)
theorem dX9_init_9 : decode cX9_init 9 = .ok (.aload_n 0, 1) := dk_42 (dk_at dksX9_init_0 9 rfl rfl)
theorem dX9_init_10 : decode cX9_init 10 = .ok (.iload_n 2, 1) := dk_28 (dk_at dksX9_init_0 10 rfl rfl)
theorem dX9_init_11 : decode cX9_init 11 = .ok (.putfield 13, 3) := dk_181 0 13 (dk_at dksX9_init_0 11 rfl rfl)
theorem dX9_init_14 : decode cX9_init 14 = .ok (.return_, 1) := dk_177 (dk_at dksX9_init_0 14 rfl rfl)
theorem q134 : (Jvm.Cond.initialized "SableCrown$Fault") ∈ lw_all := lw_g (lw_at lw_m1 30 rfl) rfl
theorem q208 : (Jvm.Cond.selects "SableCrown$Fault" ({ cls := "java/lang/Throwable", name := "fillInStackTrace", desc := "()Ljava/lang/Throwable;" } : Jvm.MethodName) ({ cls := "java/lang/Throwable", name := "fillInStackTrace", desc := "()Ljava/lang/Throwable;" } : Jvm.MethodName)) ∈ lw_all := lw_g (lw_at lw_m1 104 rfl) rfl
theorem q673 : (Jvm.Cond.selects "SableCrown$Fault" ({ cls := "java/lang/Object", name := "getClass", desc := "()Ljava/lang/Class;" } : Jvm.MethodName) ({ cls := "java/lang/Object", name := "getClass", desc := "()Ljava/lang/Class;" } : Jvm.MethodName)) ∈ lw_all := lw_g (lw_at lw_m3 89 rfl) rfl
theorem q1095 : (Jvm.Cond.instantiable "SableCrown$Fault" (8 : Nat)) ∈ lw_all := lw_g (lw_at lw_m5 31 rfl) rfl
theorem q1096 : (Jvm.Cond.castable "SableCrown$Fault" "SableCrown$Fault") ∈ lw_tbl := lw_at lw_m5 32 rfl
theorem q1097 : (Jvm.Cond.selects "SableCrown$Fault" ({ cls := "java/lang/Throwable", name := "fillInStackTrace", desc := "(I)Ljava/lang/Throwable;" } : Jvm.MethodName) ({ cls := "java/lang/Throwable", name := "fillInStackTrace", desc := "(I)Ljava/lang/Throwable;" } : Jvm.MethodName)) ∈ lw_all := lw_g (lw_at lw_m5 33 rfl) rfl
theorem q1098 : (Jvm.Cond.lays "SableCrown$Fault" "java/lang/Throwable" "cause" "Ljava/lang/Throwable;") ∈ lw_all := lw_g (lw_at lw_m5 34 rfl) rfl
theorem q1099 : (Jvm.Cond.lays "SableCrown$Fault" "java/lang/Throwable" "stackTrace" "[Ljava/lang/StackTraceElement;") ∈ lw_all := lw_g (lw_at lw_m5 35 rfl) rfl
theorem q1100 : (Jvm.Cond.lays "SableCrown$Fault" "java/lang/Throwable" "suppressedExceptions" "Ljava/util/List;") ∈ lw_all := lw_g (lw_at lw_m5 36 rfl) rfl
theorem q1101 : (Jvm.Cond.lays "SableCrown$Fault" "java/lang/Throwable" "detailMessage" "Ljava/lang/String;") ∈ lw_all := lw_g (lw_at lw_m5 37 rfl) rfl
theorem q1102 : (Jvm.Cond.lays "SableCrown$Fault" "java/lang/Throwable" "backtrace" "Ljava/lang/Object;") ∈ lw_all := lw_g (lw_at lw_m5 38 rfl) rfl
theorem q1104 : (Jvm.Cond.instanceMethod ({ cls := "SableCrown$Fault", name := "<init>", desc := "(II)V" } : Jvm.MethodName)) ∈ lw_all := lw_g (lw_at lw_m5 40 rfl) rfl
theorem q1105 : (Jvm.Cond.code ({ cls := "SableCrown$Fault", name := "<init>", desc := "(II)V" } : Jvm.MethodName) prog_6_method_1_code (3 : Nat) (Option.none : Option Jvm.ClassFile.FieldType)) ∈ lw_all := lw_g (lw_at lw_m5 41 rfl) rfl
theorem q1106 : (Jvm.Cond.methodLink "SableCrown$Fault" (1 : Nat) ({ cls := "java/lang/Exception", name := "<init>", desc := "()V" } : Jvm.MethodName)) ∈ lw_all := lw_g (lw_at lw_m5 42 rfl) rfl
theorem q1107 : (Jvm.Cond.fieldLink "SableCrown$Fault" (7 : Nat) "SableCrown$Fault" "kind" "I") ∈ lw_all := lw_g (lw_at lw_m5 43 rfl) rfl
theorem q1109 : (Jvm.Cond.fieldLink "SableCrown$Fault" (13 : Nat) "SableCrown$Fault" "place" "I") ∈ lw_all := lw_g (lw_at lw_m5 45 rfl) rfl
theorem q1111 : (Jvm.Cond.laysFinal "SableCrown$Fault" "SableCrown$Fault" "kind" "I") ∈ lw_all := lw_g (lw_at lw_m5 47 rfl) rfl
theorem q1112 : (Jvm.Cond.soleField "SableCrown$Fault" "kind") ∈ lw_all := lw_g (lw_at lw_m5 48 rfl) rfl
theorem q1113 : (Jvm.Cond.laysFinal "SableCrown$Fault" "SableCrown$Fault" "place" "I") ∈ lw_all := lw_g (lw_at lw_m5 49 rfl) rfl
theorem q1114 : (Jvm.Cond.soleField "SableCrown$Fault" "place") ∈ lw_all := lw_g (lw_at lw_m5 50 rfl) rfl
theorem q1115 : (Jvm.Cond.lays "SableCrown$Fault" "java/lang/Throwable" "depth" "I") ∈ lw_all := lw_g (lw_at lw_m5 51 rfl) rfl
theorem q1116 : (Jvm.Cond.superclass "SableCrown$Fault" "java/lang/Exception") ∈ lw_all := lw_g (lw_at lw_m5 52 rfl) rfl
theorem q2316 : (Jvm.Cond.castable "SableCrown$Fault" "java/lang/Object") ∈ lw_tbl := lw_at lw_m10 52 rfl
theorem in_X9 : ∀ w ∈ wsX90, w ∈ lw_all := lw_in wsX90 [1098, 1099, 1100, 1101, 1102, 1115, 1111, 1113] (by decide +kernel) (by decide +kernel)
/-! SableCrown$Forest -/
set_option maxRecDepth 100000
def RX10 : String := "SableCrown$Forest"
def TX10 : u_T := fun k => match k with
  | 0 => ("SableCrown$Forest", "sables", "I", true)
  | 1 => ("SableCrown$Forest", "black", "I", true)
  | 2 => ("SableCrown$Forest", "room", "I", true)
  | _ => ("SableCrown$Forest", "grows", "I", true)
def tyX10 : Nat → FieldType := fun k => match k with
  | 0 => .int
  | 1 => .int
  | 2 => .int
  | _ => .int
abbrev wsX100 : List Cond := u_ws RX10 TX10 4
theorem nmX10 : ∀ a, a < 4 → ∀ b, b < 4 → a ≠ b → (TX10 a).2.1 ≠ (TX10 b).2.1 := by decide +kernel
theorem tyX10_ok : ∀ k, k < 4 → parseFieldDescriptor (TX10 k).2.2.1 = some (tyX10 k) := by decide +kernel
abbrev cX10_grown : ByteArray := prog_7_method_2_code
def yX10_grown : MethodName := ⟨RX10, "grown", "(I)I"⟩
def dkwX10_grown_0 : List UInt8 := [27, 42, 180, 0, 16, 27, 27, 42, 180, 0, 19, 104, 16, 100, 108, 96, 184, 0, 22, 184, 0, 28, 172]
abbrev dktX10_grown_0 : List UInt8 := dkwX10_grown_0 ++ []
theorem dksX10_grown_0 : cX10_grown.data.toList.drop 0 = dktX10_grown_0 := by decide +kernel
theorem dX10_grown_0 : decode cX10_grown 0 = .ok (.iload_n 1, 1) := dk_27 (dk_at dksX10_grown_0 0 rfl rfl)
theorem dX10_grown_1 : decode cX10_grown 1 = .ok (.aload_n 0, 1) := dk_42 (dk_at dksX10_grown_0 1 rfl rfl)
theorem dX10_grown_2 : decode cX10_grown 2 = .ok (.getfield 16, 3) := dk_180 0 16 (dk_at dksX10_grown_0 2 rfl rfl)
theorem dX10_grown_5 : decode cX10_grown 5 = .ok (.iload_n 1, 1) := dk_27 (dk_at dksX10_grown_0 5 rfl rfl)
theorem dX10_grown_6 : decode cX10_grown 6 = .ok (.iload_n 1, 1) := dk_27 (dk_at dksX10_grown_0 6 rfl rfl)
theorem dX10_grown_7 : decode cX10_grown 7 = .ok (.aload_n 0, 1) := dk_42 (dk_at dksX10_grown_0 7 rfl rfl)
theorem dX10_grown_8 : decode cX10_grown 8 = .ok (.getfield 19, 3) := dk_180 0 19 (dk_at dksX10_grown_0 8 rfl rfl)
theorem dX10_grown_11 : decode cX10_grown 11 = .ok (.imul, 1) := dk_104 (dk_at dksX10_grown_0 11 rfl rfl)
theorem dX10_grown_12 : decode cX10_grown 12 = .ok (.bipush 100, 2) := dk_16 100 (dk_at dksX10_grown_0 12 rfl rfl)
theorem dX10_grown_14 : decode cX10_grown 14 = .ok (.idiv, 1) := dk_108 (dk_at dksX10_grown_0 14 rfl rfl)
theorem dX10_grown_15 : decode cX10_grown 15 = .ok (.iadd, 1) := dk_96 (dk_at dksX10_grown_0 15 rfl rfl)
theorem dX10_grown_16 : decode cX10_grown 16 = .ok (.invokestatic 22, 3) := dk_184 0 22 (dk_at dksX10_grown_0 16 rfl rfl)
theorem dX10_grown_19 : decode cX10_grown 19 = .ok (.invokestatic 28, 3) := dk_184 0 28 (dk_at dksX10_grown_0 19 rfl rfl)
theorem dX10_grown_22 : decode cX10_grown 22 = .ok (.ireturn, 1) := dk_172 (dk_at dksX10_grown_0 22 rfl rfl)
abbrev cX10_grownBlack : ByteArray := prog_7_method_3_code
def yX10_grownBlack : MethodName := ⟨RX10, "grownBlack", "(II)I"⟩
def dkwX10_grownBlack_0 : List UInt8 := [28, 27, 27, 42, 180, 0, 19, 104, 16, 100, 108, 96, 184, 0, 22, 172]
abbrev dktX10_grownBlack_0 : List UInt8 := dkwX10_grownBlack_0 ++ []
theorem dksX10_grownBlack_0 : cX10_grownBlack.data.toList.drop 0 = dktX10_grownBlack_0 := by decide +kernel
theorem dX10_grownBlack_0 : decode cX10_grownBlack 0 = .ok (.iload_n 2, 1) := dk_28 (dk_at dksX10_grownBlack_0 0 rfl rfl)
theorem dX10_grownBlack_1 : decode cX10_grownBlack 1 = .ok (.iload_n 1, 1) := dk_27 (dk_at dksX10_grownBlack_0 1 rfl rfl)
theorem dX10_grownBlack_2 : decode cX10_grownBlack 2 = .ok (.iload_n 1, 1) := dk_27 (dk_at dksX10_grownBlack_0 2 rfl rfl)
theorem dX10_grownBlack_3 : decode cX10_grownBlack 3 = .ok (.aload_n 0, 1) := dk_42 (dk_at dksX10_grownBlack_0 3 rfl rfl)
theorem dX10_grownBlack_4 : decode cX10_grownBlack 4 = .ok (.getfield 19, 3) := dk_180 0 19 (dk_at dksX10_grownBlack_0 4 rfl rfl)
theorem dX10_grownBlack_7 : decode cX10_grownBlack 7 = .ok (.imul, 1) := dk_104 (dk_at dksX10_grownBlack_0 7 rfl rfl)
theorem dX10_grownBlack_8 : decode cX10_grownBlack 8 = .ok (.bipush 100, 2) := dk_16 100 (dk_at dksX10_grownBlack_0 8 rfl rfl)
theorem dX10_grownBlack_10 : decode cX10_grownBlack 10 = .ok (.idiv, 1) := dk_108 (dk_at dksX10_grownBlack_0 10 rfl rfl)
theorem dX10_grownBlack_11 : decode cX10_grownBlack 11 = .ok (.iadd, 1) := dk_96 (dk_at dksX10_grownBlack_0 11 rfl rfl)
theorem dX10_grownBlack_12 : decode cX10_grownBlack 12 = .ok (.invokestatic 22, 3) := dk_184 0 22 (dk_at dksX10_grownBlack_0 12 rfl rfl)
theorem dX10_grownBlack_15 : decode cX10_grownBlack 15 = .ok (.ireturn, 1) := dk_172 (dk_at dksX10_grownBlack_0 15 rfl rfl)
abbrev cX10_init : ByteArray := prog_7_method_1_code
def yX10_init : MethodName := ⟨RX10, "<init>", "(IIII)V"⟩
def dkwX10_init_1 : List UInt8 := [181, 0, 19, 177]
abbrev dktX10_init_1 : List UInt8 := dkwX10_init_1 ++ []
def dkwX10_init_0 : List UInt8 := [42, 183, 0, 1, 42, 27, 181, 0, 7, 42, 28, 181, 0, 13, 42, 29, 181, 0, 16, 42, 21, 4]
abbrev dktX10_init_0 : List UInt8 := dkwX10_init_0 ++ dktX10_init_1
theorem dksX10_init_0 : cX10_init.data.toList.drop 0 = dktX10_init_0 := by decide +kernel
theorem dksX10_init_1 : cX10_init.data.toList.drop 22 = dktX10_init_1 := dk_seg dksX10_init_0 22 rfl rfl
theorem dX10_init_0 : decode cX10_init 0 = .ok (.aload_n 0, 1) := dk_42 (dk_at dksX10_init_0 0 rfl rfl)
theorem dX10_init_1 : decode cX10_init 1 = .ok (.invokespecial 1, 3) := dk_183 0 1 (dk_at dksX10_init_0 1 rfl rfl)
theorem dX10_init_4 : decode cX10_init 4 = .ok (.aload_n 0, 1) := dk_42 (dk_at dksX10_init_0 4 rfl rfl)
theorem dX10_init_5 : decode cX10_init 5 = .ok (.iload_n 1, 1) := dk_27 (dk_at dksX10_init_0 5 rfl rfl)
theorem dX10_init_6 : decode cX10_init 6 = .ok (.putfield 7, 3) := dk_181 0 7 (dk_at dksX10_init_0 6 rfl rfl)
theorem dX10_init_9 : decode cX10_init 9 = .ok (.aload_n 0, 1) := dk_42 (dk_at dksX10_init_0 9 rfl rfl)
theorem dX10_init_10 : decode cX10_init 10 = .ok (.iload_n 2, 1) := dk_28 (dk_at dksX10_init_0 10 rfl rfl)
theorem dX10_init_11 : decode cX10_init 11 = .ok (.putfield 13, 3) := dk_181 0 13 (dk_at dksX10_init_0 11 rfl rfl)
theorem dX10_init_14 : decode cX10_init 14 = .ok (.aload_n 0, 1) := dk_42 (dk_at dksX10_init_0 14 rfl rfl)
theorem dX10_init_15 : decode cX10_init 15 = .ok (.iload_n 3, 1) := dk_29 (dk_at dksX10_init_0 15 rfl rfl)
theorem dX10_init_16 : decode cX10_init 16 = .ok (.putfield 16, 3) := dk_181 0 16 (dk_at dksX10_init_0 16 rfl rfl)
theorem dX10_init_19 : decode cX10_init 19 = .ok (.aload_n 0, 1) := dk_42 (dk_at dksX10_init_0 19 rfl rfl)
theorem dX10_init_20 : decode cX10_init 20 = .ok (.iload 4, 2) := dk_21 4 (dk_at dksX10_init_0 20 rfl rfl)
theorem dX10_init_22 : decode cX10_init 22 = .ok (.putfield 19, 3) := dk_181 0 19 (dk_at dksX10_init_1 0 rfl rfl)
theorem dX10_init_25 : decode cX10_init 25 = .ok (.return_, 1) := dk_177 (dk_at dksX10_init_1 3 rfl rfl)
theorem q135 : (Jvm.Cond.initialized "SableCrown$Forest") ∈ lw_all := lw_g (lw_at lw_m1 31 rfl) rfl
theorem q674 : (Jvm.Cond.selects "SableCrown$Forest" ({ cls := "java/lang/Object", name := "getClass", desc := "()Ljava/lang/Class;" } : Jvm.MethodName) ({ cls := "java/lang/Object", name := "getClass", desc := "()Ljava/lang/Class;" } : Jvm.MethodName)) ∈ lw_all := lw_g (lw_at lw_m3 90 rfl) rfl
theorem q904 : (Jvm.Cond.instanceMethod ({ cls := "SableCrown$Forest", name := "grown", desc := "(I)I" } : Jvm.MethodName)) ∈ lw_all := lw_g (lw_at lw_m4 80 rfl) rfl
theorem q905 : (Jvm.Cond.selects "SableCrown$Forest" ({ cls := "SableCrown$Forest", name := "grown", desc := "(I)I" } : Jvm.MethodName) ({ cls := "SableCrown$Forest", name := "grown", desc := "(I)I" } : Jvm.MethodName)) ∈ lw_all := lw_g (lw_at lw_m4 81 rfl) rfl
theorem q906 : (Jvm.Cond.code ({ cls := "SableCrown$Forest", name := "grown", desc := "(I)I" } : Jvm.MethodName) prog_7_method_2_code (2 : Nat) (Option.some Jvm.ClassFile.FieldType.int)) ∈ lw_all := lw_g (lw_at lw_m4 82 rfl) rfl
theorem q907 : (Jvm.Cond.methodLink "SableCrown$Forest" (22 : Nat) ({ cls := "java/lang/Math", name := "min", desc := "(II)I" } : Jvm.MethodName)) ∈ lw_all := lw_g (lw_at lw_m4 83 rfl) rfl
theorem q908 : (Jvm.Cond.methodLink "SableCrown$Forest" (28 : Nat) ({ cls := "java/lang/Math", name := "max", desc := "(II)I" } : Jvm.MethodName)) ∈ lw_all := lw_g (lw_at lw_m4 84 rfl) rfl
theorem q910 : (Jvm.Cond.instanceMethod ({ cls := "SableCrown$Forest", name := "grownBlack", desc := "(II)I" } : Jvm.MethodName)) ∈ lw_all := lw_g (lw_at lw_m4 86 rfl) rfl
theorem q911 : (Jvm.Cond.selects "SableCrown$Forest" ({ cls := "SableCrown$Forest", name := "grownBlack", desc := "(II)I" } : Jvm.MethodName) ({ cls := "SableCrown$Forest", name := "grownBlack", desc := "(II)I" } : Jvm.MethodName)) ∈ lw_all := lw_g (lw_at lw_m4 87 rfl) rfl
theorem q912 : (Jvm.Cond.code ({ cls := "SableCrown$Forest", name := "grownBlack", desc := "(II)I" } : Jvm.MethodName) prog_7_method_3_code (3 : Nat) (Option.some Jvm.ClassFile.FieldType.int)) ∈ lw_all := lw_g (lw_at lw_m4 88 rfl) rfl
theorem q1122 : (Jvm.Cond.instantiable "SableCrown$Forest" (4 : Nat)) ∈ lw_all := lw_g (lw_at lw_m5 58 rfl) rfl
theorem q1124 : (Jvm.Cond.instanceMethod ({ cls := "SableCrown$Forest", name := "<init>", desc := "(IIII)V" } : Jvm.MethodName)) ∈ lw_all := lw_g (lw_at lw_m5 60 rfl) rfl
theorem q1125 : (Jvm.Cond.code ({ cls := "SableCrown$Forest", name := "<init>", desc := "(IIII)V" } : Jvm.MethodName) prog_7_method_1_code (5 : Nat) (Option.none : Option Jvm.ClassFile.FieldType)) ∈ lw_all := lw_g (lw_at lw_m5 61 rfl) rfl
theorem q1126 : (Jvm.Cond.methodLink "SableCrown$Forest" (1 : Nat) ({ cls := "java/lang/Object", name := "<init>", desc := "()V" } : Jvm.MethodName)) ∈ lw_all := lw_g (lw_at lw_m5 62 rfl) rfl
theorem q1127 : (Jvm.Cond.fieldLink "SableCrown$Forest" (7 : Nat) "SableCrown$Forest" "sables" "I") ∈ lw_all := lw_g (lw_at lw_m5 63 rfl) rfl
theorem q1129 : (Jvm.Cond.fieldLink "SableCrown$Forest" (13 : Nat) "SableCrown$Forest" "black" "I") ∈ lw_all := lw_g (lw_at lw_m5 65 rfl) rfl
theorem q1131 : (Jvm.Cond.fieldLink "SableCrown$Forest" (16 : Nat) "SableCrown$Forest" "room" "I") ∈ lw_all := lw_g (lw_at lw_m5 67 rfl) rfl
theorem q1133 : (Jvm.Cond.fieldLink "SableCrown$Forest" (19 : Nat) "SableCrown$Forest" "grows" "I") ∈ lw_all := lw_g (lw_at lw_m5 69 rfl) rfl
theorem q1135 : (Jvm.Cond.laysFinal "SableCrown$Forest" "SableCrown$Forest" "sables" "I") ∈ lw_all := lw_g (lw_at lw_m5 71 rfl) rfl
theorem q1136 : (Jvm.Cond.soleField "SableCrown$Forest" "sables") ∈ lw_all := lw_g (lw_at lw_m5 72 rfl) rfl
theorem q1137 : (Jvm.Cond.laysFinal "SableCrown$Forest" "SableCrown$Forest" "black" "I") ∈ lw_all := lw_g (lw_at lw_m5 73 rfl) rfl
theorem q1138 : (Jvm.Cond.soleField "SableCrown$Forest" "black") ∈ lw_all := lw_g (lw_at lw_m5 74 rfl) rfl
theorem q1139 : (Jvm.Cond.laysFinal "SableCrown$Forest" "SableCrown$Forest" "room" "I") ∈ lw_all := lw_g (lw_at lw_m5 75 rfl) rfl
theorem q1140 : (Jvm.Cond.soleField "SableCrown$Forest" "room") ∈ lw_all := lw_g (lw_at lw_m5 76 rfl) rfl
theorem q1141 : (Jvm.Cond.laysFinal "SableCrown$Forest" "SableCrown$Forest" "grows" "I") ∈ lw_all := lw_g (lw_at lw_m5 77 rfl) rfl
theorem q1142 : (Jvm.Cond.soleField "SableCrown$Forest" "grows") ∈ lw_all := lw_g (lw_at lw_m5 78 rfl) rfl
theorem q1143 : (Jvm.Cond.superclass "SableCrown$Forest" "java/lang/Object") ∈ lw_all := lw_g (lw_at lw_m5 79 rfl) rfl
theorem q2317 : (Jvm.Cond.castable "SableCrown$Forest" "java/lang/Object") ∈ lw_tbl := lw_at lw_m10 53 rfl
theorem in_X10 : ∀ w ∈ wsX100, w ∈ lw_all := lw_in wsX100 [1135, 1137, 1139, 1141] (by decide +kernel) (by decide +kernel)
/-! SableCrown$Band -/
set_option maxRecDepth 100000
def RX11 : String := "SableCrown$Band"
def TX11 : u_T := fun k => match k with
  | 0 => ("SableCrown$Band", "bows", "I", true)
  | 1 => ("SableCrown$Band", "forest", "I", true)
  | _ => ("SableCrown$Band", "seen", "I", true)
def tyX11 : Nat → FieldType := fun k => match k with
  | 0 => .int
  | 1 => .int
  | _ => .int
abbrev wsX110 : List Cond := u_ws RX11 TX11 3
theorem nmX11 : ∀ a, a < 3 → ∀ b, b < 3 → a ≠ b → (TX11 a).2.1 ≠ (TX11 b).2.1 := by decide +kernel
theorem tyX11_ok : ∀ k, k < 3 → parseFieldDescriptor (TX11 k).2.2.1 = some (tyX11 k) := by decide +kernel
abbrev cX11_init : ByteArray := prog_2_method_1_code
def yX11_init : MethodName := ⟨RX11, "<init>", "(III)V"⟩
def dkwX11_init_0 : List UInt8 := [42, 183, 0, 1, 42, 27, 181, 0, 7, 42, 28, 181, 0, 13, 42, 29, 181, 0, 16, 177]
abbrev dktX11_init_0 : List UInt8 := dkwX11_init_0 ++ []
theorem dksX11_init_0 : cX11_init.data.toList.drop 0 = dktX11_init_0 := by decide +kernel
theorem dX11_init_0 : decode cX11_init 0 = .ok (.aload_n 0, 1) := dk_42 (dk_at dksX11_init_0 0 rfl rfl)
theorem dX11_init_1 : decode cX11_init 1 = .ok (.invokespecial 1, 3) := dk_183 0 1 (dk_at dksX11_init_0 1 rfl rfl)
theorem dX11_init_4 : decode cX11_init 4 = .ok (.aload_n 0, 1) := dk_42 (dk_at dksX11_init_0 4 rfl rfl)
theorem dX11_init_5 : decode cX11_init 5 = .ok (.iload_n 1, 1) := dk_27 (dk_at dksX11_init_0 5 rfl rfl)
theorem dX11_init_6 : decode cX11_init 6 = .ok (.putfield 7, 3) := dk_181 0 7 (dk_at dksX11_init_0 6 rfl rfl)
theorem dX11_init_9 : decode cX11_init 9 = .ok (.aload_n 0, 1) := dk_42 (dk_at dksX11_init_0 9 rfl rfl)
theorem dX11_init_10 : decode cX11_init 10 = .ok (.iload_n 2, 1) := dk_28 (dk_at dksX11_init_0 10 rfl rfl)
theorem dX11_init_11 : decode cX11_init 11 = .ok (.putfield 13, 3) := dk_181 0 13 (dk_at dksX11_init_0 11 rfl rfl)
theorem dX11_init_14 : decode cX11_init 14 = .ok (.aload_n 0, 1) := dk_42 (dk_at dksX11_init_0 14 rfl rfl)
theorem dX11_init_15 : decode cX11_init 15 = .ok (.iload_n 3, 1) := dk_29 (dk_at dksX11_init_0 15 rfl rfl)
theorem dX11_init_16 : decode cX11_init 16 = .ok (.putfield 16, 3) := dk_181 0 16 (dk_at dksX11_init_0 16 rfl rfl)
theorem dX11_init_19 : decode cX11_init 19 = .ok (.return_, 1) := dk_177 (dk_at dksX11_init_0 19 rfl rfl)
theorem q136 : (Jvm.Cond.initialized "SableCrown$Band") ∈ lw_all := lw_g (lw_at lw_m1 32 rfl) rfl
theorem q670 : (Jvm.Cond.selects "SableCrown$Band" ({ cls := "java/lang/Object", name := "getClass", desc := "()Ljava/lang/Class;" } : Jvm.MethodName) ({ cls := "java/lang/Object", name := "getClass", desc := "()Ljava/lang/Class;" } : Jvm.MethodName)) ∈ lw_all := lw_g (lw_at lw_m3 86 rfl) rfl
theorem q1164 : (Jvm.Cond.instantiable "SableCrown$Band" (3 : Nat)) ∈ lw_all := lw_g (lw_at lw_m5 100 rfl) rfl
theorem q1166 : (Jvm.Cond.instanceMethod ({ cls := "SableCrown$Band", name := "<init>", desc := "(III)V" } : Jvm.MethodName)) ∈ lw_all := lw_g (lw_at lw_m5 102 rfl) rfl
theorem q1167 : (Jvm.Cond.code ({ cls := "SableCrown$Band", name := "<init>", desc := "(III)V" } : Jvm.MethodName) prog_2_method_1_code (4 : Nat) (Option.none : Option Jvm.ClassFile.FieldType)) ∈ lw_all := lw_g (lw_at lw_m5 103 rfl) rfl
theorem q1168 : (Jvm.Cond.methodLink "SableCrown$Band" (1 : Nat) ({ cls := "java/lang/Object", name := "<init>", desc := "()V" } : Jvm.MethodName)) ∈ lw_all := lw_g (lw_at lw_m5 104 rfl) rfl
theorem q1169 : (Jvm.Cond.fieldLink "SableCrown$Band" (7 : Nat) "SableCrown$Band" "bows" "I") ∈ lw_all := lw_g (lw_at lw_m5 105 rfl) rfl
theorem q1171 : (Jvm.Cond.fieldLink "SableCrown$Band" (13 : Nat) "SableCrown$Band" "forest" "I") ∈ lw_all := lw_g (lw_at lw_m5 107 rfl) rfl
theorem q1173 : (Jvm.Cond.fieldLink "SableCrown$Band" (16 : Nat) "SableCrown$Band" "seen" "I") ∈ lw_all := lw_g (lw_at lw_m5 109 rfl) rfl
theorem q1175 : (Jvm.Cond.laysFinal "SableCrown$Band" "SableCrown$Band" "bows" "I") ∈ lw_all := lw_g (lw_at lw_m5 111 rfl) rfl
theorem q1176 : (Jvm.Cond.soleField "SableCrown$Band" "bows") ∈ lw_all := lw_g (lw_at lw_m5 112 rfl) rfl
theorem q1177 : (Jvm.Cond.laysFinal "SableCrown$Band" "SableCrown$Band" "forest" "I") ∈ lw_all := lw_g (lw_at lw_m5 113 rfl) rfl
theorem q1178 : (Jvm.Cond.soleField "SableCrown$Band" "forest") ∈ lw_all := lw_g (lw_at lw_m5 114 rfl) rfl
theorem q1179 : (Jvm.Cond.laysFinal "SableCrown$Band" "SableCrown$Band" "seen" "I") ∈ lw_all := lw_g (lw_at lw_m5 115 rfl) rfl
theorem q1180 : (Jvm.Cond.soleField "SableCrown$Band" "seen") ∈ lw_all := lw_g (lw_at lw_m5 116 rfl) rfl
theorem q1181 : (Jvm.Cond.superclass "SableCrown$Band" "java/lang/Object") ∈ lw_all := lw_g (lw_at lw_m5 117 rfl) rfl
theorem q2318 : (Jvm.Cond.castable "SableCrown$Band" "java/lang/Object") ∈ lw_tbl := lw_at lw_m10 54 rfl
theorem in_X11 : ∀ w ∈ wsX110, w ∈ lw_all := lw_in wsX110 [1175, 1177, 1179] (by decide +kernel) (by decide +kernel)
/-! SableCrown$Expr -/
set_option maxRecDepth 100000
def RX12 : String := "SableCrown$Expr"
abbrev cX12_init : ByteArray := prog_5_method_1_code
def yX12_init : MethodName := ⟨RX12, "<init>", "()V"⟩
theorem dX12_init_0 : decode cX12_init 0 = .ok (.aload_n 0, 1) := by decide +kernel
theorem dX12_init_1 : decode cX12_init 1 = .ok (.invokespecial 1, 3) := by decide +kernel
theorem dX12_init_4 : decode cX12_init 4 = .ok (.return_, 1) := by decide +kernel
theorem q139 : (Jvm.Cond.initialized "SableCrown$Expr") ∈ lw_all := lw_g (lw_at lw_m1 35 rfl) rfl
theorem q875 : (Jvm.Cond.declares ({ cls := "SableCrown$Expr", name := "by", desc := "(LSableCrown$View;)I" } : Jvm.MethodName)) ∈ lw_tbl := lw_at lw_m4 51 rfl
theorem q876 : (Jvm.Cond.sameMethod "SableCrown$Expr" "SableCrown$Expr" "by" "(LSableCrown$View;)I") ∈ lw_all := lw_g (lw_at lw_m4 52 rfl) rfl
theorem q1253 : (Jvm.Cond.instanceMethod ({ cls := "SableCrown$Expr", name := "<init>", desc := "()V" } : Jvm.MethodName)) ∈ lw_all := lw_g (lw_at lw_m5 189 rfl) rfl
theorem q1254 : (Jvm.Cond.code ({ cls := "SableCrown$Expr", name := "<init>", desc := "()V" } : Jvm.MethodName) prog_5_method_1_code (1 : Nat) (Option.none : Option Jvm.ClassFile.FieldType)) ∈ lw_all := lw_g (lw_at lw_m5 190 rfl) rfl
theorem q1255 : (Jvm.Cond.methodLink "SableCrown$Expr" (1 : Nat) ({ cls := "java/lang/Object", name := "<init>", desc := "()V" } : Jvm.MethodName)) ∈ lw_all := lw_g (lw_at lw_m5 191 rfl) rfl
/-! SableCrown$Told -/
set_option maxRecDepth 100000
def RX13 : String := "SableCrown$Told"
def TX13 : u_T := fun k => match k with
  | _ => ("SableCrown$Told", "n", "I", true)
def tyX13 : Nat → FieldType := fun k => match k with
  | _ => .int
abbrev wsX130 : List Cond := u_ws RX13 TX13 1
theorem nmX13 : ∀ a, a < 1 → ∀ b, b < 1 → a ≠ b → (TX13 a).2.1 ≠ (TX13 b).2.1 := by decide +kernel
theorem tyX13_ok : ∀ k, k < 1 → parseFieldDescriptor (TX13 k).2.2.1 = some (tyX13 k) := by decide +kernel
abbrev cX13_by : ByteArray := prog_14_method_2_code
def yX13_by : MethodName := ⟨RX13, "by", "(LSableCrown$View;)I"⟩
theorem dX13_by_0 : decode cX13_by 0 = .ok (.aload_n 0, 1) := by decide +kernel
theorem dX13_by_1 : decode cX13_by 1 = .ok (.getfield 7, 3) := by decide +kernel
theorem dX13_by_4 : decode cX13_by 4 = .ok (.ireturn, 1) := by decide +kernel
abbrev cX13_init : ByteArray := prog_14_method_1_code
def yX13_init : MethodName := ⟨RX13, "<init>", "(I)V"⟩
def dkwX13_init_0 : List UInt8 := [42, 183, 0, 1, 42, 27, 181, 0, 7, 177]
abbrev dktX13_init_0 : List UInt8 := dkwX13_init_0 ++ []
theorem dksX13_init_0 : cX13_init.data.toList.drop 0 = dktX13_init_0 := by decide +kernel
theorem dX13_init_0 : decode cX13_init 0 = .ok (.aload_n 0, 1) := dk_42 (dk_at dksX13_init_0 0 rfl rfl)
theorem dX13_init_1 : decode cX13_init 1 = .ok (.invokespecial 1, 3) := dk_183 0 1 (dk_at dksX13_init_0 1 rfl rfl)
theorem dX13_init_4 : decode cX13_init 4 = .ok (.aload_n 0, 1) := dk_42 (dk_at dksX13_init_0 4 rfl rfl)
theorem dX13_init_5 : decode cX13_init 5 = .ok (.iload_n 1, 1) := dk_27 (dk_at dksX13_init_0 5 rfl rfl)
theorem dX13_init_6 : decode cX13_init 6 = .ok (.putfield 7, 3) := dk_181 0 7 (dk_at dksX13_init_0 6 rfl rfl)
theorem dX13_init_9 : decode cX13_init 9 = .ok (.return_, 1) := dk_177 (dk_at dksX13_init_0 9 rfl rfl)
theorem q140 : (Jvm.Cond.initialized "SableCrown$Told") ∈ lw_all := lw_g (lw_at lw_m1 36 rfl) rfl
theorem q681 : (Jvm.Cond.selects "SableCrown$Told" ({ cls := "java/lang/Object", name := "getClass", desc := "()Ljava/lang/Class;" } : Jvm.MethodName) ({ cls := "java/lang/Object", name := "getClass", desc := "()Ljava/lang/Class;" } : Jvm.MethodName)) ∈ lw_all := lw_g (lw_at lw_m3 97 rfl) rfl
theorem q887 : (Jvm.Cond.instanceMethod ({ cls := "SableCrown$Told", name := "by", desc := "(LSableCrown$View;)I" } : Jvm.MethodName)) ∈ lw_all := lw_g (lw_at lw_m4 63 rfl) rfl
theorem q888 : (Jvm.Cond.code ({ cls := "SableCrown$Told", name := "by", desc := "(LSableCrown$View;)I" } : Jvm.MethodName) prog_14_method_2_code (2 : Nat) (Option.some Jvm.ClassFile.FieldType.int)) ∈ lw_all := lw_g (lw_at lw_m4 64 rfl) rfl
theorem q891 : (Jvm.Cond.selects "SableCrown$Told" ({ cls := "SableCrown$Expr", name := "by", desc := "(LSableCrown$View;)I" } : Jvm.MethodName) ({ cls := "SableCrown$Told", name := "by", desc := "(LSableCrown$View;)I" } : Jvm.MethodName)) ∈ lw_all := lw_g (lw_at lw_m4 67 rfl) rfl
theorem q1248 : (Jvm.Cond.instantiable "SableCrown$Told" (1 : Nat)) ∈ lw_all := lw_g (lw_at lw_m5 184 rfl) rfl
theorem q1250 : (Jvm.Cond.instanceMethod ({ cls := "SableCrown$Told", name := "<init>", desc := "(I)V" } : Jvm.MethodName)) ∈ lw_all := lw_g (lw_at lw_m5 186 rfl) rfl
theorem q1251 : (Jvm.Cond.code ({ cls := "SableCrown$Told", name := "<init>", desc := "(I)V" } : Jvm.MethodName) prog_14_method_1_code (2 : Nat) (Option.none : Option Jvm.ClassFile.FieldType)) ∈ lw_all := lw_g (lw_at lw_m5 187 rfl) rfl
theorem q1252 : (Jvm.Cond.methodLinkNest "SableCrown$Told" (1 : Nat) ({ cls := "SableCrown$Expr", name := "<init>", desc := "()V" } : Jvm.MethodName) "SableCrown") ∈ lw_tbl := lw_at lw_m5 188 rfl
theorem q1256 : (Jvm.Cond.fieldLink "SableCrown$Told" (7 : Nat) "SableCrown$Told" "n" "I") ∈ lw_all := lw_g (lw_at lw_m5 192 rfl) rfl
theorem q1257 : (Jvm.Cond.laysFinal "SableCrown$Told" "SableCrown$Told" "n" "I") ∈ lw_all := lw_g (lw_at lw_m5 193 rfl) rfl
theorem q1258 : (Jvm.Cond.soleField "SableCrown$Told" "n") ∈ lw_all := lw_g (lw_at lw_m5 194 rfl) rfl
theorem q1259 : (Jvm.Cond.superclass "SableCrown$Told" "SableCrown$Expr") ∈ lw_all := lw_g (lw_at lw_m5 195 rfl) rfl
theorem q2320 : (Jvm.Cond.castable "SableCrown$Told" "java/lang/Object") ∈ lw_tbl := lw_at lw_m10 56 rfl
theorem in_X13 : ∀ w ∈ wsX130, w ∈ lw_all := lw_in wsX130 [1257] (by decide +kernel) (by decide +kernel)
/-! SableCrown$Seen -/
set_option maxRecDepth 100000
def RX14 : String := "SableCrown$Seen"
def TX14 : u_T := fun k => match k with
  | _ => ("SableCrown$Seen", "value", "LSableCrown$Value;", true)
def tyX14 : Nat → FieldType := fun k => match k with
  | _ => .object "SableCrown$Value"
abbrev wsX140 : List Cond := u_ws RX14 TX14 1
theorem nmX14 : ∀ a, a < 1 → ∀ b, b < 1 → a ≠ b → (TX14 a).2.1 ≠ (TX14 b).2.1 := by decide +kernel
theorem tyX14_ok : ∀ k, k < 1 → parseFieldDescriptor (TX14 k).2.2.1 = some (tyX14 k) := by decide +kernel
abbrev cX14_by : ByteArray := prog_11_method_2_code
def yX14_by : MethodName := ⟨RX14, "by", "(LSableCrown$View;)I"⟩
def dkwX14_by_0 : List UInt8 := [43, 180, 0, 13, 42, 180, 0, 7, 182, 0, 19, 46, 172]
abbrev dktX14_by_0 : List UInt8 := dkwX14_by_0 ++ []
theorem dksX14_by_0 : cX14_by.data.toList.drop 0 = dktX14_by_0 := by decide +kernel
theorem dX14_by_0 : decode cX14_by 0 = .ok (.aload_n 1, 1) := dk_43 (dk_at dksX14_by_0 0 rfl rfl)
theorem dX14_by_1 : decode cX14_by 1 = .ok (.getfield 13, 3) := dk_180 0 13 (dk_at dksX14_by_0 1 rfl rfl)
theorem dX14_by_4 : decode cX14_by 4 = .ok (.aload_n 0, 1) := dk_42 (dk_at dksX14_by_0 4 rfl rfl)
theorem dX14_by_5 : decode cX14_by 5 = .ok (.getfield 7, 3) := dk_180 0 7 (dk_at dksX14_by_0 5 rfl rfl)
theorem dX14_by_8 : decode cX14_by 8 = .ok (.invokevirtual 19, 3) := dk_182 0 19 (dk_at dksX14_by_0 8 rfl rfl)
theorem dX14_by_11 : decode cX14_by 11 = .ok (.iaload, 1) := dk_46 (dk_at dksX14_by_0 11 rfl rfl)
theorem dX14_by_12 : decode cX14_by 12 = .ok (.ireturn, 1) := dk_172 (dk_at dksX14_by_0 12 rfl rfl)
abbrev cX14_init : ByteArray := prog_11_method_1_code
def yX14_init : MethodName := ⟨RX14, "<init>", "(LSableCrown$Value;)V"⟩
def dkwX14_init_0 : List UInt8 := [42, 183, 0, 1, 42, 43, 181, 0, 7, 177]
abbrev dktX14_init_0 : List UInt8 := dkwX14_init_0 ++ []
theorem dksX14_init_0 : cX14_init.data.toList.drop 0 = dktX14_init_0 := by decide +kernel
theorem dX14_init_0 : decode cX14_init 0 = .ok (.aload_n 0, 1) := dk_42 (dk_at dksX14_init_0 0 rfl rfl)
theorem dX14_init_1 : decode cX14_init 1 = .ok (.invokespecial 1, 3) := dk_183 0 1 (dk_at dksX14_init_0 1 rfl rfl)
theorem dX14_init_4 : decode cX14_init 4 = .ok (.aload_n 0, 1) := dk_42 (dk_at dksX14_init_0 4 rfl rfl)
theorem dX14_init_5 : decode cX14_init 5 = .ok (.aload_n 1, 1) := dk_43 (dk_at dksX14_init_0 5 rfl rfl)
theorem dX14_init_6 : decode cX14_init 6 = .ok (.putfield 7, 3) := dk_181 0 7 (dk_at dksX14_init_0 6 rfl rfl)
theorem dX14_init_9 : decode cX14_init 9 = .ok (.return_, 1) := dk_177 (dk_at dksX14_init_0 9 rfl rfl)
theorem q141 : (Jvm.Cond.initialized "SableCrown$Seen") ∈ lw_all := lw_g (lw_at lw_m1 37 rfl) rfl
theorem q517 : (Jvm.Cond.fieldLinkNest "SableCrown$Seen" (13 : Nat) "SableCrown$View" "of" "[I" "SableCrown") ∈ lw_tbl := lw_at lw_m2 173 rfl
theorem q678 : (Jvm.Cond.selects "SableCrown$Seen" ({ cls := "java/lang/Object", name := "getClass", desc := "()Ljava/lang/Class;" } : Jvm.MethodName) ({ cls := "java/lang/Object", name := "getClass", desc := "()Ljava/lang/Class;" } : Jvm.MethodName)) ∈ lw_all := lw_g (lw_at lw_m3 94 rfl) rfl
theorem q884 : (Jvm.Cond.instanceMethod ({ cls := "SableCrown$Seen", name := "by", desc := "(LSableCrown$View;)I" } : Jvm.MethodName)) ∈ lw_all := lw_g (lw_at lw_m4 60 rfl) rfl
theorem q885 : (Jvm.Cond.code ({ cls := "SableCrown$Seen", name := "by", desc := "(LSableCrown$View;)I" } : Jvm.MethodName) prog_11_method_2_code (2 : Nat) (Option.some Jvm.ClassFile.FieldType.int)) ∈ lw_all := lw_g (lw_at lw_m4 61 rfl) rfl
theorem q886 : (Jvm.Cond.methodLink "SableCrown$Seen" (19 : Nat) ({ cls := "SableCrown$Value", name := "ordinal", desc := "()I" } : Jvm.MethodName)) ∈ lw_all := lw_g (lw_at lw_m4 62 rfl) rfl
theorem q890 : (Jvm.Cond.selects "SableCrown$Seen" ({ cls := "SableCrown$Expr", name := "by", desc := "(LSableCrown$View;)I" } : Jvm.MethodName) ({ cls := "SableCrown$Seen", name := "by", desc := "(LSableCrown$View;)I" } : Jvm.MethodName)) ∈ lw_all := lw_g (lw_at lw_m4 66 rfl) rfl
theorem q1283 : (Jvm.Cond.instantiable "SableCrown$Seen" (1 : Nat)) ∈ lw_all := lw_g (lw_at lw_m5 219 rfl) rfl
theorem q1285 : (Jvm.Cond.instanceMethod ({ cls := "SableCrown$Seen", name := "<init>", desc := "(LSableCrown$Value;)V" } : Jvm.MethodName)) ∈ lw_all := lw_g (lw_at lw_m5 221 rfl) rfl
theorem q1286 : (Jvm.Cond.code ({ cls := "SableCrown$Seen", name := "<init>", desc := "(LSableCrown$Value;)V" } : Jvm.MethodName) prog_11_method_1_code (2 : Nat) (Option.none : Option Jvm.ClassFile.FieldType)) ∈ lw_all := lw_g (lw_at lw_m5 222 rfl) rfl
theorem q1287 : (Jvm.Cond.methodLinkNest "SableCrown$Seen" (1 : Nat) ({ cls := "SableCrown$Expr", name := "<init>", desc := "()V" } : Jvm.MethodName) "SableCrown") ∈ lw_tbl := lw_at lw_m5 223 rfl
theorem q1288 : (Jvm.Cond.fieldLink "SableCrown$Seen" (7 : Nat) "SableCrown$Seen" "value" "LSableCrown$Value;") ∈ lw_all := lw_g (lw_at lw_m5 224 rfl) rfl
theorem q1289 : (Jvm.Cond.laysFinal "SableCrown$Seen" "SableCrown$Seen" "value" "LSableCrown$Value;") ∈ lw_all := lw_g (lw_at lw_m5 225 rfl) rfl
theorem q1290 : (Jvm.Cond.soleField "SableCrown$Seen" "value") ∈ lw_all := lw_g (lw_at lw_m5 226 rfl) rfl
theorem q1291 : (Jvm.Cond.superclass "SableCrown$Seen" "SableCrown$Expr") ∈ lw_all := lw_g (lw_at lw_m5 227 rfl) rfl
theorem q2321 : (Jvm.Cond.castable "SableCrown$Seen" "java/lang/Object") ∈ lw_tbl := lw_at lw_m10 57 rfl
theorem in_X14 : ∀ w ∈ wsX140, w ∈ lw_all := lw_in wsX140 [1289] (by decide +kernel) (by decide +kernel)
/-! SableCrown$Both -/
set_option maxRecDepth 100000
def RX15 : String := "SableCrown$Both"
def TX15 : u_T := fun k => match k with
  | 0 => ("SableCrown$Both", "act", "C", true)
  | 1 => ("SableCrown$Both", "left", "LSableCrown$Expr;", true)
  | _ => ("SableCrown$Both", "right", "LSableCrown$Expr;", true)
def tyX15 : Nat → FieldType := fun k => match k with
  | 0 => .char
  | 1 => .object "SableCrown$Expr"
  | _ => .object "SableCrown$Expr"
abbrev wsX150 : List Cond := u_ws RX15 TX15 3
theorem nmX15 : ∀ a, a < 3 → ∀ b, b < 3 → a ≠ b → (TX15 a).2.1 ≠ (TX15 b).2.1 := by decide +kernel
theorem tyX15_ok : ∀ k, k < 3 → parseFieldDescriptor (TX15 k).2.2.1 = some (tyX15 k) := by decide +kernel
abbrev cX15_by : ByteArray := prog_4_method_2_code
def yX15_by : MethodName := ⟨RX15, "by", "(LSableCrown$View;)I"⟩
def dkwX15_by_5 : List UInt8 := [167, 0, 4, 3, 172]
abbrev dktX15_by_5 : List UInt8 := dkwX15_by_5 ++ []
def dkwX15_by_4 : List UInt8 := [153, 0, 11, 29, 153, 0, 7, 4, 167, 0, 4, 3, 172, 28, 154, 0, 7, 29, 153, 0, 7, 4]
abbrev dktX15_by_4 : List UInt8 := dkwX15_by_4 ++ dktX15_by_5
def dkwX15_by_3 : List UInt8 := [28, 29, 162, 0, 7, 4, 167, 0, 4, 3, 172, 28, 29, 160, 0, 7, 4, 167, 0, 4, 3, 172, 28]
abbrev dktX15_by_3 : List UInt8 := dkwX15_by_3 ++ dktX15_by_4
def dkwX15_by_2 : List UInt8 := [28, 29, 96, 172, 28, 29, 100, 172, 28, 29, 104, 172, 29, 154, 0, 7, 3, 167, 0, 6, 28, 29, 108, 172]
abbrev dktX15_by_2 : List UInt8 := dkwX15_by_2 ++ dktX15_by_3
def dkwX15_by_1 : List UInt8 := [170, 0, 0, 0, 0, 170, 0, 0, 0, 38, 0, 0, 0, 61, 0, 0, 0, 156, 0, 0, 0, 170, 0, 0, 0, 170, 0, 0, 0, 170, 0, 0, 0, 118, 0, 0, 0, 110, 0, 0, 0, 170, 0, 0, 0, 114, 0, 0, 0, 170, 0, 0, 0, 122, 0, 0, 0, 170, 0, 0, 0, 170, 0, 0, 0, 170, 0, 0, 0, 170, 0, 0, 0, 170, 0, 0, 0, 170, 0, 0, 0, 170, 0, 0, 0, 170, 0, 0, 0, 170, 0, 0, 0, 170, 0, 0, 0, 170, 0, 0, 0, 170, 0, 0, 0, 134, 0, 0, 0, 145]
abbrev dktX15_by_1 : List UInt8 := dkwX15_by_1 ++ dktX15_by_2
def dkwX15_by_0 : List UInt8 := [42, 180, 0, 13, 43, 182, 0, 20, 61, 42, 180, 0, 17, 43, 182, 0, 20, 62, 42, 180, 0, 7]
abbrev dktX15_by_0 : List UInt8 := dkwX15_by_0 ++ dktX15_by_1
theorem dksX15_by_0 : cX15_by.data.toList.drop 0 = dktX15_by_0 := by decide +kernel
theorem dksX15_by_1 : cX15_by.data.toList.drop 22 = dktX15_by_1 := dk_seg dksX15_by_0 22 rfl rfl
theorem dksX15_by_2 : cX15_by.data.toList.drop 132 = dktX15_by_2 := dk_seg dksX15_by_1 110 rfl rfl
theorem dksX15_by_3 : cX15_by.data.toList.drop 156 = dktX15_by_3 := dk_seg dksX15_by_2 24 rfl rfl
theorem dksX15_by_4 : cX15_by.data.toList.drop 179 = dktX15_by_4 := dk_seg dksX15_by_3 23 rfl rfl
theorem dksX15_by_5 : cX15_by.data.toList.drop 201 = dktX15_by_5 := dk_seg dksX15_by_4 22 rfl rfl
theorem dX15_by_0 : decode cX15_by 0 = .ok (.aload_n 0, 1) := dk_42 (dk_at dksX15_by_0 0 rfl rfl)
theorem dX15_by_1 : decode cX15_by 1 = .ok (.getfield 13, 3) := dk_180 0 13 (dk_at dksX15_by_0 1 rfl rfl)
theorem dX15_by_4 : decode cX15_by 4 = .ok (.aload_n 1, 1) := dk_43 (dk_at dksX15_by_0 4 rfl rfl)
theorem dX15_by_5 : decode cX15_by 5 = .ok (.invokevirtual 20, 3) := dk_182 0 20 (dk_at dksX15_by_0 5 rfl rfl)
theorem dX15_by_8 : decode cX15_by 8 = .ok (.istore_n 2, 1) := dk_61 (dk_at dksX15_by_0 8 rfl rfl)
theorem dX15_by_9 : decode cX15_by 9 = .ok (.aload_n 0, 1) := dk_42 (dk_at dksX15_by_0 9 rfl rfl)
theorem dX15_by_10 : decode cX15_by 10 = .ok (.getfield 17, 3) := dk_180 0 17 (dk_at dksX15_by_0 10 rfl rfl)
theorem dX15_by_13 : decode cX15_by 13 = .ok (.aload_n 1, 1) := dk_43 (dk_at dksX15_by_0 13 rfl rfl)
theorem dX15_by_14 : decode cX15_by 14 = .ok (.invokevirtual 20, 3) := dk_182 0 20 (dk_at dksX15_by_0 14 rfl rfl)
theorem dX15_by_17 : decode cX15_by 17 = .ok (.istore_n 3, 1) := dk_62 (dk_at dksX15_by_0 17 rfl rfl)
theorem dX15_by_18 : decode cX15_by 18 = .ok (.aload_n 0, 1) := dk_42 (dk_at dksX15_by_0 18 rfl rfl)
theorem dX15_by_19 : decode cX15_by 19 = .ok (.getfield 7, 3) := dk_180 0 7 (dk_at dksX15_by_0 19 rfl rfl)
theorem dX15_by_22 : decode cX15_by 22 = .ok (.tableswitch 170 38 61 #[156, 170, 170, 170, 118, 110, 170, 114, 170, 122, 170, 170, 170, 170, 170, 170, 170, 170, 170, 170, 170, 170, 134, 145], 110) := by decide +kernel
theorem dX15_by_132 : decode cX15_by 132 = .ok (.iload_n 2, 1) := dk_28 (dk_at dksX15_by_2 0 rfl rfl)
theorem dX15_by_133 : decode cX15_by 133 = .ok (.iload_n 3, 1) := dk_29 (dk_at dksX15_by_2 1 rfl rfl)
theorem dX15_by_134 : decode cX15_by 134 = .ok (.iadd, 1) := dk_96 (dk_at dksX15_by_2 2 rfl rfl)
theorem dX15_by_135 : decode cX15_by 135 = .ok (.ireturn, 1) := dk_172 (dk_at dksX15_by_2 3 rfl rfl)
theorem dX15_by_136 : decode cX15_by 136 = .ok (.iload_n 2, 1) := dk_28 (dk_at dksX15_by_2 4 rfl rfl)
theorem dX15_by_137 : decode cX15_by 137 = .ok (.iload_n 3, 1) := dk_29 (dk_at dksX15_by_2 5 rfl rfl)
theorem dX15_by_138 : decode cX15_by 138 = .ok (.isub, 1) := dk_100 (dk_at dksX15_by_2 6 rfl rfl)
theorem dX15_by_139 : decode cX15_by 139 = .ok (.ireturn, 1) := dk_172 (dk_at dksX15_by_2 7 rfl rfl)
theorem dX15_by_140 : decode cX15_by 140 = .ok (.iload_n 2, 1) := dk_28 (dk_at dksX15_by_2 8 rfl rfl)
theorem dX15_by_141 : decode cX15_by 141 = .ok (.iload_n 3, 1) := dk_29 (dk_at dksX15_by_2 9 rfl rfl)
theorem dX15_by_142 : decode cX15_by 142 = .ok (.imul, 1) := dk_104 (dk_at dksX15_by_2 10 rfl rfl)
theorem dX15_by_143 : decode cX15_by 143 = .ok (.ireturn, 1) := dk_172 (dk_at dksX15_by_2 11 rfl rfl)
theorem dX15_by_144 : decode cX15_by 144 = .ok (.iload_n 3, 1) := dk_29 (dk_at dksX15_by_2 12 rfl rfl)
theorem dX15_by_145 : decode cX15_by 145 = .ok (.ifCond .ne 7, 3) := dk_154 0 7 (dk_at dksX15_by_2 13 rfl rfl)
theorem dX15_by_148 : decode cX15_by 148 = .ok (.iconst 0, 1) := dk_3 (dk_at dksX15_by_2 16 rfl rfl)
theorem dX15_by_149 : decode cX15_by 149 = .ok (.goto 6, 3) := dk_167 0 6 (dk_at dksX15_by_2 17 rfl rfl)
theorem dX15_by_152 : decode cX15_by 152 = .ok (.iload_n 2, 1) := dk_28 (dk_at dksX15_by_2 20 rfl rfl)
theorem dX15_by_153 : decode cX15_by 153 = .ok (.iload_n 3, 1) := dk_29 (dk_at dksX15_by_2 21 rfl rfl)
theorem dX15_by_154 : decode cX15_by 154 = .ok (.idiv, 1) := dk_108 (dk_at dksX15_by_2 22 rfl rfl)
theorem dX15_by_155 : decode cX15_by 155 = .ok (.ireturn, 1) := dk_172 (dk_at dksX15_by_2 23 rfl rfl)
theorem dX15_by_156 : decode cX15_by 156 = .ok (.iload_n 2, 1) := dk_28 (dk_at dksX15_by_3 0 rfl rfl)
theorem dX15_by_157 : decode cX15_by 157 = .ok (.iload_n 3, 1) := dk_29 (dk_at dksX15_by_3 1 rfl rfl)
theorem dX15_by_158 : decode cX15_by 158 = .ok (.if_icmp .ge 7, 3) := dk_162 0 7 (dk_at dksX15_by_3 2 rfl rfl)
theorem dX15_by_161 : decode cX15_by 161 = .ok (.iconst 1, 1) := dk_4 (dk_at dksX15_by_3 5 rfl rfl)
theorem dX15_by_162 : decode cX15_by 162 = .ok (.goto 4, 3) := dk_167 0 4 (dk_at dksX15_by_3 6 rfl rfl)
theorem dX15_by_165 : decode cX15_by 165 = .ok (.iconst 0, 1) := dk_3 (dk_at dksX15_by_3 9 rfl rfl)
theorem dX15_by_166 : decode cX15_by 166 = .ok (.ireturn, 1) := dk_172 (dk_at dksX15_by_3 10 rfl rfl)
theorem dX15_by_167 : decode cX15_by 167 = .ok (.iload_n 2, 1) := dk_28 (dk_at dksX15_by_3 11 rfl rfl)
theorem dX15_by_168 : decode cX15_by 168 = .ok (.iload_n 3, 1) := dk_29 (dk_at dksX15_by_3 12 rfl rfl)
theorem dX15_by_169 : decode cX15_by 169 = .ok (.if_icmp .ne 7, 3) := dk_160 0 7 (dk_at dksX15_by_3 13 rfl rfl)
theorem dX15_by_172 : decode cX15_by 172 = .ok (.iconst 1, 1) := dk_4 (dk_at dksX15_by_3 16 rfl rfl)
theorem dX15_by_173 : decode cX15_by 173 = .ok (.goto 4, 3) := dk_167 0 4 (dk_at dksX15_by_3 17 rfl rfl)
theorem dX15_by_176 : decode cX15_by 176 = .ok (.iconst 0, 1) := dk_3 (dk_at dksX15_by_3 20 rfl rfl)
theorem dX15_by_177 : decode cX15_by 177 = .ok (.ireturn, 1) := dk_172 (dk_at dksX15_by_3 21 rfl rfl)
theorem dX15_by_178 : decode cX15_by 178 = .ok (.iload_n 2, 1) := dk_28 (dk_at dksX15_by_3 22 rfl rfl)
theorem dX15_by_179 : decode cX15_by 179 = .ok (.ifCond .eq 11, 3) := dk_153 0 11 (dk_at dksX15_by_4 0 rfl rfl)
theorem dX15_by_182 : decode cX15_by 182 = .ok (.iload_n 3, 1) := dk_29 (dk_at dksX15_by_4 3 rfl rfl)
theorem dX15_by_183 : decode cX15_by 183 = .ok (.ifCond .eq 7, 3) := dk_153 0 7 (dk_at dksX15_by_4 4 rfl rfl)
theorem dX15_by_186 : decode cX15_by 186 = .ok (.iconst 1, 1) := dk_4 (dk_at dksX15_by_4 7 rfl rfl)
theorem dX15_by_187 : decode cX15_by 187 = .ok (.goto 4, 3) := dk_167 0 4 (dk_at dksX15_by_4 8 rfl rfl)
theorem dX15_by_190 : decode cX15_by 190 = .ok (.iconst 0, 1) := dk_3 (dk_at dksX15_by_4 11 rfl rfl)
theorem dX15_by_191 : decode cX15_by 191 = .ok (.ireturn, 1) := dk_172 (dk_at dksX15_by_4 12 rfl rfl)
theorem dX15_by_192 : decode cX15_by 192 = .ok (.iload_n 2, 1) := dk_28 (dk_at dksX15_by_4 13 rfl rfl)
theorem dX15_by_193 : decode cX15_by 193 = .ok (.ifCond .ne 7, 3) := dk_154 0 7 (dk_at dksX15_by_4 14 rfl rfl)
theorem dX15_by_196 : decode cX15_by 196 = .ok (.iload_n 3, 1) := dk_29 (dk_at dksX15_by_4 17 rfl rfl)
theorem dX15_by_197 : decode cX15_by 197 = .ok (.ifCond .eq 7, 3) := dk_153 0 7 (dk_at dksX15_by_4 18 rfl rfl)
theorem dX15_by_200 : decode cX15_by 200 = .ok (.iconst 1, 1) := dk_4 (dk_at dksX15_by_4 21 rfl rfl)
theorem dX15_by_201 : decode cX15_by 201 = .ok (.goto 4, 3) := dk_167 0 4 (dk_at dksX15_by_5 0 rfl rfl)
theorem dX15_by_204 : decode cX15_by 204 = .ok (.iconst 0, 1) := dk_3 (dk_at dksX15_by_5 3 rfl rfl)
theorem dX15_by_205 : decode cX15_by 205 = .ok (.ireturn, 1) := dk_172 (dk_at dksX15_by_5 4 rfl rfl)
abbrev cX15_init : ByteArray := prog_4_method_1_code
def yX15_init : MethodName := ⟨RX15, "<init>", "(CLSableCrown$Expr;LSableCrown$Expr;)V"⟩
def dkwX15_init_0 : List UInt8 := [42, 183, 0, 1, 42, 27, 181, 0, 7, 42, 44, 181, 0, 13, 42, 45, 181, 0, 17, 177]
abbrev dktX15_init_0 : List UInt8 := dkwX15_init_0 ++ []
theorem dksX15_init_0 : cX15_init.data.toList.drop 0 = dktX15_init_0 := by decide +kernel
theorem dX15_init_0 : decode cX15_init 0 = .ok (.aload_n 0, 1) := dk_42 (dk_at dksX15_init_0 0 rfl rfl)
theorem dX15_init_1 : decode cX15_init 1 = .ok (.invokespecial 1, 3) := dk_183 0 1 (dk_at dksX15_init_0 1 rfl rfl)
theorem dX15_init_4 : decode cX15_init 4 = .ok (.aload_n 0, 1) := dk_42 (dk_at dksX15_init_0 4 rfl rfl)
theorem dX15_init_5 : decode cX15_init 5 = .ok (.iload_n 1, 1) := dk_27 (dk_at dksX15_init_0 5 rfl rfl)
theorem dX15_init_6 : decode cX15_init 6 = .ok (.putfield 7, 3) := dk_181 0 7 (dk_at dksX15_init_0 6 rfl rfl)
theorem dX15_init_9 : decode cX15_init 9 = .ok (.aload_n 0, 1) := dk_42 (dk_at dksX15_init_0 9 rfl rfl)
theorem dX15_init_10 : decode cX15_init 10 = .ok (.aload_n 2, 1) := dk_44 (dk_at dksX15_init_0 10 rfl rfl)
theorem dX15_init_11 : decode cX15_init 11 = .ok (.putfield 13, 3) := dk_181 0 13 (dk_at dksX15_init_0 11 rfl rfl)
theorem dX15_init_14 : decode cX15_init 14 = .ok (.aload_n 0, 1) := dk_42 (dk_at dksX15_init_0 14 rfl rfl)
theorem dX15_init_15 : decode cX15_init 15 = .ok (.aload_n 3, 1) := dk_45 (dk_at dksX15_init_0 15 rfl rfl)
theorem dX15_init_16 : decode cX15_init 16 = .ok (.putfield 17, 3) := dk_181 0 17 (dk_at dksX15_init_0 16 rfl rfl)
theorem dX15_init_19 : decode cX15_init 19 = .ok (.return_, 1) := dk_177 (dk_at dksX15_init_0 19 rfl rfl)
theorem q142 : (Jvm.Cond.initialized "SableCrown$Both") ∈ lw_all := lw_g (lw_at lw_m1 38 rfl) rfl
theorem q672 : (Jvm.Cond.selects "SableCrown$Both" ({ cls := "java/lang/Object", name := "getClass", desc := "()Ljava/lang/Class;" } : Jvm.MethodName) ({ cls := "java/lang/Object", name := "getClass", desc := "()Ljava/lang/Class;" } : Jvm.MethodName)) ∈ lw_all := lw_g (lw_at lw_m3 88 rfl) rfl
theorem q877 : (Jvm.Cond.selects "SableCrown$Both" ({ cls := "SableCrown$Expr", name := "by", desc := "(LSableCrown$View;)I" } : Jvm.MethodName) ({ cls := "SableCrown$Both", name := "by", desc := "(LSableCrown$View;)I" } : Jvm.MethodName)) ∈ lw_all := lw_g (lw_at lw_m4 53 rfl) rfl
theorem q878 : (Jvm.Cond.instanceMethod ({ cls := "SableCrown$Both", name := "by", desc := "(LSableCrown$View;)I" } : Jvm.MethodName)) ∈ lw_all := lw_g (lw_at lw_m4 54 rfl) rfl
theorem q879 : (Jvm.Cond.code ({ cls := "SableCrown$Both", name := "by", desc := "(LSableCrown$View;)I" } : Jvm.MethodName) prog_4_method_2_code (4 : Nat) (Option.some Jvm.ClassFile.FieldType.int)) ∈ lw_all := lw_g (lw_at lw_m4 55 rfl) rfl
theorem q880 : (Jvm.Cond.methodLink "SableCrown$Both" (20 : Nat) ({ cls := "SableCrown$Expr", name := "by", desc := "(LSableCrown$View;)I" } : Jvm.MethodName)) ∈ lw_all := lw_g (lw_at lw_m4 56 rfl) rfl
theorem q1310 : (Jvm.Cond.instantiable "SableCrown$Both" (3 : Nat)) ∈ lw_all := lw_g (lw_at lw_m6 6 rfl) rfl
theorem q1312 : (Jvm.Cond.instanceMethod ({ cls := "SableCrown$Both", name := "<init>", desc := "(CLSableCrown$Expr;LSableCrown$Expr;)V" } : Jvm.MethodName)) ∈ lw_all := lw_g (lw_at lw_m6 8 rfl) rfl
theorem q1313 : (Jvm.Cond.code ({ cls := "SableCrown$Both", name := "<init>", desc := "(CLSableCrown$Expr;LSableCrown$Expr;)V" } : Jvm.MethodName) prog_4_method_1_code (4 : Nat) (Option.none : Option Jvm.ClassFile.FieldType)) ∈ lw_all := lw_g (lw_at lw_m6 9 rfl) rfl
theorem q1314 : (Jvm.Cond.methodLinkNest "SableCrown$Both" (1 : Nat) ({ cls := "SableCrown$Expr", name := "<init>", desc := "()V" } : Jvm.MethodName) "SableCrown") ∈ lw_tbl := lw_at lw_m6 10 rfl
theorem q1315 : (Jvm.Cond.fieldLink "SableCrown$Both" (7 : Nat) "SableCrown$Both" "act" "C") ∈ lw_all := lw_g (lw_at lw_m6 11 rfl) rfl
theorem q1316 : (Jvm.Cond.fieldLink "SableCrown$Both" (13 : Nat) "SableCrown$Both" "left" "LSableCrown$Expr;") ∈ lw_all := lw_g (lw_at lw_m6 12 rfl) rfl
theorem q1317 : (Jvm.Cond.fieldLink "SableCrown$Both" (17 : Nat) "SableCrown$Both" "right" "LSableCrown$Expr;") ∈ lw_all := lw_g (lw_at lw_m6 13 rfl) rfl
theorem q1318 : (Jvm.Cond.laysFinal "SableCrown$Both" "SableCrown$Both" "act" "C") ∈ lw_all := lw_g (lw_at lw_m6 14 rfl) rfl
theorem q1319 : (Jvm.Cond.soleField "SableCrown$Both" "act") ∈ lw_all := lw_g (lw_at lw_m6 15 rfl) rfl
theorem q1320 : (Jvm.Cond.laysFinal "SableCrown$Both" "SableCrown$Both" "left" "LSableCrown$Expr;") ∈ lw_all := lw_g (lw_at lw_m6 16 rfl) rfl
theorem q1321 : (Jvm.Cond.soleField "SableCrown$Both" "left") ∈ lw_all := lw_g (lw_at lw_m6 17 rfl) rfl
theorem q1322 : (Jvm.Cond.laysFinal "SableCrown$Both" "SableCrown$Both" "right" "LSableCrown$Expr;") ∈ lw_all := lw_g (lw_at lw_m6 18 rfl) rfl
theorem q1323 : (Jvm.Cond.soleField "SableCrown$Both" "right") ∈ lw_all := lw_g (lw_at lw_m6 19 rfl) rfl
theorem q1324 : (Jvm.Cond.superclass "SableCrown$Both" "SableCrown$Expr") ∈ lw_all := lw_g (lw_at lw_m6 20 rfl) rfl
theorem q2322 : (Jvm.Cond.castable "SableCrown$Both" "java/lang/Object") ∈ lw_tbl := lw_at lw_m10 58 rfl
theorem in_X15 : ∀ w ∈ wsX150, w ∈ lw_all := lw_in wsX150 [1318, 1320, 1322] (by decide +kernel) (by decide +kernel)
/-! SableCrown$Not -/
set_option maxRecDepth 100000
def RX16 : String := "SableCrown$Not"
def TX16 : u_T := fun k => match k with
  | _ => ("SableCrown$Not", "part", "LSableCrown$Expr;", true)
def tyX16 : Nat → FieldType := fun k => match k with
  | _ => .object "SableCrown$Expr"
abbrev wsX160 : List Cond := u_ws RX16 TX16 1
theorem nmX16 : ∀ a, a < 1 → ∀ b, b < 1 → a ≠ b → (TX16 a).2.1 ≠ (TX16 b).2.1 := by decide +kernel
theorem tyX16_ok : ∀ k, k < 1 → parseFieldDescriptor (TX16 k).2.2.1 = some (tyX16 k) := by decide +kernel
abbrev cX16_by : ByteArray := prog_9_method_2_code
def yX16_by : MethodName := ⟨RX16, "by", "(LSableCrown$View;)I"⟩
def dkwX16_by_0 : List UInt8 := [42, 180, 0, 7, 43, 182, 0, 13, 154, 0, 7, 4, 167, 0, 4, 3, 172]
abbrev dktX16_by_0 : List UInt8 := dkwX16_by_0 ++ []
theorem dksX16_by_0 : cX16_by.data.toList.drop 0 = dktX16_by_0 := by decide +kernel
theorem dX16_by_0 : decode cX16_by 0 = .ok (.aload_n 0, 1) := dk_42 (dk_at dksX16_by_0 0 rfl rfl)
theorem dX16_by_1 : decode cX16_by 1 = .ok (.getfield 7, 3) := dk_180 0 7 (dk_at dksX16_by_0 1 rfl rfl)
theorem dX16_by_4 : decode cX16_by 4 = .ok (.aload_n 1, 1) := dk_43 (dk_at dksX16_by_0 4 rfl rfl)
theorem dX16_by_5 : decode cX16_by 5 = .ok (.invokevirtual 13, 3) := dk_182 0 13 (dk_at dksX16_by_0 5 rfl rfl)
theorem dX16_by_8 : decode cX16_by 8 = .ok (.ifCond .ne 7, 3) := dk_154 0 7 (dk_at dksX16_by_0 8 rfl rfl)
theorem dX16_by_11 : decode cX16_by 11 = .ok (.iconst 1, 1) := dk_4 (dk_at dksX16_by_0 11 rfl rfl)
theorem dX16_by_12 : decode cX16_by 12 = .ok (.goto 4, 3) := dk_167 0 4 (dk_at dksX16_by_0 12 rfl rfl)
theorem dX16_by_15 : decode cX16_by 15 = .ok (.iconst 0, 1) := dk_3 (dk_at dksX16_by_0 15 rfl rfl)
theorem dX16_by_16 : decode cX16_by 16 = .ok (.ireturn, 1) := dk_172 (dk_at dksX16_by_0 16 rfl rfl)
abbrev cX16_init : ByteArray := prog_9_method_1_code
def yX16_init : MethodName := ⟨RX16, "<init>", "(LSableCrown$Expr;)V"⟩
def dkwX16_init_0 : List UInt8 := [42, 183, 0, 1, 42, 43, 181, 0, 7, 177]
abbrev dktX16_init_0 : List UInt8 := dkwX16_init_0 ++ []
theorem dksX16_init_0 : cX16_init.data.toList.drop 0 = dktX16_init_0 := by decide +kernel
theorem dX16_init_0 : decode cX16_init 0 = .ok (.aload_n 0, 1) := dk_42 (dk_at dksX16_init_0 0 rfl rfl)
theorem dX16_init_1 : decode cX16_init 1 = .ok (.invokespecial 1, 3) := dk_183 0 1 (dk_at dksX16_init_0 1 rfl rfl)
theorem dX16_init_4 : decode cX16_init 4 = .ok (.aload_n 0, 1) := dk_42 (dk_at dksX16_init_0 4 rfl rfl)
theorem dX16_init_5 : decode cX16_init 5 = .ok (.aload_n 1, 1) := dk_43 (dk_at dksX16_init_0 5 rfl rfl)
theorem dX16_init_6 : decode cX16_init 6 = .ok (.putfield 7, 3) := dk_181 0 7 (dk_at dksX16_init_0 6 rfl rfl)
theorem dX16_init_9 : decode cX16_init 9 = .ok (.return_, 1) := dk_177 (dk_at dksX16_init_0 9 rfl rfl)
theorem q143 : (Jvm.Cond.initialized "SableCrown$Not") ∈ lw_all := lw_g (lw_at lw_m1 39 rfl) rfl
theorem q676 : (Jvm.Cond.selects "SableCrown$Not" ({ cls := "java/lang/Object", name := "getClass", desc := "()Ljava/lang/Class;" } : Jvm.MethodName) ({ cls := "java/lang/Object", name := "getClass", desc := "()Ljava/lang/Class;" } : Jvm.MethodName)) ∈ lw_all := lw_g (lw_at lw_m3 92 rfl) rfl
theorem q881 : (Jvm.Cond.instanceMethod ({ cls := "SableCrown$Not", name := "by", desc := "(LSableCrown$View;)I" } : Jvm.MethodName)) ∈ lw_all := lw_g (lw_at lw_m4 57 rfl) rfl
theorem q882 : (Jvm.Cond.code ({ cls := "SableCrown$Not", name := "by", desc := "(LSableCrown$View;)I" } : Jvm.MethodName) prog_9_method_2_code (2 : Nat) (Option.some Jvm.ClassFile.FieldType.int)) ∈ lw_all := lw_g (lw_at lw_m4 58 rfl) rfl
theorem q883 : (Jvm.Cond.methodLink "SableCrown$Not" (13 : Nat) ({ cls := "SableCrown$Expr", name := "by", desc := "(LSableCrown$View;)I" } : Jvm.MethodName)) ∈ lw_all := lw_g (lw_at lw_m4 59 rfl) rfl
theorem q889 : (Jvm.Cond.selects "SableCrown$Not" ({ cls := "SableCrown$Expr", name := "by", desc := "(LSableCrown$View;)I" } : Jvm.MethodName) ({ cls := "SableCrown$Not", name := "by", desc := "(LSableCrown$View;)I" } : Jvm.MethodName)) ∈ lw_all := lw_g (lw_at lw_m4 65 rfl) rfl
theorem q1330 : (Jvm.Cond.instantiable "SableCrown$Not" (1 : Nat)) ∈ lw_all := lw_g (lw_at lw_m6 26 rfl) rfl
theorem q1332 : (Jvm.Cond.instanceMethod ({ cls := "SableCrown$Not", name := "<init>", desc := "(LSableCrown$Expr;)V" } : Jvm.MethodName)) ∈ lw_all := lw_g (lw_at lw_m6 28 rfl) rfl
theorem q1333 : (Jvm.Cond.code ({ cls := "SableCrown$Not", name := "<init>", desc := "(LSableCrown$Expr;)V" } : Jvm.MethodName) prog_9_method_1_code (2 : Nat) (Option.none : Option Jvm.ClassFile.FieldType)) ∈ lw_all := lw_g (lw_at lw_m6 29 rfl) rfl
theorem q1334 : (Jvm.Cond.methodLinkNest "SableCrown$Not" (1 : Nat) ({ cls := "SableCrown$Expr", name := "<init>", desc := "()V" } : Jvm.MethodName) "SableCrown") ∈ lw_tbl := lw_at lw_m6 30 rfl
theorem q1335 : (Jvm.Cond.fieldLink "SableCrown$Not" (7 : Nat) "SableCrown$Not" "part" "LSableCrown$Expr;") ∈ lw_all := lw_g (lw_at lw_m6 31 rfl) rfl
theorem q1336 : (Jvm.Cond.laysFinal "SableCrown$Not" "SableCrown$Not" "part" "LSableCrown$Expr;") ∈ lw_all := lw_g (lw_at lw_m6 32 rfl) rfl
theorem q1337 : (Jvm.Cond.soleField "SableCrown$Not" "part") ∈ lw_all := lw_g (lw_at lw_m6 33 rfl) rfl
theorem q1338 : (Jvm.Cond.superclass "SableCrown$Not" "SableCrown$Expr") ∈ lw_all := lw_g (lw_at lw_m6 34 rfl) rfl
theorem q2323 : (Jvm.Cond.castable "SableCrown$Not" "java/lang/Object") ∈ lw_tbl := lw_at lw_m10 59 rfl
theorem in_X16 : ∀ w ∈ wsX160, w ∈ lw_all := lw_in wsX160 [1336] (by decide +kernel) (by decide +kernel)
/-! SableCrown$State -/
set_option maxRecDepth 100000
def RX6 : String := "SableCrown$State"
def TX6 : u_T := fun k => match k with
  | 0 => ("SableCrown$State", "sables", "[I", true)
  | 1 => ("SableCrown$State", "black", "[I", true)
  | 2 => ("SableCrown$State", "rest", "[I", true)
  | 3 => ("SableCrown$State", "bows", "[I", true)
  | 4 => ("SableCrown$State", "at", "[I", true)
  | 5 => ("SableCrown$State", "seen", "[I", true)
  | 6 => ("SableCrown$State", "store", "[I", true)
  | 7 => ("SableCrown$State", "owes", "[I", true)
  | 8 => ("SableCrown$State", "dead", "[I", true)
  | 9 => ("SableCrown$State", "year", "I", false)
  | 10 => ("SableCrown$State", "paid", "I", false)
  | 11 => ("SableCrown$State", "foxes", "I", false)
  | _ => ("SableCrown$State", "lastBlack", "I", false)
def tyX6 : Nat → FieldType := fun k => match k with
  | 0 => .array .int
  | 1 => .array .int
  | 2 => .array .int
  | 3 => .array .int
  | 4 => .array .int
  | 5 => .array .int
  | 6 => .array .int
  | 7 => .array .int
  | 8 => .array .int
  | 9 => .int
  | 10 => .int
  | 11 => .int
  | _ => .int
abbrev wsX60 : List Cond := u_ws RX6 TX6 13
set_option maxRecDepth 100000 in
theorem nmX6 : ∀ a, a < 13 → ∀ b, b < 13 → a ≠ b → (TX6 a).2.1 ≠ (TX6 b).2.1 := by decide +kernel
set_option maxRecDepth 100000 in
theorem tyX6_ok : ∀ k, k < 13 → parseFieldDescriptor (TX6 k).2.2.1 = some (tyX6 k) := by decide +kernel
abbrev cX6_init : ByteArray := prog_13_method_1_code
def yX6_init : MethodName := ⟨RX6, "<init>", "()V"⟩
def dkwX6_init_3 : List UInt8 := [188, 10, 181, 0, 36, 177]
abbrev dktX6_init_3 : List UInt8 := dkwX6_init_3 ++ []
def dkwX6_init_2 : List UInt8 := [188, 10, 181, 0, 27, 42, 16, 6, 188, 10, 181, 0, 30, 42, 16, 6, 188, 10, 181, 0, 33, 42, 16, 6]
abbrev dktX6_init_2 : List UInt8 := dkwX6_init_2 ++ dktX6_init_3
def dkwX6_init_1 : List UInt8 := [188, 10, 181, 0, 18, 42, 16, 6, 188, 10, 181, 0, 21, 42, 16, 6, 188, 10, 181, 0, 24, 42, 16, 6]
abbrev dktX6_init_1 : List UInt8 := dkwX6_init_1 ++ dktX6_init_2
def dkwX6_init_0 : List UInt8 := [42, 183, 0, 3, 42, 16, 8, 188, 10, 181, 0, 9, 42, 16, 8, 188, 10, 181, 0, 15, 42, 16, 8]
abbrev dktX6_init_0 : List UInt8 := dkwX6_init_0 ++ dktX6_init_1
theorem dksX6_init_0 : cX6_init.data.toList.drop 0 = dktX6_init_0 := by decide +kernel
theorem dksX6_init_1 : cX6_init.data.toList.drop 23 = dktX6_init_1 := dk_seg dksX6_init_0 23 rfl rfl
theorem dksX6_init_2 : cX6_init.data.toList.drop 47 = dktX6_init_2 := dk_seg dksX6_init_1 24 rfl rfl
theorem dksX6_init_3 : cX6_init.data.toList.drop 71 = dktX6_init_3 := dk_seg dksX6_init_2 24 rfl rfl
theorem dX6_init_0 : decode cX6_init 0 = .ok (.aload_n 0, 1) := dk_42 (dk_at dksX6_init_0 0 rfl rfl)
theorem dX6_init_1 : decode cX6_init 1 = .ok (.invokespecial 3, 3) := dk_183 0 3 (dk_at dksX6_init_0 1 rfl rfl)
theorem dX6_init_4 : decode cX6_init 4 = .ok (.aload_n 0, 1) := dk_42 (dk_at dksX6_init_0 4 rfl rfl)
theorem dX6_init_5 : decode cX6_init 5 = .ok (.bipush 8, 2) := dk_16 8 (dk_at dksX6_init_0 5 rfl rfl)
theorem dX6_init_7 : decode cX6_init 7 = .ok (.newarray .int, 2) := dk_188_10 (dk_at dksX6_init_0 7 rfl rfl)
theorem dX6_init_9 : decode cX6_init 9 = .ok (.putfield 9, 3) := dk_181 0 9 (dk_at dksX6_init_0 9 rfl rfl)
theorem dX6_init_12 : decode cX6_init 12 = .ok (.aload_n 0, 1) := dk_42 (dk_at dksX6_init_0 12 rfl rfl)
theorem dX6_init_13 : decode cX6_init 13 = .ok (.bipush 8, 2) := dk_16 8 (dk_at dksX6_init_0 13 rfl rfl)
theorem dX6_init_15 : decode cX6_init 15 = .ok (.newarray .int, 2) := dk_188_10 (dk_at dksX6_init_0 15 rfl rfl)
theorem dX6_init_17 : decode cX6_init 17 = .ok (.putfield 15, 3) := dk_181 0 15 (dk_at dksX6_init_0 17 rfl rfl)
theorem dX6_init_20 : decode cX6_init 20 = .ok (.aload_n 0, 1) := dk_42 (dk_at dksX6_init_0 20 rfl rfl)
theorem dX6_init_21 : decode cX6_init 21 = .ok (.bipush 8, 2) := dk_16 8 (dk_at dksX6_init_0 21 rfl rfl)
theorem dX6_init_23 : decode cX6_init 23 = .ok (.newarray .int, 2) := dk_188_10 (dk_at dksX6_init_1 0 rfl rfl)
theorem dX6_init_25 : decode cX6_init 25 = .ok (.putfield 18, 3) := dk_181 0 18 (dk_at dksX6_init_1 2 rfl rfl)
theorem dX6_init_28 : decode cX6_init 28 = .ok (.aload_n 0, 1) := dk_42 (dk_at dksX6_init_1 5 rfl rfl)
theorem dX6_init_29 : decode cX6_init 29 = .ok (.bipush 6, 2) := dk_16 6 (dk_at dksX6_init_1 6 rfl rfl)
theorem dX6_init_31 : decode cX6_init 31 = .ok (.newarray .int, 2) := dk_188_10 (dk_at dksX6_init_1 8 rfl rfl)
theorem dX6_init_33 : decode cX6_init 33 = .ok (.putfield 21, 3) := dk_181 0 21 (dk_at dksX6_init_1 10 rfl rfl)
theorem dX6_init_36 : decode cX6_init 36 = .ok (.aload_n 0, 1) := dk_42 (dk_at dksX6_init_1 13 rfl rfl)
theorem dX6_init_37 : decode cX6_init 37 = .ok (.bipush 6, 2) := dk_16 6 (dk_at dksX6_init_1 14 rfl rfl)
theorem dX6_init_39 : decode cX6_init 39 = .ok (.newarray .int, 2) := dk_188_10 (dk_at dksX6_init_1 16 rfl rfl)
theorem dX6_init_41 : decode cX6_init 41 = .ok (.putfield 24, 3) := dk_181 0 24 (dk_at dksX6_init_1 18 rfl rfl)
theorem dX6_init_44 : decode cX6_init 44 = .ok (.aload_n 0, 1) := dk_42 (dk_at dksX6_init_1 21 rfl rfl)
theorem dX6_init_45 : decode cX6_init 45 = .ok (.bipush 6, 2) := dk_16 6 (dk_at dksX6_init_1 22 rfl rfl)
theorem dX6_init_47 : decode cX6_init 47 = .ok (.newarray .int, 2) := dk_188_10 (dk_at dksX6_init_2 0 rfl rfl)
theorem dX6_init_49 : decode cX6_init 49 = .ok (.putfield 27, 3) := dk_181 0 27 (dk_at dksX6_init_2 2 rfl rfl)
theorem dX6_init_52 : decode cX6_init 52 = .ok (.aload_n 0, 1) := dk_42 (dk_at dksX6_init_2 5 rfl rfl)
theorem dX6_init_53 : decode cX6_init 53 = .ok (.bipush 6, 2) := dk_16 6 (dk_at dksX6_init_2 6 rfl rfl)
theorem dX6_init_55 : decode cX6_init 55 = .ok (.newarray .int, 2) := dk_188_10 (dk_at dksX6_init_2 8 rfl rfl)
theorem dX6_init_57 : decode cX6_init 57 = .ok (.putfield 30, 3) := dk_181 0 30 (dk_at dksX6_init_2 10 rfl rfl)
theorem dX6_init_60 : decode cX6_init 60 = .ok (.aload_n 0, 1) := dk_42 (dk_at dksX6_init_2 13 rfl rfl)
theorem dX6_init_61 : decode cX6_init 61 = .ok (.bipush 6, 2) := dk_16 6 (dk_at dksX6_init_2 14 rfl rfl)
theorem dX6_init_63 : decode cX6_init 63 = .ok (.newarray .int, 2) := dk_188_10 (dk_at dksX6_init_2 16 rfl rfl)
theorem dX6_init_65 : decode cX6_init 65 = .ok (.putfield 33, 3) := dk_181 0 33 (dk_at dksX6_init_2 18 rfl rfl)
theorem dX6_init_68 : decode cX6_init 68 = .ok (.aload_n 0, 1) := dk_42 (dk_at dksX6_init_2 21 rfl rfl)
theorem dX6_init_69 : decode cX6_init 69 = .ok (.bipush 6, 2) := dk_16 6 (dk_at dksX6_init_2 22 rfl rfl)
theorem dX6_init_71 : decode cX6_init 71 = .ok (.newarray .int, 2) := dk_188_10 (dk_at dksX6_init_3 0 rfl rfl)
theorem dX6_init_73 : decode cX6_init 73 = .ok (.putfield 36, 3) := dk_181 0 36 (dk_at dksX6_init_3 2 rfl rfl)
theorem dX6_init_76 : decode cX6_init 76 = .ok (.return_, 1) := dk_177 (dk_at dksX6_init_3 5 rfl rfl)
abbrev cX6_like : ByteArray := prog_13_method_3_code
def yX6_like : MethodName := ⟨RX6, "like", "(LSableCrown$State;)V"⟩
def dkwX6_like_6 : List UInt8 := [181, 0, 39, 42, 43, 180, 0, 43, 181, 0, 43, 42, 43, 180, 0, 46, 181, 0, 46, 177]
abbrev dktX6_like_6 : List UInt8 := dkwX6_like_6 ++ []
def dkwX6_like_5 : List UInt8 := [184, 0, 83, 43, 180, 0, 36, 3, 42, 180, 0, 36, 3, 16, 6, 184, 0, 83, 42, 43, 180, 0, 39]
abbrev dktX6_like_5 : List UInt8 := dkwX6_like_5 ++ dktX6_like_6
def dkwX6_like_4 : List UInt8 := [3, 42, 180, 0, 30, 3, 16, 6, 184, 0, 83, 43, 180, 0, 33, 3, 42, 180, 0, 33, 3, 16, 6]
abbrev dktX6_like_4 : List UInt8 := dkwX6_like_4 ++ dktX6_like_5
def dkwX6_like_3 : List UInt8 := [16, 6, 184, 0, 83, 43, 180, 0, 27, 3, 42, 180, 0, 27, 3, 16, 6, 184, 0, 83, 43, 180, 0, 30]
abbrev dktX6_like_3 : List UInt8 := dkwX6_like_3 ++ dktX6_like_4
def dkwX6_like_2 : List UInt8 := [180, 0, 21, 3, 42, 180, 0, 21, 3, 16, 6, 184, 0, 83, 43, 180, 0, 24, 3, 42, 180, 0, 24, 3]
abbrev dktX6_like_2 : List UInt8 := dkwX6_like_2 ++ dktX6_like_3
def dkwX6_like_1 : List UInt8 := [3, 16, 8, 184, 0, 83, 43, 180, 0, 18, 3, 42, 180, 0, 18, 3, 16, 8, 184, 0, 83, 43]
abbrev dktX6_like_1 : List UInt8 := dkwX6_like_1 ++ dktX6_like_2
def dkwX6_like_0 : List UInt8 := [43, 180, 0, 9, 3, 42, 180, 0, 9, 3, 16, 8, 184, 0, 83, 43, 180, 0, 15, 3, 42, 180, 0, 15]
abbrev dktX6_like_0 : List UInt8 := dkwX6_like_0 ++ dktX6_like_1
theorem dksX6_like_0 : cX6_like.data.toList.drop 0 = dktX6_like_0 := by decide +kernel
theorem dksX6_like_1 : cX6_like.data.toList.drop 24 = dktX6_like_1 := dk_seg dksX6_like_0 24 rfl rfl
theorem dksX6_like_2 : cX6_like.data.toList.drop 46 = dktX6_like_2 := dk_seg dksX6_like_1 22 rfl rfl
theorem dksX6_like_3 : cX6_like.data.toList.drop 70 = dktX6_like_3 := dk_seg dksX6_like_2 24 rfl rfl
theorem dksX6_like_4 : cX6_like.data.toList.drop 94 = dktX6_like_4 := dk_seg dksX6_like_3 24 rfl rfl
theorem dksX6_like_5 : cX6_like.data.toList.drop 117 = dktX6_like_5 := dk_seg dksX6_like_4 23 rfl rfl
theorem dksX6_like_6 : cX6_like.data.toList.drop 140 = dktX6_like_6 := dk_seg dksX6_like_5 23 rfl rfl
theorem dX6_like_0 : decode cX6_like 0 = .ok (.aload_n 1, 1) := dk_43 (dk_at dksX6_like_0 0 rfl rfl)
theorem dX6_like_1 : decode cX6_like 1 = .ok (.getfield 9, 3) := dk_180 0 9 (dk_at dksX6_like_0 1 rfl rfl)
theorem dX6_like_4 : decode cX6_like 4 = .ok (.iconst 0, 1) := dk_3 (dk_at dksX6_like_0 4 rfl rfl)
theorem dX6_like_5 : decode cX6_like 5 = .ok (.aload_n 0, 1) := dk_42 (dk_at dksX6_like_0 5 rfl rfl)
theorem dX6_like_6 : decode cX6_like 6 = .ok (.getfield 9, 3) := dk_180 0 9 (dk_at dksX6_like_0 6 rfl rfl)
theorem dX6_like_9 : decode cX6_like 9 = .ok (.iconst 0, 1) := dk_3 (dk_at dksX6_like_0 9 rfl rfl)
theorem dX6_like_10 : decode cX6_like 10 = .ok (.bipush 8, 2) := dk_16 8 (dk_at dksX6_like_0 10 rfl rfl)
theorem dX6_like_12 : decode cX6_like 12 = .ok (.invokestatic 83, 3) := dk_184 0 83 (dk_at dksX6_like_0 12 rfl rfl)
theorem dX6_like_15 : decode cX6_like 15 = .ok (.aload_n 1, 1) := dk_43 (dk_at dksX6_like_0 15 rfl rfl)
theorem dX6_like_16 : decode cX6_like 16 = .ok (.getfield 15, 3) := dk_180 0 15 (dk_at dksX6_like_0 16 rfl rfl)
theorem dX6_like_19 : decode cX6_like 19 = .ok (.iconst 0, 1) := dk_3 (dk_at dksX6_like_0 19 rfl rfl)
theorem dX6_like_20 : decode cX6_like 20 = .ok (.aload_n 0, 1) := dk_42 (dk_at dksX6_like_0 20 rfl rfl)
theorem dX6_like_21 : decode cX6_like 21 = .ok (.getfield 15, 3) := dk_180 0 15 (dk_at dksX6_like_0 21 rfl rfl)
theorem dX6_like_24 : decode cX6_like 24 = .ok (.iconst 0, 1) := dk_3 (dk_at dksX6_like_1 0 rfl rfl)
theorem dX6_like_25 : decode cX6_like 25 = .ok (.bipush 8, 2) := dk_16 8 (dk_at dksX6_like_1 1 rfl rfl)
theorem dX6_like_27 : decode cX6_like 27 = .ok (.invokestatic 83, 3) := dk_184 0 83 (dk_at dksX6_like_1 3 rfl rfl)
theorem dX6_like_30 : decode cX6_like 30 = .ok (.aload_n 1, 1) := dk_43 (dk_at dksX6_like_1 6 rfl rfl)
theorem dX6_like_31 : decode cX6_like 31 = .ok (.getfield 18, 3) := dk_180 0 18 (dk_at dksX6_like_1 7 rfl rfl)
theorem dX6_like_34 : decode cX6_like 34 = .ok (.iconst 0, 1) := dk_3 (dk_at dksX6_like_1 10 rfl rfl)
theorem dX6_like_35 : decode cX6_like 35 = .ok (.aload_n 0, 1) := dk_42 (dk_at dksX6_like_1 11 rfl rfl)
theorem dX6_like_36 : decode cX6_like 36 = .ok (.getfield 18, 3) := dk_180 0 18 (dk_at dksX6_like_1 12 rfl rfl)
theorem dX6_like_39 : decode cX6_like 39 = .ok (.iconst 0, 1) := dk_3 (dk_at dksX6_like_1 15 rfl rfl)
theorem dX6_like_40 : decode cX6_like 40 = .ok (.bipush 8, 2) := dk_16 8 (dk_at dksX6_like_1 16 rfl rfl)
theorem dX6_like_42 : decode cX6_like 42 = .ok (.invokestatic 83, 3) := dk_184 0 83 (dk_at dksX6_like_1 18 rfl rfl)
theorem dX6_like_45 : decode cX6_like 45 = .ok (.aload_n 1, 1) := dk_43 (dk_at dksX6_like_1 21 rfl rfl)
theorem dX6_like_46 : decode cX6_like 46 = .ok (.getfield 21, 3) := dk_180 0 21 (dk_at dksX6_like_2 0 rfl rfl)
theorem dX6_like_49 : decode cX6_like 49 = .ok (.iconst 0, 1) := dk_3 (dk_at dksX6_like_2 3 rfl rfl)
theorem dX6_like_50 : decode cX6_like 50 = .ok (.aload_n 0, 1) := dk_42 (dk_at dksX6_like_2 4 rfl rfl)
theorem dX6_like_51 : decode cX6_like 51 = .ok (.getfield 21, 3) := dk_180 0 21 (dk_at dksX6_like_2 5 rfl rfl)
theorem dX6_like_54 : decode cX6_like 54 = .ok (.iconst 0, 1) := dk_3 (dk_at dksX6_like_2 8 rfl rfl)
theorem dX6_like_55 : decode cX6_like 55 = .ok (.bipush 6, 2) := dk_16 6 (dk_at dksX6_like_2 9 rfl rfl)
theorem dX6_like_57 : decode cX6_like 57 = .ok (.invokestatic 83, 3) := dk_184 0 83 (dk_at dksX6_like_2 11 rfl rfl)
theorem dX6_like_60 : decode cX6_like 60 = .ok (.aload_n 1, 1) := dk_43 (dk_at dksX6_like_2 14 rfl rfl)
theorem dX6_like_61 : decode cX6_like 61 = .ok (.getfield 24, 3) := dk_180 0 24 (dk_at dksX6_like_2 15 rfl rfl)
theorem dX6_like_64 : decode cX6_like 64 = .ok (.iconst 0, 1) := dk_3 (dk_at dksX6_like_2 18 rfl rfl)
theorem dX6_like_65 : decode cX6_like 65 = .ok (.aload_n 0, 1) := dk_42 (dk_at dksX6_like_2 19 rfl rfl)
theorem dX6_like_66 : decode cX6_like 66 = .ok (.getfield 24, 3) := dk_180 0 24 (dk_at dksX6_like_2 20 rfl rfl)
theorem dX6_like_69 : decode cX6_like 69 = .ok (.iconst 0, 1) := dk_3 (dk_at dksX6_like_2 23 rfl rfl)
theorem dX6_like_70 : decode cX6_like 70 = .ok (.bipush 6, 2) := dk_16 6 (dk_at dksX6_like_3 0 rfl rfl)
theorem dX6_like_72 : decode cX6_like 72 = .ok (.invokestatic 83, 3) := dk_184 0 83 (dk_at dksX6_like_3 2 rfl rfl)
theorem dX6_like_75 : decode cX6_like 75 = .ok (.aload_n 1, 1) := dk_43 (dk_at dksX6_like_3 5 rfl rfl)
theorem dX6_like_76 : decode cX6_like 76 = .ok (.getfield 27, 3) := dk_180 0 27 (dk_at dksX6_like_3 6 rfl rfl)
theorem dX6_like_79 : decode cX6_like 79 = .ok (.iconst 0, 1) := dk_3 (dk_at dksX6_like_3 9 rfl rfl)
theorem dX6_like_80 : decode cX6_like 80 = .ok (.aload_n 0, 1) := dk_42 (dk_at dksX6_like_3 10 rfl rfl)
theorem dX6_like_81 : decode cX6_like 81 = .ok (.getfield 27, 3) := dk_180 0 27 (dk_at dksX6_like_3 11 rfl rfl)
theorem dX6_like_84 : decode cX6_like 84 = .ok (.iconst 0, 1) := dk_3 (dk_at dksX6_like_3 14 rfl rfl)
theorem dX6_like_85 : decode cX6_like 85 = .ok (.bipush 6, 2) := dk_16 6 (dk_at dksX6_like_3 15 rfl rfl)
theorem dX6_like_87 : decode cX6_like 87 = .ok (.invokestatic 83, 3) := dk_184 0 83 (dk_at dksX6_like_3 17 rfl rfl)
theorem dX6_like_90 : decode cX6_like 90 = .ok (.aload_n 1, 1) := dk_43 (dk_at dksX6_like_3 20 rfl rfl)
theorem dX6_like_91 : decode cX6_like 91 = .ok (.getfield 30, 3) := dk_180 0 30 (dk_at dksX6_like_3 21 rfl rfl)
theorem dX6_like_94 : decode cX6_like 94 = .ok (.iconst 0, 1) := dk_3 (dk_at dksX6_like_4 0 rfl rfl)
theorem dX6_like_95 : decode cX6_like 95 = .ok (.aload_n 0, 1) := dk_42 (dk_at dksX6_like_4 1 rfl rfl)
theorem dX6_like_96 : decode cX6_like 96 = .ok (.getfield 30, 3) := dk_180 0 30 (dk_at dksX6_like_4 2 rfl rfl)
theorem dX6_like_99 : decode cX6_like 99 = .ok (.iconst 0, 1) := dk_3 (dk_at dksX6_like_4 5 rfl rfl)
theorem dX6_like_100 : decode cX6_like 100 = .ok (.bipush 6, 2) := dk_16 6 (dk_at dksX6_like_4 6 rfl rfl)
theorem dX6_like_102 : decode cX6_like 102 = .ok (.invokestatic 83, 3) := dk_184 0 83 (dk_at dksX6_like_4 8 rfl rfl)
theorem dX6_like_105 : decode cX6_like 105 = .ok (.aload_n 1, 1) := dk_43 (dk_at dksX6_like_4 11 rfl rfl)
theorem dX6_like_106 : decode cX6_like 106 = .ok (.getfield 33, 3) := dk_180 0 33 (dk_at dksX6_like_4 12 rfl rfl)
theorem dX6_like_109 : decode cX6_like 109 = .ok (.iconst 0, 1) := dk_3 (dk_at dksX6_like_4 15 rfl rfl)
theorem dX6_like_110 : decode cX6_like 110 = .ok (.aload_n 0, 1) := dk_42 (dk_at dksX6_like_4 16 rfl rfl)
theorem dX6_like_111 : decode cX6_like 111 = .ok (.getfield 33, 3) := dk_180 0 33 (dk_at dksX6_like_4 17 rfl rfl)
theorem dX6_like_114 : decode cX6_like 114 = .ok (.iconst 0, 1) := dk_3 (dk_at dksX6_like_4 20 rfl rfl)
theorem dX6_like_115 : decode cX6_like 115 = .ok (.bipush 6, 2) := dk_16 6 (dk_at dksX6_like_4 21 rfl rfl)
theorem dX6_like_117 : decode cX6_like 117 = .ok (.invokestatic 83, 3) := dk_184 0 83 (dk_at dksX6_like_5 0 rfl rfl)
theorem dX6_like_120 : decode cX6_like 120 = .ok (.aload_n 1, 1) := dk_43 (dk_at dksX6_like_5 3 rfl rfl)
theorem dX6_like_121 : decode cX6_like 121 = .ok (.getfield 36, 3) := dk_180 0 36 (dk_at dksX6_like_5 4 rfl rfl)
theorem dX6_like_124 : decode cX6_like 124 = .ok (.iconst 0, 1) := dk_3 (dk_at dksX6_like_5 7 rfl rfl)
theorem dX6_like_125 : decode cX6_like 125 = .ok (.aload_n 0, 1) := dk_42 (dk_at dksX6_like_5 8 rfl rfl)
theorem dX6_like_126 : decode cX6_like 126 = .ok (.getfield 36, 3) := dk_180 0 36 (dk_at dksX6_like_5 9 rfl rfl)
theorem dX6_like_129 : decode cX6_like 129 = .ok (.iconst 0, 1) := dk_3 (dk_at dksX6_like_5 12 rfl rfl)
theorem dX6_like_130 : decode cX6_like 130 = .ok (.bipush 6, 2) := dk_16 6 (dk_at dksX6_like_5 13 rfl rfl)
theorem dX6_like_132 : decode cX6_like 132 = .ok (.invokestatic 83, 3) := dk_184 0 83 (dk_at dksX6_like_5 15 rfl rfl)
theorem dX6_like_135 : decode cX6_like 135 = .ok (.aload_n 0, 1) := dk_42 (dk_at dksX6_like_5 18 rfl rfl)
theorem dX6_like_136 : decode cX6_like 136 = .ok (.aload_n 1, 1) := dk_43 (dk_at dksX6_like_5 19 rfl rfl)
theorem dX6_like_137 : decode cX6_like 137 = .ok (.getfield 39, 3) := dk_180 0 39 (dk_at dksX6_like_5 20 rfl rfl)
theorem dX6_like_140 : decode cX6_like 140 = .ok (.putfield 39, 3) := dk_181 0 39 (dk_at dksX6_like_6 0 rfl rfl)
theorem dX6_like_143 : decode cX6_like 143 = .ok (.aload_n 0, 1) := dk_42 (dk_at dksX6_like_6 3 rfl rfl)
theorem dX6_like_144 : decode cX6_like 144 = .ok (.aload_n 1, 1) := dk_43 (dk_at dksX6_like_6 4 rfl rfl)
theorem dX6_like_145 : decode cX6_like 145 = .ok (.getfield 43, 3) := dk_180 0 43 (dk_at dksX6_like_6 5 rfl rfl)
theorem dX6_like_148 : decode cX6_like 148 = .ok (.putfield 43, 3) := dk_181 0 43 (dk_at dksX6_like_6 8 rfl rfl)
theorem dX6_like_151 : decode cX6_like 151 = .ok (.aload_n 0, 1) := dk_42 (dk_at dksX6_like_6 11 rfl rfl)
theorem dX6_like_152 : decode cX6_like 152 = .ok (.aload_n 1, 1) := dk_43 (dk_at dksX6_like_6 12 rfl rfl)
theorem dX6_like_153 : decode cX6_like 153 = .ok (.getfield 46, 3) := dk_180 0 46 (dk_at dksX6_like_6 13 rfl rfl)
theorem dX6_like_156 : decode cX6_like 156 = .ok (.putfield 46, 3) := dk_181 0 46 (dk_at dksX6_like_6 16 rfl rfl)
theorem dX6_like_159 : decode cX6_like 159 = .ok (.return_, 1) := dk_177 (dk_at dksX6_like_6 19 rfl rfl)
abbrev cX6_goes : ByteArray := prog_13_method_9_code
def yX6_goes : MethodName := ⟨RX6, "goes", "(LSableCrown$Land;)V"⟩
def dkwX6_goes_2 : List UInt8 := [181, 0, 39, 177]
abbrev dktX6_goes_2 : List UInt8 := dkwX6_goes_2 ++ []
def dkwX6_goes_1 : List UInt8 := [42, 43, 28, 182, 0, 171, 132, 2, 1, 167, 255, 230, 42, 43, 182, 0, 174, 42, 89, 180, 0, 39, 4, 96]
abbrev dktX6_goes_1 : List UInt8 := dkwX6_goes_1 ++ dktX6_goes_2
def dkwX6_goes_0 : List UInt8 := [42, 2, 181, 0, 152, 3, 61, 28, 43, 180, 0, 71, 182, 0, 55, 162, 0, 21, 42, 43, 28, 182, 0, 168]
abbrev dktX6_goes_0 : List UInt8 := dkwX6_goes_0 ++ dktX6_goes_1
theorem dksX6_goes_0 : cX6_goes.data.toList.drop 0 = dktX6_goes_0 := by decide +kernel
theorem dksX6_goes_1 : cX6_goes.data.toList.drop 24 = dktX6_goes_1 := dk_seg dksX6_goes_0 24 rfl rfl
theorem dksX6_goes_2 : cX6_goes.data.toList.drop 48 = dktX6_goes_2 := dk_seg dksX6_goes_1 24 rfl rfl
theorem dX6_goes_0 : decode cX6_goes 0 = .ok (.aload_n 0, 1) := dk_42 (dk_at dksX6_goes_0 0 rfl rfl)
theorem dX6_goes_1 : decode cX6_goes 1 = .ok (.iconst (-1), 1) := dk_2 (dk_at dksX6_goes_0 1 rfl rfl)
theorem dX6_goes_2 : decode cX6_goes 2 = .ok (.putfield 152, 3) := dk_181 0 152 (dk_at dksX6_goes_0 2 rfl rfl)
theorem dX6_goes_5 : decode cX6_goes 5 = .ok (.iconst 0, 1) := dk_3 (dk_at dksX6_goes_0 5 rfl rfl)
theorem dX6_goes_6 : decode cX6_goes 6 = .ok (.istore_n 2, 1) := dk_61 (dk_at dksX6_goes_0 6 rfl rfl)
theorem dX6_goes_7 : decode cX6_goes 7 = .ok (.iload_n 2, 1) := dk_28 (dk_at dksX6_goes_0 7 rfl rfl)
theorem dX6_goes_8 : decode cX6_goes 8 = .ok (.aload_n 1, 1) := dk_43 (dk_at dksX6_goes_0 8 rfl rfl)
theorem dX6_goes_9 : decode cX6_goes 9 = .ok (.getfield 71, 3) := dk_180 0 71 (dk_at dksX6_goes_0 9 rfl rfl)
theorem dX6_goes_12 : decode cX6_goes 12 = .ok (.invokevirtual 55, 3) := dk_182 0 55 (dk_at dksX6_goes_0 12 rfl rfl)
theorem dX6_goes_15 : decode cX6_goes 15 = .ok (.if_icmp .ge 21, 3) := dk_162 0 21 (dk_at dksX6_goes_0 15 rfl rfl)
theorem dX6_goes_18 : decode cX6_goes 18 = .ok (.aload_n 0, 1) := dk_42 (dk_at dksX6_goes_0 18 rfl rfl)
theorem dX6_goes_19 : decode cX6_goes 19 = .ok (.aload_n 1, 1) := dk_43 (dk_at dksX6_goes_0 19 rfl rfl)
theorem dX6_goes_20 : decode cX6_goes 20 = .ok (.iload_n 2, 1) := dk_28 (dk_at dksX6_goes_0 20 rfl rfl)
theorem dX6_goes_21 : decode cX6_goes 21 = .ok (.invokevirtual 168, 3) := dk_182 0 168 (dk_at dksX6_goes_0 21 rfl rfl)
theorem dX6_goes_24 : decode cX6_goes 24 = .ok (.aload_n 0, 1) := dk_42 (dk_at dksX6_goes_1 0 rfl rfl)
theorem dX6_goes_25 : decode cX6_goes 25 = .ok (.aload_n 1, 1) := dk_43 (dk_at dksX6_goes_1 1 rfl rfl)
theorem dX6_goes_26 : decode cX6_goes 26 = .ok (.iload_n 2, 1) := dk_28 (dk_at dksX6_goes_1 2 rfl rfl)
theorem dX6_goes_27 : decode cX6_goes 27 = .ok (.invokevirtual 171, 3) := dk_182 0 171 (dk_at dksX6_goes_1 3 rfl rfl)
theorem dX6_goes_30 : decode cX6_goes 30 = .ok (.iinc 2 1, 3) := dk_132 2 1 (dk_at dksX6_goes_1 6 rfl rfl)
theorem dX6_goes_33 : decode cX6_goes 33 = .ok (.goto (-26), 3) := dk_167 255 230 (dk_at dksX6_goes_1 9 rfl rfl)
theorem dX6_goes_36 : decode cX6_goes 36 = .ok (.aload_n 0, 1) := dk_42 (dk_at dksX6_goes_1 12 rfl rfl)
theorem dX6_goes_37 : decode cX6_goes 37 = .ok (.aload_n 1, 1) := dk_43 (dk_at dksX6_goes_1 13 rfl rfl)
theorem dX6_goes_38 : decode cX6_goes 38 = .ok (.invokevirtual 174, 3) := dk_182 0 174 (dk_at dksX6_goes_1 14 rfl rfl)
theorem dX6_goes_41 : decode cX6_goes 41 = .ok (.aload_n 0, 1) := dk_42 (dk_at dksX6_goes_1 17 rfl rfl)
theorem dX6_goes_42 : decode cX6_goes 42 = .ok (.dup, 1) := dk_89 (dk_at dksX6_goes_1 18 rfl rfl)
theorem dX6_goes_43 : decode cX6_goes 43 = .ok (.getfield 39, 3) := dk_180 0 39 (dk_at dksX6_goes_1 19 rfl rfl)
theorem dX6_goes_46 : decode cX6_goes 46 = .ok (.iconst 1, 1) := dk_4 (dk_at dksX6_goes_1 22 rfl rfl)
theorem dX6_goes_47 : decode cX6_goes 47 = .ok (.iadd, 1) := dk_96 (dk_at dksX6_goes_1 23 rfl rfl)
theorem dX6_goes_48 : decode cX6_goes 48 = .ok (.putfield 39, 3) := dk_181 0 39 (dk_at dksX6_goes_2 0 rfl rfl)
theorem dX6_goes_51 : decode cX6_goes 51 = .ok (.return_, 1) := dk_177 (dk_at dksX6_goes_2 3 rfl rfl)
abbrev cX6_hunts : ByteArray := prog_13_method_6_code
def yX6_hunts : MethodName := ⟨RX6, "hunts", "(LSableCrown$Land;I)V"⟩
def dkwX6_hunts_3 : List UInt8 := [79, 42, 180, 0, 30, 28, 17, 39, 15, 42, 180, 0, 30, 28, 46, 21, 4, 96, 184, 0, 93, 79, 177]
abbrev dktX6_hunts_3 : List UInt8 := dkwX6_hunts_3 ++ []
def dkwX6_hunts_2 : List UInt8 := [181, 0, 152, 42, 180, 0, 9, 29, 92, 46, 21, 4, 100, 79, 42, 180, 0, 15, 29, 92, 46, 21, 5, 100]
abbrev dktX6_hunts_2 : List UInt8 := dkwX6_hunts_2 ++ dktX6_hunts_3
def dkwX6_hunts_1 : List UInt8 := [180, 0, 15, 29, 46, 21, 4, 104, 42, 180, 0, 9, 29, 46, 108, 54, 5, 21, 5, 158, 0, 8, 42, 29]
abbrev dktX6_hunts_1 : List UInt8 := dkwX6_hunts_1 ++ dktX6_hunts_2
def dkwX6_hunts_0 : List UInt8 := [42, 180, 0, 24, 28, 46, 62, 42, 43, 28, 182, 0, 149, 54, 4, 21, 4, 154, 0, 4, 177, 42]
abbrev dktX6_hunts_0 : List UInt8 := dkwX6_hunts_0 ++ dktX6_hunts_1
theorem dksX6_hunts_0 : cX6_hunts.data.toList.drop 0 = dktX6_hunts_0 := by decide +kernel
theorem dksX6_hunts_1 : cX6_hunts.data.toList.drop 22 = dktX6_hunts_1 := dk_seg dksX6_hunts_0 22 rfl rfl
theorem dksX6_hunts_2 : cX6_hunts.data.toList.drop 46 = dktX6_hunts_2 := dk_seg dksX6_hunts_1 24 rfl rfl
theorem dksX6_hunts_3 : cX6_hunts.data.toList.drop 70 = dktX6_hunts_3 := dk_seg dksX6_hunts_2 24 rfl rfl
theorem dX6_hunts_0 : decode cX6_hunts 0 = .ok (.aload_n 0, 1) := dk_42 (dk_at dksX6_hunts_0 0 rfl rfl)
theorem dX6_hunts_1 : decode cX6_hunts 1 = .ok (.getfield 24, 3) := dk_180 0 24 (dk_at dksX6_hunts_0 1 rfl rfl)
theorem dX6_hunts_4 : decode cX6_hunts 4 = .ok (.iload_n 2, 1) := dk_28 (dk_at dksX6_hunts_0 4 rfl rfl)
theorem dX6_hunts_5 : decode cX6_hunts 5 = .ok (.iaload, 1) := dk_46 (dk_at dksX6_hunts_0 5 rfl rfl)
theorem dX6_hunts_6 : decode cX6_hunts 6 = .ok (.istore_n 3, 1) := dk_62 (dk_at dksX6_hunts_0 6 rfl rfl)
theorem dX6_hunts_7 : decode cX6_hunts 7 = .ok (.aload_n 0, 1) := dk_42 (dk_at dksX6_hunts_0 7 rfl rfl)
theorem dX6_hunts_8 : decode cX6_hunts 8 = .ok (.aload_n 1, 1) := dk_43 (dk_at dksX6_hunts_0 8 rfl rfl)
theorem dX6_hunts_9 : decode cX6_hunts 9 = .ok (.iload_n 2, 1) := dk_28 (dk_at dksX6_hunts_0 9 rfl rfl)
theorem dX6_hunts_10 : decode cX6_hunts 10 = .ok (.invokevirtual 149, 3) := dk_182 0 149 (dk_at dksX6_hunts_0 10 rfl rfl)
theorem dX6_hunts_13 : decode cX6_hunts 13 = .ok (.istore 4, 2) := dk_54 4 (dk_at dksX6_hunts_0 13 rfl rfl)
theorem dX6_hunts_15 : decode cX6_hunts 15 = .ok (.iload 4, 2) := dk_21 4 (dk_at dksX6_hunts_0 15 rfl rfl)
theorem dX6_hunts_17 : decode cX6_hunts 17 = .ok (.ifCond .ne 4, 3) := dk_154 0 4 (dk_at dksX6_hunts_0 17 rfl rfl)
theorem dX6_hunts_20 : decode cX6_hunts 20 = .ok (.return_, 1) := dk_177 (dk_at dksX6_hunts_0 20 rfl rfl)
theorem dX6_hunts_21 : decode cX6_hunts 21 = .ok (.aload_n 0, 1) := dk_42 (dk_at dksX6_hunts_0 21 rfl rfl)
theorem dX6_hunts_22 : decode cX6_hunts 22 = .ok (.getfield 15, 3) := dk_180 0 15 (dk_at dksX6_hunts_1 0 rfl rfl)
theorem dX6_hunts_25 : decode cX6_hunts 25 = .ok (.iload_n 3, 1) := dk_29 (dk_at dksX6_hunts_1 3 rfl rfl)
theorem dX6_hunts_26 : decode cX6_hunts 26 = .ok (.iaload, 1) := dk_46 (dk_at dksX6_hunts_1 4 rfl rfl)
theorem dX6_hunts_27 : decode cX6_hunts 27 = .ok (.iload 4, 2) := dk_21 4 (dk_at dksX6_hunts_1 5 rfl rfl)
theorem dX6_hunts_29 : decode cX6_hunts 29 = .ok (.imul, 1) := dk_104 (dk_at dksX6_hunts_1 7 rfl rfl)
theorem dX6_hunts_30 : decode cX6_hunts 30 = .ok (.aload_n 0, 1) := dk_42 (dk_at dksX6_hunts_1 8 rfl rfl)
theorem dX6_hunts_31 : decode cX6_hunts 31 = .ok (.getfield 9, 3) := dk_180 0 9 (dk_at dksX6_hunts_1 9 rfl rfl)
theorem dX6_hunts_34 : decode cX6_hunts 34 = .ok (.iload_n 3, 1) := dk_29 (dk_at dksX6_hunts_1 12 rfl rfl)
theorem dX6_hunts_35 : decode cX6_hunts 35 = .ok (.iaload, 1) := dk_46 (dk_at dksX6_hunts_1 13 rfl rfl)
theorem dX6_hunts_36 : decode cX6_hunts 36 = .ok (.idiv, 1) := dk_108 (dk_at dksX6_hunts_1 14 rfl rfl)
theorem dX6_hunts_37 : decode cX6_hunts 37 = .ok (.istore 5, 2) := dk_54 5 (dk_at dksX6_hunts_1 15 rfl rfl)
theorem dX6_hunts_39 : decode cX6_hunts 39 = .ok (.iload 5, 2) := dk_21 5 (dk_at dksX6_hunts_1 17 rfl rfl)
theorem dX6_hunts_41 : decode cX6_hunts 41 = .ok (.ifCond .le 8, 3) := dk_158 0 8 (dk_at dksX6_hunts_1 19 rfl rfl)
theorem dX6_hunts_44 : decode cX6_hunts 44 = .ok (.aload_n 0, 1) := dk_42 (dk_at dksX6_hunts_1 22 rfl rfl)
theorem dX6_hunts_45 : decode cX6_hunts 45 = .ok (.iload_n 3, 1) := dk_29 (dk_at dksX6_hunts_1 23 rfl rfl)
theorem dX6_hunts_46 : decode cX6_hunts 46 = .ok (.putfield 152, 3) := dk_181 0 152 (dk_at dksX6_hunts_2 0 rfl rfl)
theorem dX6_hunts_49 : decode cX6_hunts 49 = .ok (.aload_n 0, 1) := dk_42 (dk_at dksX6_hunts_2 3 rfl rfl)
theorem dX6_hunts_50 : decode cX6_hunts 50 = .ok (.getfield 9, 3) := dk_180 0 9 (dk_at dksX6_hunts_2 4 rfl rfl)
theorem dX6_hunts_53 : decode cX6_hunts 53 = .ok (.iload_n 3, 1) := dk_29 (dk_at dksX6_hunts_2 7 rfl rfl)
theorem dX6_hunts_54 : decode cX6_hunts 54 = .ok (.dup2, 1) := dk_92 (dk_at dksX6_hunts_2 8 rfl rfl)
theorem dX6_hunts_55 : decode cX6_hunts 55 = .ok (.iaload, 1) := dk_46 (dk_at dksX6_hunts_2 9 rfl rfl)
theorem dX6_hunts_56 : decode cX6_hunts 56 = .ok (.iload 4, 2) := dk_21 4 (dk_at dksX6_hunts_2 10 rfl rfl)
theorem dX6_hunts_58 : decode cX6_hunts 58 = .ok (.isub, 1) := dk_100 (dk_at dksX6_hunts_2 12 rfl rfl)
theorem dX6_hunts_59 : decode cX6_hunts 59 = .ok (.iastore, 1) := dk_79 (dk_at dksX6_hunts_2 13 rfl rfl)
theorem dX6_hunts_60 : decode cX6_hunts 60 = .ok (.aload_n 0, 1) := dk_42 (dk_at dksX6_hunts_2 14 rfl rfl)
theorem dX6_hunts_61 : decode cX6_hunts 61 = .ok (.getfield 15, 3) := dk_180 0 15 (dk_at dksX6_hunts_2 15 rfl rfl)
theorem dX6_hunts_64 : decode cX6_hunts 64 = .ok (.iload_n 3, 1) := dk_29 (dk_at dksX6_hunts_2 18 rfl rfl)
theorem dX6_hunts_65 : decode cX6_hunts 65 = .ok (.dup2, 1) := dk_92 (dk_at dksX6_hunts_2 19 rfl rfl)
theorem dX6_hunts_66 : decode cX6_hunts 66 = .ok (.iaload, 1) := dk_46 (dk_at dksX6_hunts_2 20 rfl rfl)
theorem dX6_hunts_67 : decode cX6_hunts 67 = .ok (.iload 5, 2) := dk_21 5 (dk_at dksX6_hunts_2 21 rfl rfl)
theorem dX6_hunts_69 : decode cX6_hunts 69 = .ok (.isub, 1) := dk_100 (dk_at dksX6_hunts_2 23 rfl rfl)
theorem dX6_hunts_70 : decode cX6_hunts 70 = .ok (.iastore, 1) := dk_79 (dk_at dksX6_hunts_3 0 rfl rfl)
theorem dX6_hunts_71 : decode cX6_hunts 71 = .ok (.aload_n 0, 1) := dk_42 (dk_at dksX6_hunts_3 1 rfl rfl)
theorem dX6_hunts_72 : decode cX6_hunts 72 = .ok (.getfield 30, 3) := dk_180 0 30 (dk_at dksX6_hunts_3 2 rfl rfl)
theorem dX6_hunts_75 : decode cX6_hunts 75 = .ok (.iload_n 2, 1) := dk_28 (dk_at dksX6_hunts_3 5 rfl rfl)
theorem dX6_hunts_76 : decode cX6_hunts 76 = .ok (.sipush 9999, 3) := dk_17 39 15 (dk_at dksX6_hunts_3 6 rfl rfl)
theorem dX6_hunts_79 : decode cX6_hunts 79 = .ok (.aload_n 0, 1) := dk_42 (dk_at dksX6_hunts_3 9 rfl rfl)
theorem dX6_hunts_80 : decode cX6_hunts 80 = .ok (.getfield 30, 3) := dk_180 0 30 (dk_at dksX6_hunts_3 10 rfl rfl)
theorem dX6_hunts_83 : decode cX6_hunts 83 = .ok (.iload_n 2, 1) := dk_28 (dk_at dksX6_hunts_3 13 rfl rfl)
theorem dX6_hunts_84 : decode cX6_hunts 84 = .ok (.iaload, 1) := dk_46 (dk_at dksX6_hunts_3 14 rfl rfl)
theorem dX6_hunts_85 : decode cX6_hunts 85 = .ok (.iload 4, 2) := dk_21 4 (dk_at dksX6_hunts_3 15 rfl rfl)
theorem dX6_hunts_87 : decode cX6_hunts 87 = .ok (.iadd, 1) := dk_96 (dk_at dksX6_hunts_3 17 rfl rfl)
theorem dX6_hunts_88 : decode cX6_hunts 88 = .ok (.invokestatic 93, 3) := dk_184 0 93 (dk_at dksX6_hunts_3 18 rfl rfl)
theorem dX6_hunts_91 : decode cX6_hunts 91 = .ok (.iastore, 1) := dk_79 (dk_at dksX6_hunts_3 21 rfl rfl)
theorem dX6_hunts_92 : decode cX6_hunts 92 = .ok (.return_, 1) := dk_177 (dk_at dksX6_hunts_3 22 rfl rfl)
abbrev cX6_takes : ByteArray := prog_13_method_5_code
def yX6_takes : MethodName := ⟨RX6, "takes", "(LSableCrown$Land;I)I"⟩
def dkwX6_takes_7 : List UInt8 := [184, 0, 93, 184, 0, 146, 172]
abbrev dktX6_takes_7 : List UInt8 := dkwX6_takes_7 ++ []
def dkwX6_takes_6 : List UInt8 := [178, 0, 133, 42, 43, 28, 182, 0, 136, 182, 0, 109, 3, 29, 43, 180, 0, 89, 25, 4, 182, 0, 140]
abbrev dktX6_takes_6 : List UInt8 := dkwX6_takes_6 ++ dktX6_takes_7
def dkwX6_takes_5 : List UInt8 := [180, 0, 39, 182, 0, 109, 25, 4, 178, 0, 130, 42, 180, 0, 30, 28, 46, 182, 0, 109, 25, 4]
abbrev dktX6_takes_5 : List UInt8 := dkwX6_takes_5 ++ dktX6_takes_6
def dkwX6_takes_4 : List UInt8 := [178, 0, 121, 43, 180, 0, 124, 42, 180, 0, 27, 28, 46, 104, 182, 0, 109, 25, 4, 178, 0, 127, 42]
abbrev dktX6_takes_4 : List UInt8 := dkwX6_takes_4 ++ dktX6_takes_5
def dkwX6_takes_3 : List UInt8 := [178, 0, 115, 29, 182, 0, 109, 25, 4, 178, 0, 118, 42, 180, 0, 33, 28, 46, 182, 0, 109, 25, 4]
abbrev dktX6_takes_3 : List UInt8 := dkwX6_takes_3 ++ dktX6_takes_4
def dkwX6_takes_2 : List UInt8 := [172, 43, 180, 0, 99, 58, 4, 25, 4, 178, 0, 103, 42, 180, 0, 21, 28, 46, 182, 0, 109, 25, 4]
abbrev dktX6_takes_2 : List UInt8 := dkwX6_takes_2 ++ dktX6_takes_3
def dkwX6_takes_1 : List UInt8 := [158, 0, 5, 3, 172, 43, 180, 0, 89, 199, 0, 16, 29, 6, 42, 180, 0, 21, 28, 46, 104, 184, 0, 93]
abbrev dktX6_takes_1 : List UInt8 := dkwX6_takes_1 ++ dktX6_takes_2
def dkwX6_takes_0 : List UInt8 := [42, 180, 0, 9, 42, 180, 0, 24, 28, 46, 46, 62, 42, 180, 0, 18, 42, 180, 0, 24, 28, 46, 46]
abbrev dktX6_takes_0 : List UInt8 := dkwX6_takes_0 ++ dktX6_takes_1
theorem dksX6_takes_0 : cX6_takes.data.toList.drop 0 = dktX6_takes_0 := by decide +kernel
theorem dksX6_takes_1 : cX6_takes.data.toList.drop 23 = dktX6_takes_1 := dk_seg dksX6_takes_0 23 rfl rfl
theorem dksX6_takes_2 : cX6_takes.data.toList.drop 47 = dktX6_takes_2 := dk_seg dksX6_takes_1 24 rfl rfl
theorem dksX6_takes_3 : cX6_takes.data.toList.drop 70 = dktX6_takes_3 := dk_seg dksX6_takes_2 23 rfl rfl
theorem dksX6_takes_4 : cX6_takes.data.toList.drop 93 = dktX6_takes_4 := dk_seg dksX6_takes_3 23 rfl rfl
theorem dksX6_takes_5 : cX6_takes.data.toList.drop 116 = dktX6_takes_5 := dk_seg dksX6_takes_4 23 rfl rfl
theorem dksX6_takes_6 : cX6_takes.data.toList.drop 138 = dktX6_takes_6 := dk_seg dksX6_takes_5 22 rfl rfl
theorem dksX6_takes_7 : cX6_takes.data.toList.drop 161 = dktX6_takes_7 := dk_seg dksX6_takes_6 23 rfl rfl
theorem dX6_takes_0 : decode cX6_takes 0 = .ok (.aload_n 0, 1) := dk_42 (dk_at dksX6_takes_0 0 rfl rfl)
theorem dX6_takes_1 : decode cX6_takes 1 = .ok (.getfield 9, 3) := dk_180 0 9 (dk_at dksX6_takes_0 1 rfl rfl)
theorem dX6_takes_4 : decode cX6_takes 4 = .ok (.aload_n 0, 1) := dk_42 (dk_at dksX6_takes_0 4 rfl rfl)
theorem dX6_takes_5 : decode cX6_takes 5 = .ok (.getfield 24, 3) := dk_180 0 24 (dk_at dksX6_takes_0 5 rfl rfl)
theorem dX6_takes_8 : decode cX6_takes 8 = .ok (.iload_n 2, 1) := dk_28 (dk_at dksX6_takes_0 8 rfl rfl)
theorem dX6_takes_9 : decode cX6_takes 9 = .ok (.iaload, 1) := dk_46 (dk_at dksX6_takes_0 9 rfl rfl)
theorem dX6_takes_10 : decode cX6_takes 10 = .ok (.iaload, 1) := dk_46 (dk_at dksX6_takes_0 10 rfl rfl)
theorem dX6_takes_11 : decode cX6_takes 11 = .ok (.istore_n 3, 1) := dk_62 (dk_at dksX6_takes_0 11 rfl rfl)
theorem dX6_takes_12 : decode cX6_takes 12 = .ok (.aload_n 0, 1) := dk_42 (dk_at dksX6_takes_0 12 rfl rfl)
theorem dX6_takes_13 : decode cX6_takes 13 = .ok (.getfield 18, 3) := dk_180 0 18 (dk_at dksX6_takes_0 13 rfl rfl)
theorem dX6_takes_16 : decode cX6_takes 16 = .ok (.aload_n 0, 1) := dk_42 (dk_at dksX6_takes_0 16 rfl rfl)
theorem dX6_takes_17 : decode cX6_takes 17 = .ok (.getfield 24, 3) := dk_180 0 24 (dk_at dksX6_takes_0 17 rfl rfl)
theorem dX6_takes_20 : decode cX6_takes 20 = .ok (.iload_n 2, 1) := dk_28 (dk_at dksX6_takes_0 20 rfl rfl)
theorem dX6_takes_21 : decode cX6_takes 21 = .ok (.iaload, 1) := dk_46 (dk_at dksX6_takes_0 21 rfl rfl)
theorem dX6_takes_22 : decode cX6_takes 22 = .ok (.iaload, 1) := dk_46 (dk_at dksX6_takes_0 22 rfl rfl)
theorem dX6_takes_23 : decode cX6_takes 23 = .ok (.ifCond .le 5, 3) := dk_158 0 5 (dk_at dksX6_takes_1 0 rfl rfl)
theorem dX6_takes_26 : decode cX6_takes 26 = .ok (.iconst 0, 1) := dk_3 (dk_at dksX6_takes_1 3 rfl rfl)
theorem dX6_takes_27 : decode cX6_takes 27 = .ok (.ireturn, 1) := dk_172 (dk_at dksX6_takes_1 4 rfl rfl)
theorem dX6_takes_28 : decode cX6_takes 28 = .ok (.aload_n 1, 1) := dk_43 (dk_at dksX6_takes_1 5 rfl rfl)
theorem dX6_takes_29 : decode cX6_takes 29 = .ok (.getfield 89, 3) := dk_180 0 89 (dk_at dksX6_takes_1 6 rfl rfl)
theorem dX6_takes_32 : decode cX6_takes 32 = .ok (.ifnonnull 16, 3) := dk_199 0 16 (dk_at dksX6_takes_1 9 rfl rfl)
theorem dX6_takes_35 : decode cX6_takes 35 = .ok (.iload_n 3, 1) := dk_29 (dk_at dksX6_takes_1 12 rfl rfl)
theorem dX6_takes_36 : decode cX6_takes 36 = .ok (.iconst 3, 1) := dk_6 (dk_at dksX6_takes_1 13 rfl rfl)
theorem dX6_takes_37 : decode cX6_takes 37 = .ok (.aload_n 0, 1) := dk_42 (dk_at dksX6_takes_1 14 rfl rfl)
theorem dX6_takes_38 : decode cX6_takes 38 = .ok (.getfield 21, 3) := dk_180 0 21 (dk_at dksX6_takes_1 15 rfl rfl)
theorem dX6_takes_41 : decode cX6_takes 41 = .ok (.iload_n 2, 1) := dk_28 (dk_at dksX6_takes_1 18 rfl rfl)
theorem dX6_takes_42 : decode cX6_takes 42 = .ok (.iaload, 1) := dk_46 (dk_at dksX6_takes_1 19 rfl rfl)
theorem dX6_takes_43 : decode cX6_takes 43 = .ok (.imul, 1) := dk_104 (dk_at dksX6_takes_1 20 rfl rfl)
theorem dX6_takes_44 : decode cX6_takes 44 = .ok (.invokestatic 93, 3) := dk_184 0 93 (dk_at dksX6_takes_1 21 rfl rfl)
theorem dX6_takes_47 : decode cX6_takes 47 = .ok (.ireturn, 1) := dk_172 (dk_at dksX6_takes_2 0 rfl rfl)
theorem dX6_takes_48 : decode cX6_takes 48 = .ok (.aload_n 1, 1) := dk_43 (dk_at dksX6_takes_2 1 rfl rfl)
theorem dX6_takes_49 : decode cX6_takes 49 = .ok (.getfield 99, 3) := dk_180 0 99 (dk_at dksX6_takes_2 2 rfl rfl)
theorem dX6_takes_52 : decode cX6_takes 52 = .ok (.astore 4, 2) := dk_58 4 (dk_at dksX6_takes_2 5 rfl rfl)
theorem dX6_takes_54 : decode cX6_takes 54 = .ok (.aload 4, 2) := dk_25 4 (dk_at dksX6_takes_2 7 rfl rfl)
theorem dX6_takes_56 : decode cX6_takes 56 = .ok (.getstatic 103, 3) := dk_178 0 103 (dk_at dksX6_takes_2 9 rfl rfl)
theorem dX6_takes_59 : decode cX6_takes 59 = .ok (.aload_n 0, 1) := dk_42 (dk_at dksX6_takes_2 12 rfl rfl)
theorem dX6_takes_60 : decode cX6_takes 60 = .ok (.getfield 21, 3) := dk_180 0 21 (dk_at dksX6_takes_2 13 rfl rfl)
theorem dX6_takes_63 : decode cX6_takes 63 = .ok (.iload_n 2, 1) := dk_28 (dk_at dksX6_takes_2 16 rfl rfl)
theorem dX6_takes_64 : decode cX6_takes 64 = .ok (.iaload, 1) := dk_46 (dk_at dksX6_takes_2 17 rfl rfl)
theorem dX6_takes_65 : decode cX6_takes 65 = .ok (.invokevirtual 109, 3) := dk_182 0 109 (dk_at dksX6_takes_2 18 rfl rfl)
theorem dX6_takes_68 : decode cX6_takes 68 = .ok (.aload 4, 2) := dk_25 4 (dk_at dksX6_takes_2 21 rfl rfl)
theorem dX6_takes_70 : decode cX6_takes 70 = .ok (.getstatic 115, 3) := dk_178 0 115 (dk_at dksX6_takes_3 0 rfl rfl)
theorem dX6_takes_73 : decode cX6_takes 73 = .ok (.iload_n 3, 1) := dk_29 (dk_at dksX6_takes_3 3 rfl rfl)
theorem dX6_takes_74 : decode cX6_takes 74 = .ok (.invokevirtual 109, 3) := dk_182 0 109 (dk_at dksX6_takes_3 4 rfl rfl)
theorem dX6_takes_77 : decode cX6_takes 77 = .ok (.aload 4, 2) := dk_25 4 (dk_at dksX6_takes_3 7 rfl rfl)
theorem dX6_takes_79 : decode cX6_takes 79 = .ok (.getstatic 118, 3) := dk_178 0 118 (dk_at dksX6_takes_3 9 rfl rfl)
theorem dX6_takes_82 : decode cX6_takes 82 = .ok (.aload_n 0, 1) := dk_42 (dk_at dksX6_takes_3 12 rfl rfl)
theorem dX6_takes_83 : decode cX6_takes 83 = .ok (.getfield 33, 3) := dk_180 0 33 (dk_at dksX6_takes_3 13 rfl rfl)
theorem dX6_takes_86 : decode cX6_takes 86 = .ok (.iload_n 2, 1) := dk_28 (dk_at dksX6_takes_3 16 rfl rfl)
theorem dX6_takes_87 : decode cX6_takes 87 = .ok (.iaload, 1) := dk_46 (dk_at dksX6_takes_3 17 rfl rfl)
theorem dX6_takes_88 : decode cX6_takes 88 = .ok (.invokevirtual 109, 3) := dk_182 0 109 (dk_at dksX6_takes_3 18 rfl rfl)
theorem dX6_takes_91 : decode cX6_takes 91 = .ok (.aload 4, 2) := dk_25 4 (dk_at dksX6_takes_3 21 rfl rfl)
theorem dX6_takes_93 : decode cX6_takes 93 = .ok (.getstatic 121, 3) := dk_178 0 121 (dk_at dksX6_takes_4 0 rfl rfl)
theorem dX6_takes_96 : decode cX6_takes 96 = .ok (.aload_n 1, 1) := dk_43 (dk_at dksX6_takes_4 3 rfl rfl)
theorem dX6_takes_97 : decode cX6_takes 97 = .ok (.getfield 124, 3) := dk_180 0 124 (dk_at dksX6_takes_4 4 rfl rfl)
theorem dX6_takes_100 : decode cX6_takes 100 = .ok (.aload_n 0, 1) := dk_42 (dk_at dksX6_takes_4 7 rfl rfl)
theorem dX6_takes_101 : decode cX6_takes 101 = .ok (.getfield 27, 3) := dk_180 0 27 (dk_at dksX6_takes_4 8 rfl rfl)
theorem dX6_takes_104 : decode cX6_takes 104 = .ok (.iload_n 2, 1) := dk_28 (dk_at dksX6_takes_4 11 rfl rfl)
theorem dX6_takes_105 : decode cX6_takes 105 = .ok (.iaload, 1) := dk_46 (dk_at dksX6_takes_4 12 rfl rfl)
theorem dX6_takes_106 : decode cX6_takes 106 = .ok (.imul, 1) := dk_104 (dk_at dksX6_takes_4 13 rfl rfl)
theorem dX6_takes_107 : decode cX6_takes 107 = .ok (.invokevirtual 109, 3) := dk_182 0 109 (dk_at dksX6_takes_4 14 rfl rfl)
theorem dX6_takes_110 : decode cX6_takes 110 = .ok (.aload 4, 2) := dk_25 4 (dk_at dksX6_takes_4 17 rfl rfl)
theorem dX6_takes_112 : decode cX6_takes 112 = .ok (.getstatic 127, 3) := dk_178 0 127 (dk_at dksX6_takes_4 19 rfl rfl)
theorem dX6_takes_115 : decode cX6_takes 115 = .ok (.aload_n 0, 1) := dk_42 (dk_at dksX6_takes_4 22 rfl rfl)
theorem dX6_takes_116 : decode cX6_takes 116 = .ok (.getfield 39, 3) := dk_180 0 39 (dk_at dksX6_takes_5 0 rfl rfl)
theorem dX6_takes_119 : decode cX6_takes 119 = .ok (.invokevirtual 109, 3) := dk_182 0 109 (dk_at dksX6_takes_5 3 rfl rfl)
theorem dX6_takes_122 : decode cX6_takes 122 = .ok (.aload 4, 2) := dk_25 4 (dk_at dksX6_takes_5 6 rfl rfl)
theorem dX6_takes_124 : decode cX6_takes 124 = .ok (.getstatic 130, 3) := dk_178 0 130 (dk_at dksX6_takes_5 8 rfl rfl)
theorem dX6_takes_127 : decode cX6_takes 127 = .ok (.aload_n 0, 1) := dk_42 (dk_at dksX6_takes_5 11 rfl rfl)
theorem dX6_takes_128 : decode cX6_takes 128 = .ok (.getfield 30, 3) := dk_180 0 30 (dk_at dksX6_takes_5 12 rfl rfl)
theorem dX6_takes_131 : decode cX6_takes 131 = .ok (.iload_n 2, 1) := dk_28 (dk_at dksX6_takes_5 15 rfl rfl)
theorem dX6_takes_132 : decode cX6_takes 132 = .ok (.iaload, 1) := dk_46 (dk_at dksX6_takes_5 16 rfl rfl)
theorem dX6_takes_133 : decode cX6_takes 133 = .ok (.invokevirtual 109, 3) := dk_182 0 109 (dk_at dksX6_takes_5 17 rfl rfl)
theorem dX6_takes_136 : decode cX6_takes 136 = .ok (.aload 4, 2) := dk_25 4 (dk_at dksX6_takes_5 20 rfl rfl)
theorem dX6_takes_138 : decode cX6_takes 138 = .ok (.getstatic 133, 3) := dk_178 0 133 (dk_at dksX6_takes_6 0 rfl rfl)
theorem dX6_takes_141 : decode cX6_takes 141 = .ok (.aload_n 0, 1) := dk_42 (dk_at dksX6_takes_6 3 rfl rfl)
theorem dX6_takes_142 : decode cX6_takes 142 = .ok (.aload_n 1, 1) := dk_43 (dk_at dksX6_takes_6 4 rfl rfl)
theorem dX6_takes_143 : decode cX6_takes 143 = .ok (.iload_n 2, 1) := dk_28 (dk_at dksX6_takes_6 5 rfl rfl)
theorem dX6_takes_144 : decode cX6_takes 144 = .ok (.invokevirtual 136, 3) := dk_182 0 136 (dk_at dksX6_takes_6 6 rfl rfl)
theorem dX6_takes_147 : decode cX6_takes 147 = .ok (.invokevirtual 109, 3) := dk_182 0 109 (dk_at dksX6_takes_6 9 rfl rfl)
theorem dX6_takes_150 : decode cX6_takes 150 = .ok (.iconst 0, 1) := dk_3 (dk_at dksX6_takes_6 12 rfl rfl)
theorem dX6_takes_151 : decode cX6_takes 151 = .ok (.iload_n 3, 1) := dk_29 (dk_at dksX6_takes_6 13 rfl rfl)
theorem dX6_takes_152 : decode cX6_takes 152 = .ok (.aload_n 1, 1) := dk_43 (dk_at dksX6_takes_6 14 rfl rfl)
theorem dX6_takes_153 : decode cX6_takes 153 = .ok (.getfield 89, 3) := dk_180 0 89 (dk_at dksX6_takes_6 15 rfl rfl)
theorem dX6_takes_156 : decode cX6_takes 156 = .ok (.aload 4, 2) := dk_25 4 (dk_at dksX6_takes_6 18 rfl rfl)
theorem dX6_takes_158 : decode cX6_takes 158 = .ok (.invokevirtual 140, 3) := dk_182 0 140 (dk_at dksX6_takes_6 20 rfl rfl)
theorem dX6_takes_161 : decode cX6_takes 161 = .ok (.invokestatic 93, 3) := dk_184 0 93 (dk_at dksX6_takes_7 0 rfl rfl)
theorem dX6_takes_164 : decode cX6_takes 164 = .ok (.invokestatic 146, 3) := dk_184 0 146 (dk_at dksX6_takes_7 3 rfl rfl)
theorem dX6_takes_167 : decode cX6_takes 167 = .ok (.ireturn, 1) := dk_172 (dk_at dksX6_takes_7 6 rfl rfl)
abbrev cX6_others : ByteArray := prog_13_method_4_code
def yX6_others : MethodName := ⟨RX6, "others", "(LSableCrown$Land;I)I"⟩
def dkwX6_others_2 : List UInt8 := [29, 172]
abbrev dktX6_others_2 : List UInt8 := dkwX6_others_2 ++ []
def dkwX6_others_1 : List UInt8 := [180, 0, 24, 21, 4, 46, 42, 180, 0, 24, 28, 46, 160, 0, 6, 132, 3, 1, 132, 4, 1, 167, 255, 216]
abbrev dktX6_others_1 : List UInt8 := dkwX6_others_1 ++ dktX6_others_2
def dkwX6_others_0 : List UInt8 := [3, 62, 3, 54, 4, 21, 4, 43, 180, 0, 71, 182, 0, 55, 162, 0, 34, 21, 4, 28, 159, 0, 22, 42]
abbrev dktX6_others_0 : List UInt8 := dkwX6_others_0 ++ dktX6_others_1
theorem dksX6_others_0 : cX6_others.data.toList.drop 0 = dktX6_others_0 := by decide +kernel
theorem dksX6_others_1 : cX6_others.data.toList.drop 24 = dktX6_others_1 := dk_seg dksX6_others_0 24 rfl rfl
theorem dksX6_others_2 : cX6_others.data.toList.drop 48 = dktX6_others_2 := dk_seg dksX6_others_1 24 rfl rfl
theorem dX6_others_0 : decode cX6_others 0 = .ok (.iconst 0, 1) := dk_3 (dk_at dksX6_others_0 0 rfl rfl)
theorem dX6_others_1 : decode cX6_others 1 = .ok (.istore_n 3, 1) := dk_62 (dk_at dksX6_others_0 1 rfl rfl)
theorem dX6_others_2 : decode cX6_others 2 = .ok (.iconst 0, 1) := dk_3 (dk_at dksX6_others_0 2 rfl rfl)
theorem dX6_others_3 : decode cX6_others 3 = .ok (.istore 4, 2) := dk_54 4 (dk_at dksX6_others_0 3 rfl rfl)
theorem dX6_others_5 : decode cX6_others 5 = .ok (.iload 4, 2) := dk_21 4 (dk_at dksX6_others_0 5 rfl rfl)
theorem dX6_others_7 : decode cX6_others 7 = .ok (.aload_n 1, 1) := dk_43 (dk_at dksX6_others_0 7 rfl rfl)
theorem dX6_others_8 : decode cX6_others 8 = .ok (.getfield 71, 3) := dk_180 0 71 (dk_at dksX6_others_0 8 rfl rfl)
theorem dX6_others_11 : decode cX6_others 11 = .ok (.invokevirtual 55, 3) := dk_182 0 55 (dk_at dksX6_others_0 11 rfl rfl)
theorem dX6_others_14 : decode cX6_others 14 = .ok (.if_icmp .ge 34, 3) := dk_162 0 34 (dk_at dksX6_others_0 14 rfl rfl)
theorem dX6_others_17 : decode cX6_others 17 = .ok (.iload 4, 2) := dk_21 4 (dk_at dksX6_others_0 17 rfl rfl)
theorem dX6_others_19 : decode cX6_others 19 = .ok (.iload_n 2, 1) := dk_28 (dk_at dksX6_others_0 19 rfl rfl)
theorem dX6_others_20 : decode cX6_others 20 = .ok (.if_icmp .eq 22, 3) := dk_159 0 22 (dk_at dksX6_others_0 20 rfl rfl)
theorem dX6_others_23 : decode cX6_others 23 = .ok (.aload_n 0, 1) := dk_42 (dk_at dksX6_others_0 23 rfl rfl)
theorem dX6_others_24 : decode cX6_others 24 = .ok (.getfield 24, 3) := dk_180 0 24 (dk_at dksX6_others_1 0 rfl rfl)
theorem dX6_others_27 : decode cX6_others 27 = .ok (.iload 4, 2) := dk_21 4 (dk_at dksX6_others_1 3 rfl rfl)
theorem dX6_others_29 : decode cX6_others 29 = .ok (.iaload, 1) := dk_46 (dk_at dksX6_others_1 5 rfl rfl)
theorem dX6_others_30 : decode cX6_others 30 = .ok (.aload_n 0, 1) := dk_42 (dk_at dksX6_others_1 6 rfl rfl)
theorem dX6_others_31 : decode cX6_others 31 = .ok (.getfield 24, 3) := dk_180 0 24 (dk_at dksX6_others_1 7 rfl rfl)
theorem dX6_others_34 : decode cX6_others 34 = .ok (.iload_n 2, 1) := dk_28 (dk_at dksX6_others_1 10 rfl rfl)
theorem dX6_others_35 : decode cX6_others 35 = .ok (.iaload, 1) := dk_46 (dk_at dksX6_others_1 11 rfl rfl)
theorem dX6_others_36 : decode cX6_others 36 = .ok (.if_icmp .ne 6, 3) := dk_160 0 6 (dk_at dksX6_others_1 12 rfl rfl)
theorem dX6_others_39 : decode cX6_others 39 = .ok (.iinc 3 1, 3) := dk_132 3 1 (dk_at dksX6_others_1 15 rfl rfl)
theorem dX6_others_42 : decode cX6_others 42 = .ok (.iinc 4 1, 3) := dk_132 4 1 (dk_at dksX6_others_1 18 rfl rfl)
theorem dX6_others_45 : decode cX6_others 45 = .ok (.goto (-40), 3) := dk_167 255 216 (dk_at dksX6_others_1 21 rfl rfl)
theorem dX6_others_48 : decode cX6_others 48 = .ok (.iload_n 3, 1) := dk_29 (dk_at dksX6_others_2 0 rfl rfl)
theorem dX6_others_49 : decode cX6_others 49 = .ok (.ireturn, 1) := dk_172 (dk_at dksX6_others_2 1 rfl rfl)
abbrev cX6_pays : ByteArray := prog_13_method_7_code
def yX6_pays : MethodName := ⟨RX6, "pays", "(LSableCrown$Land;I)V"⟩
def dkwX6_pays_5 : List UInt8 := [28, 92, 46, 21, 5, 100, 79, 42, 180, 0, 36, 28, 92, 46, 4, 96, 79, 177]
abbrev dktX6_pays_5 : List UInt8 := dkwX6_pays_5 ++ []
def dkwX6_pays_4 : List UInt8 := [5, 108, 54, 5, 42, 89, 180, 0, 46, 21, 5, 43, 180, 0, 158, 104, 96, 181, 0, 46, 42, 180, 0, 33]
abbrev dktX6_pays_4 : List UInt8 := dkwX6_pays_4 ++ dktX6_pays_5
def dkwX6_pays_3 : List UInt8 := [180, 0, 33, 28, 46, 43, 180, 0, 155, 163, 0, 4, 177, 42, 180, 0, 33, 28, 46, 43, 180, 0, 155, 100]
abbrev dktX6_pays_3 : List UInt8 := dkwX6_pays_3 ++ dktX6_pays_4
def dkwX6_pays_2 : List UInt8 := [21, 4, 96, 181, 0, 43, 42, 180, 0, 33, 28, 17, 39, 15, 29, 21, 4, 100, 184, 0, 93, 79, 42]
abbrev dktX6_pays_2 : List UInt8 := dkwX6_pays_2 ++ dktX6_pays_3
def dkwX6_pays_1 : List UInt8 := [46, 29, 184, 0, 93, 54, 4, 42, 180, 0, 30, 28, 92, 46, 21, 4, 100, 79, 42, 89, 180, 0, 43]
abbrev dktX6_pays_1 : List UInt8 := dkwX6_pays_1 ++ dktX6_pays_2
def dkwX6_pays_0 : List UInt8 := [43, 180, 0, 124, 42, 180, 0, 27, 28, 46, 104, 42, 180, 0, 33, 28, 46, 96, 62, 42, 180, 0, 30, 28]
abbrev dktX6_pays_0 : List UInt8 := dkwX6_pays_0 ++ dktX6_pays_1
theorem dksX6_pays_0 : cX6_pays.data.toList.drop 0 = dktX6_pays_0 := by decide +kernel
theorem dksX6_pays_1 : cX6_pays.data.toList.drop 24 = dktX6_pays_1 := dk_seg dksX6_pays_0 24 rfl rfl
theorem dksX6_pays_2 : cX6_pays.data.toList.drop 47 = dktX6_pays_2 := dk_seg dksX6_pays_1 23 rfl rfl
theorem dksX6_pays_3 : cX6_pays.data.toList.drop 70 = dktX6_pays_3 := dk_seg dksX6_pays_2 23 rfl rfl
theorem dksX6_pays_4 : cX6_pays.data.toList.drop 94 = dktX6_pays_4 := dk_seg dksX6_pays_3 24 rfl rfl
theorem dksX6_pays_5 : cX6_pays.data.toList.drop 118 = dktX6_pays_5 := dk_seg dksX6_pays_4 24 rfl rfl
theorem dX6_pays_0 : decode cX6_pays 0 = .ok (.aload_n 1, 1) := dk_43 (dk_at dksX6_pays_0 0 rfl rfl)
theorem dX6_pays_1 : decode cX6_pays 1 = .ok (.getfield 124, 3) := dk_180 0 124 (dk_at dksX6_pays_0 1 rfl rfl)
theorem dX6_pays_4 : decode cX6_pays 4 = .ok (.aload_n 0, 1) := dk_42 (dk_at dksX6_pays_0 4 rfl rfl)
theorem dX6_pays_5 : decode cX6_pays 5 = .ok (.getfield 27, 3) := dk_180 0 27 (dk_at dksX6_pays_0 5 rfl rfl)
theorem dX6_pays_8 : decode cX6_pays 8 = .ok (.iload_n 2, 1) := dk_28 (dk_at dksX6_pays_0 8 rfl rfl)
theorem dX6_pays_9 : decode cX6_pays 9 = .ok (.iaload, 1) := dk_46 (dk_at dksX6_pays_0 9 rfl rfl)
theorem dX6_pays_10 : decode cX6_pays 10 = .ok (.imul, 1) := dk_104 (dk_at dksX6_pays_0 10 rfl rfl)
theorem dX6_pays_11 : decode cX6_pays 11 = .ok (.aload_n 0, 1) := dk_42 (dk_at dksX6_pays_0 11 rfl rfl)
theorem dX6_pays_12 : decode cX6_pays 12 = .ok (.getfield 33, 3) := dk_180 0 33 (dk_at dksX6_pays_0 12 rfl rfl)
theorem dX6_pays_15 : decode cX6_pays 15 = .ok (.iload_n 2, 1) := dk_28 (dk_at dksX6_pays_0 15 rfl rfl)
theorem dX6_pays_16 : decode cX6_pays 16 = .ok (.iaload, 1) := dk_46 (dk_at dksX6_pays_0 16 rfl rfl)
theorem dX6_pays_17 : decode cX6_pays 17 = .ok (.iadd, 1) := dk_96 (dk_at dksX6_pays_0 17 rfl rfl)
theorem dX6_pays_18 : decode cX6_pays 18 = .ok (.istore_n 3, 1) := dk_62 (dk_at dksX6_pays_0 18 rfl rfl)
theorem dX6_pays_19 : decode cX6_pays 19 = .ok (.aload_n 0, 1) := dk_42 (dk_at dksX6_pays_0 19 rfl rfl)
theorem dX6_pays_20 : decode cX6_pays 20 = .ok (.getfield 30, 3) := dk_180 0 30 (dk_at dksX6_pays_0 20 rfl rfl)
theorem dX6_pays_23 : decode cX6_pays 23 = .ok (.iload_n 2, 1) := dk_28 (dk_at dksX6_pays_0 23 rfl rfl)
theorem dX6_pays_24 : decode cX6_pays 24 = .ok (.iaload, 1) := dk_46 (dk_at dksX6_pays_1 0 rfl rfl)
theorem dX6_pays_25 : decode cX6_pays 25 = .ok (.iload_n 3, 1) := dk_29 (dk_at dksX6_pays_1 1 rfl rfl)
theorem dX6_pays_26 : decode cX6_pays 26 = .ok (.invokestatic 93, 3) := dk_184 0 93 (dk_at dksX6_pays_1 2 rfl rfl)
theorem dX6_pays_29 : decode cX6_pays 29 = .ok (.istore 4, 2) := dk_54 4 (dk_at dksX6_pays_1 5 rfl rfl)
theorem dX6_pays_31 : decode cX6_pays 31 = .ok (.aload_n 0, 1) := dk_42 (dk_at dksX6_pays_1 7 rfl rfl)
theorem dX6_pays_32 : decode cX6_pays 32 = .ok (.getfield 30, 3) := dk_180 0 30 (dk_at dksX6_pays_1 8 rfl rfl)
theorem dX6_pays_35 : decode cX6_pays 35 = .ok (.iload_n 2, 1) := dk_28 (dk_at dksX6_pays_1 11 rfl rfl)
theorem dX6_pays_36 : decode cX6_pays 36 = .ok (.dup2, 1) := dk_92 (dk_at dksX6_pays_1 12 rfl rfl)
theorem dX6_pays_37 : decode cX6_pays 37 = .ok (.iaload, 1) := dk_46 (dk_at dksX6_pays_1 13 rfl rfl)
theorem dX6_pays_38 : decode cX6_pays 38 = .ok (.iload 4, 2) := dk_21 4 (dk_at dksX6_pays_1 14 rfl rfl)
theorem dX6_pays_40 : decode cX6_pays 40 = .ok (.isub, 1) := dk_100 (dk_at dksX6_pays_1 16 rfl rfl)
theorem dX6_pays_41 : decode cX6_pays 41 = .ok (.iastore, 1) := dk_79 (dk_at dksX6_pays_1 17 rfl rfl)
theorem dX6_pays_42 : decode cX6_pays 42 = .ok (.aload_n 0, 1) := dk_42 (dk_at dksX6_pays_1 18 rfl rfl)
theorem dX6_pays_43 : decode cX6_pays 43 = .ok (.dup, 1) := dk_89 (dk_at dksX6_pays_1 19 rfl rfl)
theorem dX6_pays_44 : decode cX6_pays 44 = .ok (.getfield 43, 3) := dk_180 0 43 (dk_at dksX6_pays_1 20 rfl rfl)
theorem dX6_pays_47 : decode cX6_pays 47 = .ok (.iload 4, 2) := dk_21 4 (dk_at dksX6_pays_2 0 rfl rfl)
theorem dX6_pays_49 : decode cX6_pays 49 = .ok (.iadd, 1) := dk_96 (dk_at dksX6_pays_2 2 rfl rfl)
theorem dX6_pays_50 : decode cX6_pays 50 = .ok (.putfield 43, 3) := dk_181 0 43 (dk_at dksX6_pays_2 3 rfl rfl)
theorem dX6_pays_53 : decode cX6_pays 53 = .ok (.aload_n 0, 1) := dk_42 (dk_at dksX6_pays_2 6 rfl rfl)
theorem dX6_pays_54 : decode cX6_pays 54 = .ok (.getfield 33, 3) := dk_180 0 33 (dk_at dksX6_pays_2 7 rfl rfl)
theorem dX6_pays_57 : decode cX6_pays 57 = .ok (.iload_n 2, 1) := dk_28 (dk_at dksX6_pays_2 10 rfl rfl)
theorem dX6_pays_58 : decode cX6_pays 58 = .ok (.sipush 9999, 3) := dk_17 39 15 (dk_at dksX6_pays_2 11 rfl rfl)
theorem dX6_pays_61 : decode cX6_pays 61 = .ok (.iload_n 3, 1) := dk_29 (dk_at dksX6_pays_2 14 rfl rfl)
theorem dX6_pays_62 : decode cX6_pays 62 = .ok (.iload 4, 2) := dk_21 4 (dk_at dksX6_pays_2 15 rfl rfl)
theorem dX6_pays_64 : decode cX6_pays 64 = .ok (.isub, 1) := dk_100 (dk_at dksX6_pays_2 17 rfl rfl)
theorem dX6_pays_65 : decode cX6_pays 65 = .ok (.invokestatic 93, 3) := dk_184 0 93 (dk_at dksX6_pays_2 18 rfl rfl)
theorem dX6_pays_68 : decode cX6_pays 68 = .ok (.iastore, 1) := dk_79 (dk_at dksX6_pays_2 21 rfl rfl)
theorem dX6_pays_69 : decode cX6_pays 69 = .ok (.aload_n 0, 1) := dk_42 (dk_at dksX6_pays_2 22 rfl rfl)
theorem dX6_pays_70 : decode cX6_pays 70 = .ok (.getfield 33, 3) := dk_180 0 33 (dk_at dksX6_pays_3 0 rfl rfl)
theorem dX6_pays_73 : decode cX6_pays 73 = .ok (.iload_n 2, 1) := dk_28 (dk_at dksX6_pays_3 3 rfl rfl)
theorem dX6_pays_74 : decode cX6_pays 74 = .ok (.iaload, 1) := dk_46 (dk_at dksX6_pays_3 4 rfl rfl)
theorem dX6_pays_75 : decode cX6_pays 75 = .ok (.aload_n 1, 1) := dk_43 (dk_at dksX6_pays_3 5 rfl rfl)
theorem dX6_pays_76 : decode cX6_pays 76 = .ok (.getfield 155, 3) := dk_180 0 155 (dk_at dksX6_pays_3 6 rfl rfl)
theorem dX6_pays_79 : decode cX6_pays 79 = .ok (.if_icmp .gt 4, 3) := dk_163 0 4 (dk_at dksX6_pays_3 9 rfl rfl)
theorem dX6_pays_82 : decode cX6_pays 82 = .ok (.return_, 1) := dk_177 (dk_at dksX6_pays_3 12 rfl rfl)
theorem dX6_pays_83 : decode cX6_pays 83 = .ok (.aload_n 0, 1) := dk_42 (dk_at dksX6_pays_3 13 rfl rfl)
theorem dX6_pays_84 : decode cX6_pays 84 = .ok (.getfield 33, 3) := dk_180 0 33 (dk_at dksX6_pays_3 14 rfl rfl)
theorem dX6_pays_87 : decode cX6_pays 87 = .ok (.iload_n 2, 1) := dk_28 (dk_at dksX6_pays_3 17 rfl rfl)
theorem dX6_pays_88 : decode cX6_pays 88 = .ok (.iaload, 1) := dk_46 (dk_at dksX6_pays_3 18 rfl rfl)
theorem dX6_pays_89 : decode cX6_pays 89 = .ok (.aload_n 1, 1) := dk_43 (dk_at dksX6_pays_3 19 rfl rfl)
theorem dX6_pays_90 : decode cX6_pays 90 = .ok (.getfield 155, 3) := dk_180 0 155 (dk_at dksX6_pays_3 20 rfl rfl)
theorem dX6_pays_93 : decode cX6_pays 93 = .ok (.isub, 1) := dk_100 (dk_at dksX6_pays_3 23 rfl rfl)
theorem dX6_pays_94 : decode cX6_pays 94 = .ok (.iconst 2, 1) := dk_5 (dk_at dksX6_pays_4 0 rfl rfl)
theorem dX6_pays_95 : decode cX6_pays 95 = .ok (.idiv, 1) := dk_108 (dk_at dksX6_pays_4 1 rfl rfl)
theorem dX6_pays_96 : decode cX6_pays 96 = .ok (.istore 5, 2) := dk_54 5 (dk_at dksX6_pays_4 2 rfl rfl)
theorem dX6_pays_98 : decode cX6_pays 98 = .ok (.aload_n 0, 1) := dk_42 (dk_at dksX6_pays_4 4 rfl rfl)
theorem dX6_pays_99 : decode cX6_pays 99 = .ok (.dup, 1) := dk_89 (dk_at dksX6_pays_4 5 rfl rfl)
theorem dX6_pays_100 : decode cX6_pays 100 = .ok (.getfield 46, 3) := dk_180 0 46 (dk_at dksX6_pays_4 6 rfl rfl)
theorem dX6_pays_103 : decode cX6_pays 103 = .ok (.iload 5, 2) := dk_21 5 (dk_at dksX6_pays_4 9 rfl rfl)
theorem dX6_pays_105 : decode cX6_pays 105 = .ok (.aload_n 1, 1) := dk_43 (dk_at dksX6_pays_4 11 rfl rfl)
theorem dX6_pays_106 : decode cX6_pays 106 = .ok (.getfield 158, 3) := dk_180 0 158 (dk_at dksX6_pays_4 12 rfl rfl)
theorem dX6_pays_109 : decode cX6_pays 109 = .ok (.imul, 1) := dk_104 (dk_at dksX6_pays_4 15 rfl rfl)
theorem dX6_pays_110 : decode cX6_pays 110 = .ok (.iadd, 1) := dk_96 (dk_at dksX6_pays_4 16 rfl rfl)
theorem dX6_pays_111 : decode cX6_pays 111 = .ok (.putfield 46, 3) := dk_181 0 46 (dk_at dksX6_pays_4 17 rfl rfl)
theorem dX6_pays_114 : decode cX6_pays 114 = .ok (.aload_n 0, 1) := dk_42 (dk_at dksX6_pays_4 20 rfl rfl)
theorem dX6_pays_115 : decode cX6_pays 115 = .ok (.getfield 33, 3) := dk_180 0 33 (dk_at dksX6_pays_4 21 rfl rfl)
theorem dX6_pays_118 : decode cX6_pays 118 = .ok (.iload_n 2, 1) := dk_28 (dk_at dksX6_pays_5 0 rfl rfl)
theorem dX6_pays_119 : decode cX6_pays 119 = .ok (.dup2, 1) := dk_92 (dk_at dksX6_pays_5 1 rfl rfl)
theorem dX6_pays_120 : decode cX6_pays 120 = .ok (.iaload, 1) := dk_46 (dk_at dksX6_pays_5 2 rfl rfl)
theorem dX6_pays_121 : decode cX6_pays 121 = .ok (.iload 5, 2) := dk_21 5 (dk_at dksX6_pays_5 3 rfl rfl)
theorem dX6_pays_123 : decode cX6_pays 123 = .ok (.isub, 1) := dk_100 (dk_at dksX6_pays_5 5 rfl rfl)
theorem dX6_pays_124 : decode cX6_pays 124 = .ok (.iastore, 1) := dk_79 (dk_at dksX6_pays_5 6 rfl rfl)
theorem dX6_pays_125 : decode cX6_pays 125 = .ok (.aload_n 0, 1) := dk_42 (dk_at dksX6_pays_5 7 rfl rfl)
theorem dX6_pays_126 : decode cX6_pays 126 = .ok (.getfield 36, 3) := dk_180 0 36 (dk_at dksX6_pays_5 8 rfl rfl)
theorem dX6_pays_129 : decode cX6_pays 129 = .ok (.iload_n 2, 1) := dk_28 (dk_at dksX6_pays_5 11 rfl rfl)
theorem dX6_pays_130 : decode cX6_pays 130 = .ok (.dup2, 1) := dk_92 (dk_at dksX6_pays_5 12 rfl rfl)
theorem dX6_pays_131 : decode cX6_pays 131 = .ok (.iaload, 1) := dk_46 (dk_at dksX6_pays_5 13 rfl rfl)
theorem dX6_pays_132 : decode cX6_pays 132 = .ok (.iconst 1, 1) := dk_4 (dk_at dksX6_pays_5 14 rfl rfl)
theorem dX6_pays_133 : decode cX6_pays 133 = .ok (.iadd, 1) := dk_96 (dk_at dksX6_pays_5 15 rfl rfl)
theorem dX6_pays_134 : decode cX6_pays 134 = .ok (.iastore, 1) := dk_79 (dk_at dksX6_pays_5 16 rfl rfl)
theorem dX6_pays_135 : decode cX6_pays 135 = .ok (.return_, 1) := dk_177 (dk_at dksX6_pays_5 17 rfl rfl)
abbrev cX6_grows : ByteArray := prog_13_method_8_code
def yX6_grows : MethodName := ⟨RX6, "grows", "(LSableCrown$Land;)V"⟩
def dkwX6_grows_3 : List UInt8 := [42, 180, 0, 18, 28, 92, 46, 4, 100, 79, 132, 2, 1, 167, 255, 173, 177]
abbrev dktX6_grows_3 : List UInt8 := dkwX6_grows_3 ++ []
def dkwX6_grows_2 : List UInt8 := [180, 0, 15, 28, 46, 42, 180, 0, 9, 28, 46, 182, 0, 165, 79, 42, 180, 0, 18, 28, 46, 158, 0, 13]
abbrev dktX6_grows_2 : List UInt8 := dkwX6_grows_2 ++ dktX6_grows_3
def dkwX6_grows_1 : List UInt8 := [78, 42, 180, 0, 9, 28, 45, 42, 180, 0, 9, 28, 46, 182, 0, 161, 79, 42, 180, 0, 15, 28, 45, 42]
abbrev dktX6_grows_1 : List UInt8 := dkwX6_grows_1 ++ dktX6_grows_2
def dkwX6_grows_0 : List UInt8 := [3, 61, 28, 43, 180, 0, 49, 182, 0, 55, 162, 0, 78, 43, 180, 0, 49, 28, 182, 0, 61, 192, 0, 65]
abbrev dktX6_grows_0 : List UInt8 := dkwX6_grows_0 ++ dktX6_grows_1
theorem dksX6_grows_0 : cX6_grows.data.toList.drop 0 = dktX6_grows_0 := by decide +kernel
theorem dksX6_grows_1 : cX6_grows.data.toList.drop 24 = dktX6_grows_1 := dk_seg dksX6_grows_0 24 rfl rfl
theorem dksX6_grows_2 : cX6_grows.data.toList.drop 48 = dktX6_grows_2 := dk_seg dksX6_grows_1 24 rfl rfl
theorem dksX6_grows_3 : cX6_grows.data.toList.drop 72 = dktX6_grows_3 := dk_seg dksX6_grows_2 24 rfl rfl
theorem dX6_grows_0 : decode cX6_grows 0 = .ok (.iconst 0, 1) := dk_3 (dk_at dksX6_grows_0 0 rfl rfl)
theorem dX6_grows_1 : decode cX6_grows 1 = .ok (.istore_n 2, 1) := dk_61 (dk_at dksX6_grows_0 1 rfl rfl)
theorem dX6_grows_2 : decode cX6_grows 2 = .ok (.iload_n 2, 1) := dk_28 (dk_at dksX6_grows_0 2 rfl rfl)
theorem dX6_grows_3 : decode cX6_grows 3 = .ok (.aload_n 1, 1) := dk_43 (dk_at dksX6_grows_0 3 rfl rfl)
theorem dX6_grows_4 : decode cX6_grows 4 = .ok (.getfield 49, 3) := dk_180 0 49 (dk_at dksX6_grows_0 4 rfl rfl)
theorem dX6_grows_7 : decode cX6_grows 7 = .ok (.invokevirtual 55, 3) := dk_182 0 55 (dk_at dksX6_grows_0 7 rfl rfl)
theorem dX6_grows_10 : decode cX6_grows 10 = .ok (.if_icmp .ge 78, 3) := dk_162 0 78 (dk_at dksX6_grows_0 10 rfl rfl)
theorem dX6_grows_13 : decode cX6_grows 13 = .ok (.aload_n 1, 1) := dk_43 (dk_at dksX6_grows_0 13 rfl rfl)
theorem dX6_grows_14 : decode cX6_grows 14 = .ok (.getfield 49, 3) := dk_180 0 49 (dk_at dksX6_grows_0 14 rfl rfl)
theorem dX6_grows_17 : decode cX6_grows 17 = .ok (.iload_n 2, 1) := dk_28 (dk_at dksX6_grows_0 17 rfl rfl)
theorem dX6_grows_18 : decode cX6_grows 18 = .ok (.invokevirtual 61, 3) := dk_182 0 61 (dk_at dksX6_grows_0 18 rfl rfl)
theorem dX6_grows_21 : decode cX6_grows 21 = .ok (.checkcast 65, 3) := dk_192 0 65 (dk_at dksX6_grows_0 21 rfl rfl)
theorem dX6_grows_24 : decode cX6_grows 24 = .ok (.astore_n 3, 1) := dk_78 (dk_at dksX6_grows_1 0 rfl rfl)
theorem dX6_grows_25 : decode cX6_grows 25 = .ok (.aload_n 0, 1) := dk_42 (dk_at dksX6_grows_1 1 rfl rfl)
theorem dX6_grows_26 : decode cX6_grows 26 = .ok (.getfield 9, 3) := dk_180 0 9 (dk_at dksX6_grows_1 2 rfl rfl)
theorem dX6_grows_29 : decode cX6_grows 29 = .ok (.iload_n 2, 1) := dk_28 (dk_at dksX6_grows_1 5 rfl rfl)
theorem dX6_grows_30 : decode cX6_grows 30 = .ok (.aload_n 3, 1) := dk_45 (dk_at dksX6_grows_1 6 rfl rfl)
theorem dX6_grows_31 : decode cX6_grows 31 = .ok (.aload_n 0, 1) := dk_42 (dk_at dksX6_grows_1 7 rfl rfl)
theorem dX6_grows_32 : decode cX6_grows 32 = .ok (.getfield 9, 3) := dk_180 0 9 (dk_at dksX6_grows_1 8 rfl rfl)
theorem dX6_grows_35 : decode cX6_grows 35 = .ok (.iload_n 2, 1) := dk_28 (dk_at dksX6_grows_1 11 rfl rfl)
theorem dX6_grows_36 : decode cX6_grows 36 = .ok (.iaload, 1) := dk_46 (dk_at dksX6_grows_1 12 rfl rfl)
theorem dX6_grows_37 : decode cX6_grows 37 = .ok (.invokevirtual 161, 3) := dk_182 0 161 (dk_at dksX6_grows_1 13 rfl rfl)
theorem dX6_grows_40 : decode cX6_grows 40 = .ok (.iastore, 1) := dk_79 (dk_at dksX6_grows_1 16 rfl rfl)
theorem dX6_grows_41 : decode cX6_grows 41 = .ok (.aload_n 0, 1) := dk_42 (dk_at dksX6_grows_1 17 rfl rfl)
theorem dX6_grows_42 : decode cX6_grows 42 = .ok (.getfield 15, 3) := dk_180 0 15 (dk_at dksX6_grows_1 18 rfl rfl)
theorem dX6_grows_45 : decode cX6_grows 45 = .ok (.iload_n 2, 1) := dk_28 (dk_at dksX6_grows_1 21 rfl rfl)
theorem dX6_grows_46 : decode cX6_grows 46 = .ok (.aload_n 3, 1) := dk_45 (dk_at dksX6_grows_1 22 rfl rfl)
theorem dX6_grows_47 : decode cX6_grows 47 = .ok (.aload_n 0, 1) := dk_42 (dk_at dksX6_grows_1 23 rfl rfl)
theorem dX6_grows_48 : decode cX6_grows 48 = .ok (.getfield 15, 3) := dk_180 0 15 (dk_at dksX6_grows_2 0 rfl rfl)
theorem dX6_grows_51 : decode cX6_grows 51 = .ok (.iload_n 2, 1) := dk_28 (dk_at dksX6_grows_2 3 rfl rfl)
theorem dX6_grows_52 : decode cX6_grows 52 = .ok (.iaload, 1) := dk_46 (dk_at dksX6_grows_2 4 rfl rfl)
theorem dX6_grows_53 : decode cX6_grows 53 = .ok (.aload_n 0, 1) := dk_42 (dk_at dksX6_grows_2 5 rfl rfl)
theorem dX6_grows_54 : decode cX6_grows 54 = .ok (.getfield 9, 3) := dk_180 0 9 (dk_at dksX6_grows_2 6 rfl rfl)
theorem dX6_grows_57 : decode cX6_grows 57 = .ok (.iload_n 2, 1) := dk_28 (dk_at dksX6_grows_2 9 rfl rfl)
theorem dX6_grows_58 : decode cX6_grows 58 = .ok (.iaload, 1) := dk_46 (dk_at dksX6_grows_2 10 rfl rfl)
theorem dX6_grows_59 : decode cX6_grows 59 = .ok (.invokevirtual 165, 3) := dk_182 0 165 (dk_at dksX6_grows_2 11 rfl rfl)
theorem dX6_grows_62 : decode cX6_grows 62 = .ok (.iastore, 1) := dk_79 (dk_at dksX6_grows_2 14 rfl rfl)
theorem dX6_grows_63 : decode cX6_grows 63 = .ok (.aload_n 0, 1) := dk_42 (dk_at dksX6_grows_2 15 rfl rfl)
theorem dX6_grows_64 : decode cX6_grows 64 = .ok (.getfield 18, 3) := dk_180 0 18 (dk_at dksX6_grows_2 16 rfl rfl)
theorem dX6_grows_67 : decode cX6_grows 67 = .ok (.iload_n 2, 1) := dk_28 (dk_at dksX6_grows_2 19 rfl rfl)
theorem dX6_grows_68 : decode cX6_grows 68 = .ok (.iaload, 1) := dk_46 (dk_at dksX6_grows_2 20 rfl rfl)
theorem dX6_grows_69 : decode cX6_grows 69 = .ok (.ifCond .le 13, 3) := dk_158 0 13 (dk_at dksX6_grows_2 21 rfl rfl)
theorem dX6_grows_72 : decode cX6_grows 72 = .ok (.aload_n 0, 1) := dk_42 (dk_at dksX6_grows_3 0 rfl rfl)
theorem dX6_grows_73 : decode cX6_grows 73 = .ok (.getfield 18, 3) := dk_180 0 18 (dk_at dksX6_grows_3 1 rfl rfl)
theorem dX6_grows_76 : decode cX6_grows 76 = .ok (.iload_n 2, 1) := dk_28 (dk_at dksX6_grows_3 4 rfl rfl)
theorem dX6_grows_77 : decode cX6_grows 77 = .ok (.dup2, 1) := dk_92 (dk_at dksX6_grows_3 5 rfl rfl)
theorem dX6_grows_78 : decode cX6_grows 78 = .ok (.iaload, 1) := dk_46 (dk_at dksX6_grows_3 6 rfl rfl)
theorem dX6_grows_79 : decode cX6_grows 79 = .ok (.iconst 1, 1) := dk_4 (dk_at dksX6_grows_3 7 rfl rfl)
theorem dX6_grows_80 : decode cX6_grows 80 = .ok (.isub, 1) := dk_100 (dk_at dksX6_grows_3 8 rfl rfl)
theorem dX6_grows_81 : decode cX6_grows 81 = .ok (.iastore, 1) := dk_79 (dk_at dksX6_grows_3 9 rfl rfl)
theorem dX6_grows_82 : decode cX6_grows 82 = .ok (.iinc 2 1, 3) := dk_132 2 1 (dk_at dksX6_grows_3 10 rfl rfl)
theorem dX6_grows_85 : decode cX6_grows 85 = .ok (.goto (-83), 3) := dk_167 255 173 (dk_at dksX6_grows_3 13 rfl rfl)
theorem dX6_grows_88 : decode cX6_grows 88 = .ok (.return_, 1) := dk_177 (dk_at dksX6_grows_3 16 rfl rfl)
abbrev cX6_begins : ByteArray := prog_13_method_2_code
def yX6_begins : MethodName := ⟨RX6, "begins", "(LSableCrown$Land;)V"⟩
def dkwX6_begins_7 : List UInt8 := [180, 0, 33, 28, 3, 79, 42, 180, 0, 36, 28, 3, 79, 132, 2, 1, 167, 255, 161, 177]
abbrev dktX6_begins_7 : List UInt8 := dkwX6_begins_7 ++ []
def dkwX6_begins_6 : List UInt8 := [43, 180, 0, 71, 28, 182, 0, 61, 192, 0, 74, 180, 0, 81, 79, 42, 180, 0, 30, 28, 3, 79, 42]
abbrev dktX6_begins_6 : List UInt8 := dkwX6_begins_6 ++ dktX6_begins_7
def dkwX6_begins_5 : List UInt8 := [180, 0, 24, 28, 43, 180, 0, 71, 28, 182, 0, 61, 192, 0, 74, 180, 0, 78, 79, 42, 180, 0, 27, 28]
abbrev dktX6_begins_5 : List UInt8 := dkwX6_begins_5 ++ dktX6_begins_6
def dkwX6_begins_4 : List UInt8 := [162, 0, 90, 42, 180, 0, 21, 28, 43, 180, 0, 71, 28, 182, 0, 61, 192, 0, 74, 180, 0, 76, 79, 42]
abbrev dktX6_begins_4 : List UInt8 := dkwX6_begins_4 ++ dktX6_begins_5
def dkwX6_begins_3 : List UInt8 := [42, 180, 0, 18, 28, 3, 79, 132, 2, 1, 167, 255, 195, 3, 61, 28, 43, 180, 0, 71, 182, 0, 55]
abbrev dktX6_begins_3 : List UInt8 := dkwX6_begins_3 ++ dktX6_begins_4
def dkwX6_begins_2 : List UInt8 := [180, 0, 67, 79, 42, 180, 0, 15, 28, 43, 180, 0, 49, 28, 182, 0, 61, 192, 0, 65, 180, 0, 69, 79]
abbrev dktX6_begins_2 : List UInt8 := dkwX6_begins_2 ++ dktX6_begins_3
def dkwX6_begins_1 : List UInt8 := [182, 0, 55, 162, 0, 56, 42, 180, 0, 9, 28, 43, 180, 0, 49, 28, 182, 0, 61, 192, 0, 65]
abbrev dktX6_begins_1 : List UInt8 := dkwX6_begins_1 ++ dktX6_begins_2
def dkwX6_begins_0 : List UInt8 := [42, 3, 181, 0, 39, 42, 3, 181, 0, 43, 42, 3, 181, 0, 46, 3, 61, 28, 43, 180, 0, 49]
abbrev dktX6_begins_0 : List UInt8 := dkwX6_begins_0 ++ dktX6_begins_1
theorem dksX6_begins_0 : cX6_begins.data.toList.drop 0 = dktX6_begins_0 := by decide +kernel
theorem dksX6_begins_1 : cX6_begins.data.toList.drop 22 = dktX6_begins_1 := dk_seg dksX6_begins_0 22 rfl rfl
theorem dksX6_begins_2 : cX6_begins.data.toList.drop 44 = dktX6_begins_2 := dk_seg dksX6_begins_1 22 rfl rfl
theorem dksX6_begins_3 : cX6_begins.data.toList.drop 68 = dktX6_begins_3 := dk_seg dksX6_begins_2 24 rfl rfl
theorem dksX6_begins_4 : cX6_begins.data.toList.drop 91 = dktX6_begins_4 := dk_seg dksX6_begins_3 23 rfl rfl
theorem dksX6_begins_5 : cX6_begins.data.toList.drop 115 = dktX6_begins_5 := dk_seg dksX6_begins_4 24 rfl rfl
theorem dksX6_begins_6 : cX6_begins.data.toList.drop 139 = dktX6_begins_6 := dk_seg dksX6_begins_5 24 rfl rfl
theorem dksX6_begins_7 : cX6_begins.data.toList.drop 162 = dktX6_begins_7 := dk_seg dksX6_begins_6 23 rfl rfl
theorem dX6_begins_0 : decode cX6_begins 0 = .ok (.aload_n 0, 1) := dk_42 (dk_at dksX6_begins_0 0 rfl rfl)
theorem dX6_begins_1 : decode cX6_begins 1 = .ok (.iconst 0, 1) := dk_3 (dk_at dksX6_begins_0 1 rfl rfl)
theorem dX6_begins_2 : decode cX6_begins 2 = .ok (.putfield 39, 3) := dk_181 0 39 (dk_at dksX6_begins_0 2 rfl rfl)
theorem dX6_begins_5 : decode cX6_begins 5 = .ok (.aload_n 0, 1) := dk_42 (dk_at dksX6_begins_0 5 rfl rfl)
theorem dX6_begins_6 : decode cX6_begins 6 = .ok (.iconst 0, 1) := dk_3 (dk_at dksX6_begins_0 6 rfl rfl)
theorem dX6_begins_7 : decode cX6_begins 7 = .ok (.putfield 43, 3) := dk_181 0 43 (dk_at dksX6_begins_0 7 rfl rfl)
theorem dX6_begins_10 : decode cX6_begins 10 = .ok (.aload_n 0, 1) := dk_42 (dk_at dksX6_begins_0 10 rfl rfl)
theorem dX6_begins_11 : decode cX6_begins 11 = .ok (.iconst 0, 1) := dk_3 (dk_at dksX6_begins_0 11 rfl rfl)
theorem dX6_begins_12 : decode cX6_begins 12 = .ok (.putfield 46, 3) := dk_181 0 46 (dk_at dksX6_begins_0 12 rfl rfl)
theorem dX6_begins_15 : decode cX6_begins 15 = .ok (.iconst 0, 1) := dk_3 (dk_at dksX6_begins_0 15 rfl rfl)
theorem dX6_begins_16 : decode cX6_begins 16 = .ok (.istore_n 2, 1) := dk_61 (dk_at dksX6_begins_0 16 rfl rfl)
theorem dX6_begins_17 : decode cX6_begins 17 = .ok (.iload_n 2, 1) := dk_28 (dk_at dksX6_begins_0 17 rfl rfl)
theorem dX6_begins_18 : decode cX6_begins 18 = .ok (.aload_n 1, 1) := dk_43 (dk_at dksX6_begins_0 18 rfl rfl)
theorem dX6_begins_19 : decode cX6_begins 19 = .ok (.getfield 49, 3) := dk_180 0 49 (dk_at dksX6_begins_0 19 rfl rfl)
theorem dX6_begins_22 : decode cX6_begins 22 = .ok (.invokevirtual 55, 3) := dk_182 0 55 (dk_at dksX6_begins_1 0 rfl rfl)
theorem dX6_begins_25 : decode cX6_begins 25 = .ok (.if_icmp .ge 56, 3) := dk_162 0 56 (dk_at dksX6_begins_1 3 rfl rfl)
theorem dX6_begins_28 : decode cX6_begins 28 = .ok (.aload_n 0, 1) := dk_42 (dk_at dksX6_begins_1 6 rfl rfl)
theorem dX6_begins_29 : decode cX6_begins 29 = .ok (.getfield 9, 3) := dk_180 0 9 (dk_at dksX6_begins_1 7 rfl rfl)
theorem dX6_begins_32 : decode cX6_begins 32 = .ok (.iload_n 2, 1) := dk_28 (dk_at dksX6_begins_1 10 rfl rfl)
theorem dX6_begins_33 : decode cX6_begins 33 = .ok (.aload_n 1, 1) := dk_43 (dk_at dksX6_begins_1 11 rfl rfl)
theorem dX6_begins_34 : decode cX6_begins 34 = .ok (.getfield 49, 3) := dk_180 0 49 (dk_at dksX6_begins_1 12 rfl rfl)
theorem dX6_begins_37 : decode cX6_begins 37 = .ok (.iload_n 2, 1) := dk_28 (dk_at dksX6_begins_1 15 rfl rfl)
theorem dX6_begins_38 : decode cX6_begins 38 = .ok (.invokevirtual 61, 3) := dk_182 0 61 (dk_at dksX6_begins_1 16 rfl rfl)
theorem dX6_begins_41 : decode cX6_begins 41 = .ok (.checkcast 65, 3) := dk_192 0 65 (dk_at dksX6_begins_1 19 rfl rfl)
theorem dX6_begins_44 : decode cX6_begins 44 = .ok (.getfield 67, 3) := dk_180 0 67 (dk_at dksX6_begins_2 0 rfl rfl)
theorem dX6_begins_47 : decode cX6_begins 47 = .ok (.iastore, 1) := dk_79 (dk_at dksX6_begins_2 3 rfl rfl)
theorem dX6_begins_48 : decode cX6_begins 48 = .ok (.aload_n 0, 1) := dk_42 (dk_at dksX6_begins_2 4 rfl rfl)
theorem dX6_begins_49 : decode cX6_begins 49 = .ok (.getfield 15, 3) := dk_180 0 15 (dk_at dksX6_begins_2 5 rfl rfl)
theorem dX6_begins_52 : decode cX6_begins 52 = .ok (.iload_n 2, 1) := dk_28 (dk_at dksX6_begins_2 8 rfl rfl)
theorem dX6_begins_53 : decode cX6_begins 53 = .ok (.aload_n 1, 1) := dk_43 (dk_at dksX6_begins_2 9 rfl rfl)
theorem dX6_begins_54 : decode cX6_begins 54 = .ok (.getfield 49, 3) := dk_180 0 49 (dk_at dksX6_begins_2 10 rfl rfl)
theorem dX6_begins_57 : decode cX6_begins 57 = .ok (.iload_n 2, 1) := dk_28 (dk_at dksX6_begins_2 13 rfl rfl)
theorem dX6_begins_58 : decode cX6_begins 58 = .ok (.invokevirtual 61, 3) := dk_182 0 61 (dk_at dksX6_begins_2 14 rfl rfl)
theorem dX6_begins_61 : decode cX6_begins 61 = .ok (.checkcast 65, 3) := dk_192 0 65 (dk_at dksX6_begins_2 17 rfl rfl)
theorem dX6_begins_64 : decode cX6_begins 64 = .ok (.getfield 69, 3) := dk_180 0 69 (dk_at dksX6_begins_2 20 rfl rfl)
theorem dX6_begins_67 : decode cX6_begins 67 = .ok (.iastore, 1) := dk_79 (dk_at dksX6_begins_2 23 rfl rfl)
theorem dX6_begins_68 : decode cX6_begins 68 = .ok (.aload_n 0, 1) := dk_42 (dk_at dksX6_begins_3 0 rfl rfl)
theorem dX6_begins_69 : decode cX6_begins 69 = .ok (.getfield 18, 3) := dk_180 0 18 (dk_at dksX6_begins_3 1 rfl rfl)
theorem dX6_begins_72 : decode cX6_begins 72 = .ok (.iload_n 2, 1) := dk_28 (dk_at dksX6_begins_3 4 rfl rfl)
theorem dX6_begins_73 : decode cX6_begins 73 = .ok (.iconst 0, 1) := dk_3 (dk_at dksX6_begins_3 5 rfl rfl)
theorem dX6_begins_74 : decode cX6_begins 74 = .ok (.iastore, 1) := dk_79 (dk_at dksX6_begins_3 6 rfl rfl)
theorem dX6_begins_75 : decode cX6_begins 75 = .ok (.iinc 2 1, 3) := dk_132 2 1 (dk_at dksX6_begins_3 7 rfl rfl)
theorem dX6_begins_78 : decode cX6_begins 78 = .ok (.goto (-61), 3) := dk_167 255 195 (dk_at dksX6_begins_3 10 rfl rfl)
theorem dX6_begins_81 : decode cX6_begins 81 = .ok (.iconst 0, 1) := dk_3 (dk_at dksX6_begins_3 13 rfl rfl)
theorem dX6_begins_82 : decode cX6_begins 82 = .ok (.istore_n 2, 1) := dk_61 (dk_at dksX6_begins_3 14 rfl rfl)
theorem dX6_begins_83 : decode cX6_begins 83 = .ok (.iload_n 2, 1) := dk_28 (dk_at dksX6_begins_3 15 rfl rfl)
theorem dX6_begins_84 : decode cX6_begins 84 = .ok (.aload_n 1, 1) := dk_43 (dk_at dksX6_begins_3 16 rfl rfl)
theorem dX6_begins_85 : decode cX6_begins 85 = .ok (.getfield 71, 3) := dk_180 0 71 (dk_at dksX6_begins_3 17 rfl rfl)
theorem dX6_begins_88 : decode cX6_begins 88 = .ok (.invokevirtual 55, 3) := dk_182 0 55 (dk_at dksX6_begins_3 20 rfl rfl)
theorem dX6_begins_91 : decode cX6_begins 91 = .ok (.if_icmp .ge 90, 3) := dk_162 0 90 (dk_at dksX6_begins_4 0 rfl rfl)
theorem dX6_begins_94 : decode cX6_begins 94 = .ok (.aload_n 0, 1) := dk_42 (dk_at dksX6_begins_4 3 rfl rfl)
theorem dX6_begins_95 : decode cX6_begins 95 = .ok (.getfield 21, 3) := dk_180 0 21 (dk_at dksX6_begins_4 4 rfl rfl)
theorem dX6_begins_98 : decode cX6_begins 98 = .ok (.iload_n 2, 1) := dk_28 (dk_at dksX6_begins_4 7 rfl rfl)
theorem dX6_begins_99 : decode cX6_begins 99 = .ok (.aload_n 1, 1) := dk_43 (dk_at dksX6_begins_4 8 rfl rfl)
theorem dX6_begins_100 : decode cX6_begins 100 = .ok (.getfield 71, 3) := dk_180 0 71 (dk_at dksX6_begins_4 9 rfl rfl)
theorem dX6_begins_103 : decode cX6_begins 103 = .ok (.iload_n 2, 1) := dk_28 (dk_at dksX6_begins_4 12 rfl rfl)
theorem dX6_begins_104 : decode cX6_begins 104 = .ok (.invokevirtual 61, 3) := dk_182 0 61 (dk_at dksX6_begins_4 13 rfl rfl)
theorem dX6_begins_107 : decode cX6_begins 107 = .ok (.checkcast 74, 3) := dk_192 0 74 (dk_at dksX6_begins_4 16 rfl rfl)
theorem dX6_begins_110 : decode cX6_begins 110 = .ok (.getfield 76, 3) := dk_180 0 76 (dk_at dksX6_begins_4 19 rfl rfl)
theorem dX6_begins_113 : decode cX6_begins 113 = .ok (.iastore, 1) := dk_79 (dk_at dksX6_begins_4 22 rfl rfl)
theorem dX6_begins_114 : decode cX6_begins 114 = .ok (.aload_n 0, 1) := dk_42 (dk_at dksX6_begins_4 23 rfl rfl)
theorem dX6_begins_115 : decode cX6_begins 115 = .ok (.getfield 24, 3) := dk_180 0 24 (dk_at dksX6_begins_5 0 rfl rfl)
theorem dX6_begins_118 : decode cX6_begins 118 = .ok (.iload_n 2, 1) := dk_28 (dk_at dksX6_begins_5 3 rfl rfl)
theorem dX6_begins_119 : decode cX6_begins 119 = .ok (.aload_n 1, 1) := dk_43 (dk_at dksX6_begins_5 4 rfl rfl)
theorem dX6_begins_120 : decode cX6_begins 120 = .ok (.getfield 71, 3) := dk_180 0 71 (dk_at dksX6_begins_5 5 rfl rfl)
theorem dX6_begins_123 : decode cX6_begins 123 = .ok (.iload_n 2, 1) := dk_28 (dk_at dksX6_begins_5 8 rfl rfl)
theorem dX6_begins_124 : decode cX6_begins 124 = .ok (.invokevirtual 61, 3) := dk_182 0 61 (dk_at dksX6_begins_5 9 rfl rfl)
theorem dX6_begins_127 : decode cX6_begins 127 = .ok (.checkcast 74, 3) := dk_192 0 74 (dk_at dksX6_begins_5 12 rfl rfl)
theorem dX6_begins_130 : decode cX6_begins 130 = .ok (.getfield 78, 3) := dk_180 0 78 (dk_at dksX6_begins_5 15 rfl rfl)
theorem dX6_begins_133 : decode cX6_begins 133 = .ok (.iastore, 1) := dk_79 (dk_at dksX6_begins_5 18 rfl rfl)
theorem dX6_begins_134 : decode cX6_begins 134 = .ok (.aload_n 0, 1) := dk_42 (dk_at dksX6_begins_5 19 rfl rfl)
theorem dX6_begins_135 : decode cX6_begins 135 = .ok (.getfield 27, 3) := dk_180 0 27 (dk_at dksX6_begins_5 20 rfl rfl)
theorem dX6_begins_138 : decode cX6_begins 138 = .ok (.iload_n 2, 1) := dk_28 (dk_at dksX6_begins_5 23 rfl rfl)
theorem dX6_begins_139 : decode cX6_begins 139 = .ok (.aload_n 1, 1) := dk_43 (dk_at dksX6_begins_6 0 rfl rfl)
theorem dX6_begins_140 : decode cX6_begins 140 = .ok (.getfield 71, 3) := dk_180 0 71 (dk_at dksX6_begins_6 1 rfl rfl)
theorem dX6_begins_143 : decode cX6_begins 143 = .ok (.iload_n 2, 1) := dk_28 (dk_at dksX6_begins_6 4 rfl rfl)
theorem dX6_begins_144 : decode cX6_begins 144 = .ok (.invokevirtual 61, 3) := dk_182 0 61 (dk_at dksX6_begins_6 5 rfl rfl)
theorem dX6_begins_147 : decode cX6_begins 147 = .ok (.checkcast 74, 3) := dk_192 0 74 (dk_at dksX6_begins_6 8 rfl rfl)
theorem dX6_begins_150 : decode cX6_begins 150 = .ok (.getfield 81, 3) := dk_180 0 81 (dk_at dksX6_begins_6 11 rfl rfl)
theorem dX6_begins_153 : decode cX6_begins 153 = .ok (.iastore, 1) := dk_79 (dk_at dksX6_begins_6 14 rfl rfl)
theorem dX6_begins_154 : decode cX6_begins 154 = .ok (.aload_n 0, 1) := dk_42 (dk_at dksX6_begins_6 15 rfl rfl)
theorem dX6_begins_155 : decode cX6_begins 155 = .ok (.getfield 30, 3) := dk_180 0 30 (dk_at dksX6_begins_6 16 rfl rfl)
theorem dX6_begins_158 : decode cX6_begins 158 = .ok (.iload_n 2, 1) := dk_28 (dk_at dksX6_begins_6 19 rfl rfl)
theorem dX6_begins_159 : decode cX6_begins 159 = .ok (.iconst 0, 1) := dk_3 (dk_at dksX6_begins_6 20 rfl rfl)
theorem dX6_begins_160 : decode cX6_begins 160 = .ok (.iastore, 1) := dk_79 (dk_at dksX6_begins_6 21 rfl rfl)
theorem dX6_begins_161 : decode cX6_begins 161 = .ok (.aload_n 0, 1) := dk_42 (dk_at dksX6_begins_6 22 rfl rfl)
theorem dX6_begins_162 : decode cX6_begins 162 = .ok (.getfield 33, 3) := dk_180 0 33 (dk_at dksX6_begins_7 0 rfl rfl)
theorem dX6_begins_165 : decode cX6_begins 165 = .ok (.iload_n 2, 1) := dk_28 (dk_at dksX6_begins_7 3 rfl rfl)
theorem dX6_begins_166 : decode cX6_begins 166 = .ok (.iconst 0, 1) := dk_3 (dk_at dksX6_begins_7 4 rfl rfl)
theorem dX6_begins_167 : decode cX6_begins 167 = .ok (.iastore, 1) := dk_79 (dk_at dksX6_begins_7 5 rfl rfl)
theorem dX6_begins_168 : decode cX6_begins 168 = .ok (.aload_n 0, 1) := dk_42 (dk_at dksX6_begins_7 6 rfl rfl)
theorem dX6_begins_169 : decode cX6_begins 169 = .ok (.getfield 36, 3) := dk_180 0 36 (dk_at dksX6_begins_7 7 rfl rfl)
theorem dX6_begins_172 : decode cX6_begins 172 = .ok (.iload_n 2, 1) := dk_28 (dk_at dksX6_begins_7 10 rfl rfl)
theorem dX6_begins_173 : decode cX6_begins 173 = .ok (.iconst 0, 1) := dk_3 (dk_at dksX6_begins_7 11 rfl rfl)
theorem dX6_begins_174 : decode cX6_begins 174 = .ok (.iastore, 1) := dk_79 (dk_at dksX6_begins_7 12 rfl rfl)
theorem dX6_begins_175 : decode cX6_begins 175 = .ok (.iinc 2 1, 3) := dk_132 2 1 (dk_at dksX6_begins_7 13 rfl rfl)
theorem dX6_begins_178 : decode cX6_begins 178 = .ok (.goto (-95), 3) := dk_167 255 161 (dk_at dksX6_begins_7 16 rfl rfl)
theorem dX6_begins_181 : decode cX6_begins 181 = .ok (.return_, 1) := dk_177 (dk_at dksX6_begins_7 19 rfl rfl)
abbrev cX6_all : ByteArray := prog_13_method_10_code
def yX6_all : MethodName := ⟨RX6, "all", "(I)I"⟩
def dkwX6_all_1 : List UInt8 := [28, 172]
abbrev dktX6_all_1 : List UInt8 := dkwX6_all_1 ++ []
def dkwX6_all_0 : List UInt8 := [3, 61, 3, 62, 29, 27, 162, 0, 18, 28, 42, 180, 0, 9, 29, 46, 96, 61, 132, 3, 1, 167, 255, 239]
abbrev dktX6_all_0 : List UInt8 := dkwX6_all_0 ++ dktX6_all_1
theorem dksX6_all_0 : cX6_all.data.toList.drop 0 = dktX6_all_0 := by decide +kernel
theorem dksX6_all_1 : cX6_all.data.toList.drop 24 = dktX6_all_1 := dk_seg dksX6_all_0 24 rfl rfl
theorem dX6_all_0 : decode cX6_all 0 = .ok (.iconst 0, 1) := dk_3 (dk_at dksX6_all_0 0 rfl rfl)
theorem dX6_all_1 : decode cX6_all 1 = .ok (.istore_n 2, 1) := dk_61 (dk_at dksX6_all_0 1 rfl rfl)
theorem dX6_all_2 : decode cX6_all 2 = .ok (.iconst 0, 1) := dk_3 (dk_at dksX6_all_0 2 rfl rfl)
theorem dX6_all_3 : decode cX6_all 3 = .ok (.istore_n 3, 1) := dk_62 (dk_at dksX6_all_0 3 rfl rfl)
theorem dX6_all_4 : decode cX6_all 4 = .ok (.iload_n 3, 1) := dk_29 (dk_at dksX6_all_0 4 rfl rfl)
theorem dX6_all_5 : decode cX6_all 5 = .ok (.iload_n 1, 1) := dk_27 (dk_at dksX6_all_0 5 rfl rfl)
theorem dX6_all_6 : decode cX6_all 6 = .ok (.if_icmp .ge 18, 3) := dk_162 0 18 (dk_at dksX6_all_0 6 rfl rfl)
theorem dX6_all_9 : decode cX6_all 9 = .ok (.iload_n 2, 1) := dk_28 (dk_at dksX6_all_0 9 rfl rfl)
theorem dX6_all_10 : decode cX6_all 10 = .ok (.aload_n 0, 1) := dk_42 (dk_at dksX6_all_0 10 rfl rfl)
theorem dX6_all_11 : decode cX6_all 11 = .ok (.getfield 9, 3) := dk_180 0 9 (dk_at dksX6_all_0 11 rfl rfl)
theorem dX6_all_14 : decode cX6_all 14 = .ok (.iload_n 3, 1) := dk_29 (dk_at dksX6_all_0 14 rfl rfl)
theorem dX6_all_15 : decode cX6_all 15 = .ok (.iaload, 1) := dk_46 (dk_at dksX6_all_0 15 rfl rfl)
theorem dX6_all_16 : decode cX6_all 16 = .ok (.iadd, 1) := dk_96 (dk_at dksX6_all_0 16 rfl rfl)
theorem dX6_all_17 : decode cX6_all 17 = .ok (.istore_n 2, 1) := dk_61 (dk_at dksX6_all_0 17 rfl rfl)
theorem dX6_all_18 : decode cX6_all 18 = .ok (.iinc 3 1, 3) := dk_132 3 1 (dk_at dksX6_all_0 18 rfl rfl)
theorem dX6_all_21 : decode cX6_all 21 = .ok (.goto (-17), 3) := dk_167 255 239 (dk_at dksX6_all_0 21 rfl rfl)
theorem dX6_all_24 : decode cX6_all 24 = .ok (.iload_n 2, 1) := dk_28 (dk_at dksX6_all_1 0 rfl rfl)
theorem dX6_all_25 : decode cX6_all 25 = .ok (.ireturn, 1) := dk_172 (dk_at dksX6_all_1 1 rfl rfl)
abbrev cX6_allDead : ByteArray := prog_13_method_11_code
def yX6_allDead : MethodName := ⟨RX6, "allDead", "(I)I"⟩
def dkwX6_allDead_1 : List UInt8 := [28, 172]
abbrev dktX6_allDead_1 : List UInt8 := dkwX6_allDead_1 ++ []
def dkwX6_allDead_0 : List UInt8 := [3, 61, 3, 62, 29, 27, 162, 0, 18, 28, 42, 180, 0, 36, 29, 46, 96, 61, 132, 3, 1, 167, 255, 239]
abbrev dktX6_allDead_0 : List UInt8 := dkwX6_allDead_0 ++ dktX6_allDead_1
theorem dksX6_allDead_0 : cX6_allDead.data.toList.drop 0 = dktX6_allDead_0 := by decide +kernel
theorem dksX6_allDead_1 : cX6_allDead.data.toList.drop 24 = dktX6_allDead_1 := dk_seg dksX6_allDead_0 24 rfl rfl
theorem dX6_allDead_0 : decode cX6_allDead 0 = .ok (.iconst 0, 1) := dk_3 (dk_at dksX6_allDead_0 0 rfl rfl)
theorem dX6_allDead_1 : decode cX6_allDead 1 = .ok (.istore_n 2, 1) := dk_61 (dk_at dksX6_allDead_0 1 rfl rfl)
theorem dX6_allDead_2 : decode cX6_allDead 2 = .ok (.iconst 0, 1) := dk_3 (dk_at dksX6_allDead_0 2 rfl rfl)
theorem dX6_allDead_3 : decode cX6_allDead 3 = .ok (.istore_n 3, 1) := dk_62 (dk_at dksX6_allDead_0 3 rfl rfl)
theorem dX6_allDead_4 : decode cX6_allDead 4 = .ok (.iload_n 3, 1) := dk_29 (dk_at dksX6_allDead_0 4 rfl rfl)
theorem dX6_allDead_5 : decode cX6_allDead 5 = .ok (.iload_n 1, 1) := dk_27 (dk_at dksX6_allDead_0 5 rfl rfl)
theorem dX6_allDead_6 : decode cX6_allDead 6 = .ok (.if_icmp .ge 18, 3) := dk_162 0 18 (dk_at dksX6_allDead_0 6 rfl rfl)
theorem dX6_allDead_9 : decode cX6_allDead 9 = .ok (.iload_n 2, 1) := dk_28 (dk_at dksX6_allDead_0 9 rfl rfl)
theorem dX6_allDead_10 : decode cX6_allDead 10 = .ok (.aload_n 0, 1) := dk_42 (dk_at dksX6_allDead_0 10 rfl rfl)
theorem dX6_allDead_11 : decode cX6_allDead 11 = .ok (.getfield 36, 3) := dk_180 0 36 (dk_at dksX6_allDead_0 11 rfl rfl)
theorem dX6_allDead_14 : decode cX6_allDead 14 = .ok (.iload_n 3, 1) := dk_29 (dk_at dksX6_allDead_0 14 rfl rfl)
theorem dX6_allDead_15 : decode cX6_allDead 15 = .ok (.iaload, 1) := dk_46 (dk_at dksX6_allDead_0 15 rfl rfl)
theorem dX6_allDead_16 : decode cX6_allDead 16 = .ok (.iadd, 1) := dk_96 (dk_at dksX6_allDead_0 16 rfl rfl)
theorem dX6_allDead_17 : decode cX6_allDead 17 = .ok (.istore_n 2, 1) := dk_61 (dk_at dksX6_allDead_0 17 rfl rfl)
theorem dX6_allDead_18 : decode cX6_allDead 18 = .ok (.iinc 3 1, 3) := dk_132 3 1 (dk_at dksX6_allDead_0 18 rfl rfl)
theorem dX6_allDead_21 : decode cX6_allDead 21 = .ok (.goto (-17), 3) := dk_167 255 239 (dk_at dksX6_allDead_0 21 rfl rfl)
theorem dX6_allDead_24 : decode cX6_allDead 24 = .ok (.iload_n 2, 1) := dk_28 (dk_at dksX6_allDead_1 0 rfl rfl)
theorem dX6_allDead_25 : decode cX6_allDead 25 = .ok (.ireturn, 1) := dk_172 (dk_at dksX6_allDead_1 1 rfl rfl)
theorem q130 : (Jvm.Cond.initialized "SableCrown$State") ∈ lw_all := lw_g (lw_at lw_m1 26 rfl) rfl
theorem q523 : (Jvm.Cond.fieldLinkNest "SableCrown$State" (124 : Nat) "SableCrown$Land" "tax" "I" "SableCrown") ∈ lw_tbl := lw_at lw_m2 179 rfl
theorem q527 : (Jvm.Cond.fieldLinkNest "SableCrown$State" (158 : Nat) "SableCrown$Land" "fox" "I" "SableCrown") ∈ lw_tbl := lw_at lw_m2 183 rfl
theorem q531 : (Jvm.Cond.fieldLinkNest "SableCrown$State" (155 : Nat) "SableCrown$Land" "limit" "I" "SableCrown") ∈ lw_tbl := lw_at lw_m2 187 rfl
theorem q537 : (Jvm.Cond.fieldLinkNest "SableCrown$State" (49 : Nat) "SableCrown$Land" "forests" "Ljava/util/ArrayList;" "SableCrown") ∈ lw_tbl := lw_at lw_m2 193 rfl
theorem q541 : (Jvm.Cond.fieldLinkNest "SableCrown$State" (71 : Nat) "SableCrown$Land" "bands" "Ljava/util/ArrayList;" "SableCrown") ∈ lw_tbl := lw_at lw_m2 197 rfl
theorem q550 : (Jvm.Cond.fieldLinkNest "SableCrown$State" (89 : Nat) "SableCrown$Land" "hunts" "LSableCrown$Expr;" "SableCrown") ∈ lw_tbl := lw_at lw_m2 206 rfl
theorem q553 : (Jvm.Cond.fieldLinkNest "SableCrown$State" (99 : Nat) "SableCrown$Land" "view" "LSableCrown$View;" "SableCrown") ∈ lw_tbl := lw_at lw_m2 209 rfl
theorem q584 : (Jvm.Cond.instantiable "SableCrown$State" (13 : Nat)) ∈ lw_all := lw_g (lw_at lw_m3 0 rfl) rfl
theorem q586 : (Jvm.Cond.instanceMethod ({ cls := "SableCrown$State", name := "<init>", desc := "()V" } : Jvm.MethodName)) ∈ lw_all := lw_g (lw_at lw_m3 2 rfl) rfl
theorem q587 : (Jvm.Cond.code ({ cls := "SableCrown$State", name := "<init>", desc := "()V" } : Jvm.MethodName) prog_13_method_1_code (1 : Nat) (Option.none : Option Jvm.ClassFile.FieldType)) ∈ lw_all := lw_g (lw_at lw_m3 3 rfl) rfl
theorem q588 : (Jvm.Cond.methodLink "SableCrown$State" (3 : Nat) ({ cls := "java/lang/Object", name := "<init>", desc := "()V" } : Jvm.MethodName)) ∈ lw_all := lw_g (lw_at lw_m3 4 rfl) rfl
theorem q589 : (Jvm.Cond.fieldLink "SableCrown$State" (9 : Nat) "SableCrown$State" "sables" "[I") ∈ lw_all := lw_g (lw_at lw_m3 5 rfl) rfl
theorem q591 : (Jvm.Cond.fieldLink "SableCrown$State" (15 : Nat) "SableCrown$State" "black" "[I") ∈ lw_all := lw_g (lw_at lw_m3 7 rfl) rfl
theorem q593 : (Jvm.Cond.fieldLink "SableCrown$State" (18 : Nat) "SableCrown$State" "rest" "[I") ∈ lw_all := lw_g (lw_at lw_m3 9 rfl) rfl
theorem q595 : (Jvm.Cond.fieldLink "SableCrown$State" (21 : Nat) "SableCrown$State" "bows" "[I") ∈ lw_all := lw_g (lw_at lw_m3 11 rfl) rfl
theorem q597 : (Jvm.Cond.fieldLink "SableCrown$State" (24 : Nat) "SableCrown$State" "at" "[I") ∈ lw_all := lw_g (lw_at lw_m3 13 rfl) rfl
theorem q599 : (Jvm.Cond.fieldLink "SableCrown$State" (27 : Nat) "SableCrown$State" "seen" "[I") ∈ lw_all := lw_g (lw_at lw_m3 15 rfl) rfl
theorem q601 : (Jvm.Cond.fieldLink "SableCrown$State" (30 : Nat) "SableCrown$State" "store" "[I") ∈ lw_all := lw_g (lw_at lw_m3 17 rfl) rfl
theorem q603 : (Jvm.Cond.fieldLink "SableCrown$State" (33 : Nat) "SableCrown$State" "owes" "[I") ∈ lw_all := lw_g (lw_at lw_m3 19 rfl) rfl
theorem q605 : (Jvm.Cond.fieldLink "SableCrown$State" (36 : Nat) "SableCrown$State" "dead" "[I") ∈ lw_all := lw_g (lw_at lw_m3 21 rfl) rfl
theorem q607 : (Jvm.Cond.fieldLink "SableCrown$State" (39 : Nat) "SableCrown$State" "year" "I") ∈ lw_all := lw_g (lw_at lw_m3 23 rfl) rfl
theorem q609 : (Jvm.Cond.fieldLink "SableCrown$State" (43 : Nat) "SableCrown$State" "paid" "I") ∈ lw_all := lw_g (lw_at lw_m3 25 rfl) rfl
theorem q611 : (Jvm.Cond.fieldLink "SableCrown$State" (46 : Nat) "SableCrown$State" "foxes" "I") ∈ lw_all := lw_g (lw_at lw_m3 27 rfl) rfl
theorem q613 : (Jvm.Cond.fieldLink "SableCrown$State" (152 : Nat) "SableCrown$State" "lastBlack" "I") ∈ lw_all := lw_g (lw_at lw_m3 29 rfl) rfl
theorem q615 : (Jvm.Cond.laysFinal "SableCrown$State" "SableCrown$State" "sables" "[I") ∈ lw_all := lw_g (lw_at lw_m3 31 rfl) rfl
theorem q616 : (Jvm.Cond.soleField "SableCrown$State" "sables") ∈ lw_all := lw_g (lw_at lw_m3 32 rfl) rfl
theorem q617 : (Jvm.Cond.laysFinal "SableCrown$State" "SableCrown$State" "black" "[I") ∈ lw_all := lw_g (lw_at lw_m3 33 rfl) rfl
theorem q618 : (Jvm.Cond.soleField "SableCrown$State" "black") ∈ lw_all := lw_g (lw_at lw_m3 34 rfl) rfl
theorem q619 : (Jvm.Cond.laysFinal "SableCrown$State" "SableCrown$State" "rest" "[I") ∈ lw_all := lw_g (lw_at lw_m3 35 rfl) rfl
theorem q620 : (Jvm.Cond.soleField "SableCrown$State" "rest") ∈ lw_all := lw_g (lw_at lw_m3 36 rfl) rfl
theorem q621 : (Jvm.Cond.laysFinal "SableCrown$State" "SableCrown$State" "bows" "[I") ∈ lw_all := lw_g (lw_at lw_m3 37 rfl) rfl
theorem q622 : (Jvm.Cond.soleField "SableCrown$State" "bows") ∈ lw_all := lw_g (lw_at lw_m3 38 rfl) rfl
theorem q623 : (Jvm.Cond.laysFinal "SableCrown$State" "SableCrown$State" "at" "[I") ∈ lw_all := lw_g (lw_at lw_m3 39 rfl) rfl
theorem q624 : (Jvm.Cond.soleField "SableCrown$State" "at") ∈ lw_all := lw_g (lw_at lw_m3 40 rfl) rfl
theorem q625 : (Jvm.Cond.laysFinal "SableCrown$State" "SableCrown$State" "seen" "[I") ∈ lw_all := lw_g (lw_at lw_m3 41 rfl) rfl
theorem q626 : (Jvm.Cond.soleField "SableCrown$State" "seen") ∈ lw_all := lw_g (lw_at lw_m3 42 rfl) rfl
theorem q627 : (Jvm.Cond.laysFinal "SableCrown$State" "SableCrown$State" "store" "[I") ∈ lw_all := lw_g (lw_at lw_m3 43 rfl) rfl
theorem q628 : (Jvm.Cond.soleField "SableCrown$State" "store") ∈ lw_all := lw_g (lw_at lw_m3 44 rfl) rfl
theorem q629 : (Jvm.Cond.laysFinal "SableCrown$State" "SableCrown$State" "owes" "[I") ∈ lw_all := lw_g (lw_at lw_m3 45 rfl) rfl
theorem q630 : (Jvm.Cond.soleField "SableCrown$State" "owes") ∈ lw_all := lw_g (lw_at lw_m3 46 rfl) rfl
theorem q631 : (Jvm.Cond.laysFinal "SableCrown$State" "SableCrown$State" "dead" "[I") ∈ lw_all := lw_g (lw_at lw_m3 47 rfl) rfl
theorem q632 : (Jvm.Cond.soleField "SableCrown$State" "dead") ∈ lw_all := lw_g (lw_at lw_m3 48 rfl) rfl
theorem q633 : (Jvm.Cond.lays "SableCrown$State" "SableCrown$State" "year" "I") ∈ lw_all := lw_g (lw_at lw_m3 49 rfl) rfl
theorem q634 : (Jvm.Cond.soleField "SableCrown$State" "year") ∈ lw_all := lw_g (lw_at lw_m3 50 rfl) rfl
theorem q635 : (Jvm.Cond.lays "SableCrown$State" "SableCrown$State" "paid" "I") ∈ lw_all := lw_g (lw_at lw_m3 51 rfl) rfl
theorem q636 : (Jvm.Cond.soleField "SableCrown$State" "paid") ∈ lw_all := lw_g (lw_at lw_m3 52 rfl) rfl
theorem q637 : (Jvm.Cond.lays "SableCrown$State" "SableCrown$State" "foxes" "I") ∈ lw_all := lw_g (lw_at lw_m3 53 rfl) rfl
theorem q638 : (Jvm.Cond.soleField "SableCrown$State" "foxes") ∈ lw_all := lw_g (lw_at lw_m3 54 rfl) rfl
theorem q639 : (Jvm.Cond.lays "SableCrown$State" "SableCrown$State" "lastBlack" "I") ∈ lw_all := lw_g (lw_at lw_m3 55 rfl) rfl
theorem q640 : (Jvm.Cond.soleField "SableCrown$State" "lastBlack") ∈ lw_all := lw_g (lw_at lw_m3 56 rfl) rfl
theorem q641 : (Jvm.Cond.superclass "SableCrown$State" "java/lang/Object") ∈ lw_all := lw_g (lw_at lw_m3 57 rfl) rfl
theorem q680 : (Jvm.Cond.selects "SableCrown$State" ({ cls := "java/lang/Object", name := "getClass", desc := "()Ljava/lang/Class;" } : Jvm.MethodName) ({ cls := "java/lang/Object", name := "getClass", desc := "()Ljava/lang/Class;" } : Jvm.MethodName)) ∈ lw_all := lw_g (lw_at lw_m3 96 rfl) rfl
theorem q821 : (Jvm.Cond.instanceMethod ({ cls := "SableCrown$State", name := "like", desc := "(LSableCrown$State;)V" } : Jvm.MethodName)) ∈ lw_all := lw_g (lw_at lw_m3 237 rfl) rfl
theorem q822 : (Jvm.Cond.selects "SableCrown$State" ({ cls := "SableCrown$State", name := "like", desc := "(LSableCrown$State;)V" } : Jvm.MethodName) ({ cls := "SableCrown$State", name := "like", desc := "(LSableCrown$State;)V" } : Jvm.MethodName)) ∈ lw_all := lw_g (lw_at lw_m3 238 rfl) rfl
theorem q823 : (Jvm.Cond.code ({ cls := "SableCrown$State", name := "like", desc := "(LSableCrown$State;)V" } : Jvm.MethodName) prog_13_method_3_code (2 : Nat) (Option.none : Option Jvm.ClassFile.FieldType)) ∈ lw_all := lw_g (lw_at lw_m3 239 rfl) rfl
theorem q824 : (Jvm.Cond.methodLink "SableCrown$State" (83 : Nat) ({ cls := "java/lang/System", name := "arraycopy", desc := "(Ljava/lang/Object;ILjava/lang/Object;II)V" } : Jvm.MethodName)) ∈ lw_all := lw_g (lw_at lw_m4 0 rfl) rfl
theorem q830 : (Jvm.Cond.instanceMethod ({ cls := "SableCrown$State", name := "goes", desc := "(LSableCrown$Land;)V" } : Jvm.MethodName)) ∈ lw_all := lw_g (lw_at lw_m4 6 rfl) rfl
theorem q831 : (Jvm.Cond.selects "SableCrown$State" ({ cls := "SableCrown$State", name := "goes", desc := "(LSableCrown$Land;)V" } : Jvm.MethodName) ({ cls := "SableCrown$State", name := "goes", desc := "(LSableCrown$Land;)V" } : Jvm.MethodName)) ∈ lw_all := lw_g (lw_at lw_m4 7 rfl) rfl
theorem q832 : (Jvm.Cond.code ({ cls := "SableCrown$State", name := "goes", desc := "(LSableCrown$Land;)V" } : Jvm.MethodName) prog_13_method_9_code (3 : Nat) (Option.none : Option Jvm.ClassFile.FieldType)) ∈ lw_all := lw_g (lw_at lw_m4 8 rfl) rfl
theorem q833 : (Jvm.Cond.methodLink "SableCrown$State" (55 : Nat) ({ cls := "java/util/ArrayList", name := "size", desc := "()I" } : Jvm.MethodName)) ∈ lw_all := lw_g (lw_at lw_m4 9 rfl) rfl
theorem q837 : (Jvm.Cond.methodLink "SableCrown$State" (168 : Nat) ({ cls := "SableCrown$State", name := "hunts", desc := "(LSableCrown$Land;I)V" } : Jvm.MethodName)) ∈ lw_all := lw_g (lw_at lw_m4 13 rfl) rfl
theorem q838 : (Jvm.Cond.privateMethod ({ cls := "SableCrown$State", name := "hunts", desc := "(LSableCrown$Land;I)V" } : Jvm.MethodName)) ∈ lw_tbl := lw_at lw_m4 14 rfl
theorem q839 : (Jvm.Cond.instanceMethod ({ cls := "SableCrown$State", name := "hunts", desc := "(LSableCrown$Land;I)V" } : Jvm.MethodName)) ∈ lw_all := lw_g (lw_at lw_m4 15 rfl) rfl
theorem q840 : (Jvm.Cond.code ({ cls := "SableCrown$State", name := "hunts", desc := "(LSableCrown$Land;I)V" } : Jvm.MethodName) prog_13_method_6_code (6 : Nat) (Option.none : Option Jvm.ClassFile.FieldType)) ∈ lw_all := lw_g (lw_at lw_m4 16 rfl) rfl
theorem q841 : (Jvm.Cond.methodLink "SableCrown$State" (149 : Nat) ({ cls := "SableCrown$State", name := "takes", desc := "(LSableCrown$Land;I)I" } : Jvm.MethodName)) ∈ lw_all := lw_g (lw_at lw_m4 17 rfl) rfl
theorem q842 : (Jvm.Cond.instanceMethod ({ cls := "SableCrown$State", name := "takes", desc := "(LSableCrown$Land;I)I" } : Jvm.MethodName)) ∈ lw_all := lw_g (lw_at lw_m4 18 rfl) rfl
theorem q843 : (Jvm.Cond.selects "SableCrown$State" ({ cls := "SableCrown$State", name := "takes", desc := "(LSableCrown$Land;I)I" } : Jvm.MethodName) ({ cls := "SableCrown$State", name := "takes", desc := "(LSableCrown$Land;I)I" } : Jvm.MethodName)) ∈ lw_all := lw_g (lw_at lw_m4 19 rfl) rfl
theorem q844 : (Jvm.Cond.code ({ cls := "SableCrown$State", name := "takes", desc := "(LSableCrown$Land;I)I" } : Jvm.MethodName) prog_13_method_5_code (5 : Nat) (Option.some Jvm.ClassFile.FieldType.int)) ∈ lw_all := lw_g (lw_at lw_m4 20 rfl) rfl
theorem q845 : (Jvm.Cond.methodLink "SableCrown$State" (93 : Nat) ({ cls := "java/lang/Math", name := "min", desc := "(II)I" } : Jvm.MethodName)) ∈ lw_all := lw_g (lw_at lw_m4 21 rfl) rfl
theorem q846 : (Jvm.Cond.fieldLink "SableCrown$State" (103 : Nat) "SableCrown$Value" "BOWS" "LSableCrown$Value;") ∈ lw_all := lw_g (lw_at lw_m4 22 rfl) rfl
theorem q848 : (Jvm.Cond.methodLink "SableCrown$State" (109 : Nat) ({ cls := "SableCrown$View", name := "sees", desc := "(LSableCrown$Value;I)V" } : Jvm.MethodName)) ∈ lw_all := lw_g (lw_at lw_m4 24 rfl) rfl
theorem q858 : (Jvm.Cond.fieldLink "SableCrown$State" (115 : Nat) "SableCrown$Value" "SABLES" "LSableCrown$Value;") ∈ lw_all := lw_g (lw_at lw_m4 34 rfl) rfl
theorem q860 : (Jvm.Cond.fieldLink "SableCrown$State" (118 : Nat) "SableCrown$Value" "OWES" "LSableCrown$Value;") ∈ lw_all := lw_g (lw_at lw_m4 36 rfl) rfl
theorem q862 : (Jvm.Cond.fieldLink "SableCrown$State" (121 : Nat) "SableCrown$Value" "DUE" "LSableCrown$Value;") ∈ lw_all := lw_g (lw_at lw_m4 38 rfl) rfl
theorem q864 : (Jvm.Cond.fieldLink "SableCrown$State" (127 : Nat) "SableCrown$Value" "YEAR" "LSableCrown$Value;") ∈ lw_all := lw_g (lw_at lw_m4 40 rfl) rfl
theorem q866 : (Jvm.Cond.fieldLink "SableCrown$State" (130 : Nat) "SableCrown$Value" "STORE" "LSableCrown$Value;") ∈ lw_all := lw_g (lw_at lw_m4 42 rfl) rfl
theorem q868 : (Jvm.Cond.fieldLink "SableCrown$State" (133 : Nat) "SableCrown$Value" "OTHERS" "LSableCrown$Value;") ∈ lw_all := lw_g (lw_at lw_m4 44 rfl) rfl
theorem q870 : (Jvm.Cond.methodLink "SableCrown$State" (136 : Nat) ({ cls := "SableCrown$State", name := "others", desc := "(LSableCrown$Land;I)I" } : Jvm.MethodName)) ∈ lw_all := lw_g (lw_at lw_m4 46 rfl) rfl
theorem q871 : (Jvm.Cond.privateMethod ({ cls := "SableCrown$State", name := "others", desc := "(LSableCrown$Land;I)I" } : Jvm.MethodName)) ∈ lw_tbl := lw_at lw_m4 47 rfl
theorem q872 : (Jvm.Cond.instanceMethod ({ cls := "SableCrown$State", name := "others", desc := "(LSableCrown$Land;I)I" } : Jvm.MethodName)) ∈ lw_all := lw_g (lw_at lw_m4 48 rfl) rfl
theorem q873 : (Jvm.Cond.code ({ cls := "SableCrown$State", name := "others", desc := "(LSableCrown$Land;I)I" } : Jvm.MethodName) prog_13_method_4_code (5 : Nat) (Option.some Jvm.ClassFile.FieldType.int)) ∈ lw_all := lw_g (lw_at lw_m4 49 rfl) rfl
theorem q874 : (Jvm.Cond.methodLink "SableCrown$State" (140 : Nat) ({ cls := "SableCrown$Expr", name := "by", desc := "(LSableCrown$View;)I" } : Jvm.MethodName)) ∈ lw_all := lw_g (lw_at lw_m4 50 rfl) rfl
theorem q892 : (Jvm.Cond.methodLink "SableCrown$State" (146 : Nat) ({ cls := "java/lang/Math", name := "max", desc := "(II)I" } : Jvm.MethodName)) ∈ lw_all := lw_g (lw_at lw_m4 68 rfl) rfl
theorem q893 : (Jvm.Cond.methodLink "SableCrown$State" (171 : Nat) ({ cls := "SableCrown$State", name := "pays", desc := "(LSableCrown$Land;I)V" } : Jvm.MethodName)) ∈ lw_all := lw_g (lw_at lw_m4 69 rfl) rfl
theorem q894 : (Jvm.Cond.privateMethod ({ cls := "SableCrown$State", name := "pays", desc := "(LSableCrown$Land;I)V" } : Jvm.MethodName)) ∈ lw_tbl := lw_at lw_m4 70 rfl
theorem q895 : (Jvm.Cond.instanceMethod ({ cls := "SableCrown$State", name := "pays", desc := "(LSableCrown$Land;I)V" } : Jvm.MethodName)) ∈ lw_all := lw_g (lw_at lw_m4 71 rfl) rfl
theorem q896 : (Jvm.Cond.code ({ cls := "SableCrown$State", name := "pays", desc := "(LSableCrown$Land;I)V" } : Jvm.MethodName) prog_13_method_7_code (6 : Nat) (Option.none : Option Jvm.ClassFile.FieldType)) ∈ lw_all := lw_g (lw_at lw_m4 72 rfl) rfl
theorem q897 : (Jvm.Cond.methodLink "SableCrown$State" (174 : Nat) ({ cls := "SableCrown$State", name := "grows", desc := "(LSableCrown$Land;)V" } : Jvm.MethodName)) ∈ lw_all := lw_g (lw_at lw_m4 73 rfl) rfl
theorem q898 : (Jvm.Cond.privateMethod ({ cls := "SableCrown$State", name := "grows", desc := "(LSableCrown$Land;)V" } : Jvm.MethodName)) ∈ lw_tbl := lw_at lw_m4 74 rfl
theorem q899 : (Jvm.Cond.instanceMethod ({ cls := "SableCrown$State", name := "grows", desc := "(LSableCrown$Land;)V" } : Jvm.MethodName)) ∈ lw_all := lw_g (lw_at lw_m4 75 rfl) rfl
theorem q900 : (Jvm.Cond.code ({ cls := "SableCrown$State", name := "grows", desc := "(LSableCrown$Land;)V" } : Jvm.MethodName) prog_13_method_8_code (4 : Nat) (Option.none : Option Jvm.ClassFile.FieldType)) ∈ lw_all := lw_g (lw_at lw_m4 76 rfl) rfl
theorem q901 : (Jvm.Cond.methodLink "SableCrown$State" (61 : Nat) ({ cls := "java/util/ArrayList", name := "get", desc := "(I)Ljava/lang/Object;" } : Jvm.MethodName)) ∈ lw_all := lw_g (lw_at lw_m4 77 rfl) rfl
theorem q902 : (Jvm.Cond.classLink "SableCrown$State" (65 : Nat) "SableCrown$Forest") ∈ lw_all := lw_g (lw_at lw_m4 78 rfl) rfl
theorem q903 : (Jvm.Cond.methodLink "SableCrown$State" (161 : Nat) ({ cls := "SableCrown$Forest", name := "grown", desc := "(I)I" } : Jvm.MethodName)) ∈ lw_all := lw_g (lw_at lw_m4 79 rfl) rfl
theorem q909 : (Jvm.Cond.methodLink "SableCrown$State" (165 : Nat) ({ cls := "SableCrown$Forest", name := "grownBlack", desc := "(II)I" } : Jvm.MethodName)) ∈ lw_all := lw_g (lw_at lw_m4 85 rfl) rfl
theorem q1128 : (Jvm.Cond.fieldLinkNest "SableCrown$State" (67 : Nat) "SableCrown$Forest" "sables" "I" "SableCrown") ∈ lw_tbl := lw_at lw_m5 64 rfl
theorem q1130 : (Jvm.Cond.fieldLinkNest "SableCrown$State" (69 : Nat) "SableCrown$Forest" "black" "I" "SableCrown") ∈ lw_tbl := lw_at lw_m5 66 rfl
theorem q1170 : (Jvm.Cond.fieldLinkNest "SableCrown$State" (76 : Nat) "SableCrown$Band" "bows" "I" "SableCrown") ∈ lw_tbl := lw_at lw_m5 106 rfl
theorem q1172 : (Jvm.Cond.fieldLinkNest "SableCrown$State" (78 : Nat) "SableCrown$Band" "forest" "I" "SableCrown") ∈ lw_tbl := lw_at lw_m5 108 rfl
theorem q1174 : (Jvm.Cond.fieldLinkNest "SableCrown$State" (81 : Nat) "SableCrown$Band" "seen" "I" "SableCrown") ∈ lw_tbl := lw_at lw_m5 110 rfl
theorem q1355 : (Jvm.Cond.instanceMethod ({ cls := "SableCrown$State", name := "begins", desc := "(LSableCrown$Land;)V" } : Jvm.MethodName)) ∈ lw_all := lw_g (lw_at lw_m6 51 rfl) rfl
theorem q1356 : (Jvm.Cond.selects "SableCrown$State" ({ cls := "SableCrown$State", name := "begins", desc := "(LSableCrown$Land;)V" } : Jvm.MethodName) ({ cls := "SableCrown$State", name := "begins", desc := "(LSableCrown$Land;)V" } : Jvm.MethodName)) ∈ lw_all := lw_g (lw_at lw_m6 52 rfl) rfl
theorem q1357 : (Jvm.Cond.code ({ cls := "SableCrown$State", name := "begins", desc := "(LSableCrown$Land;)V" } : Jvm.MethodName) prog_13_method_2_code (3 : Nat) (Option.none : Option Jvm.ClassFile.FieldType)) ∈ lw_all := lw_g (lw_at lw_m6 53 rfl) rfl
theorem q1358 : (Jvm.Cond.classLink "SableCrown$State" (74 : Nat) "SableCrown$Band") ∈ lw_all := lw_g (lw_at lw_m6 54 rfl) rfl
theorem q1390 : (Jvm.Cond.instanceMethod ({ cls := "SableCrown$State", name := "all", desc := "(I)I" } : Jvm.MethodName)) ∈ lw_all := lw_g (lw_at lw_m6 86 rfl) rfl
theorem q1391 : (Jvm.Cond.selects "SableCrown$State" ({ cls := "SableCrown$State", name := "all", desc := "(I)I" } : Jvm.MethodName) ({ cls := "SableCrown$State", name := "all", desc := "(I)I" } : Jvm.MethodName)) ∈ lw_all := lw_g (lw_at lw_m6 87 rfl) rfl
theorem q1392 : (Jvm.Cond.code ({ cls := "SableCrown$State", name := "all", desc := "(I)I" } : Jvm.MethodName) prog_13_method_10_code (4 : Nat) (Option.some Jvm.ClassFile.FieldType.int)) ∈ lw_all := lw_g (lw_at lw_m6 88 rfl) rfl
theorem q1495 : (Jvm.Cond.instanceMethod ({ cls := "SableCrown$State", name := "allDead", desc := "(I)I" } : Jvm.MethodName)) ∈ lw_all := lw_g (lw_at lw_m6 191 rfl) rfl
theorem q1496 : (Jvm.Cond.selects "SableCrown$State" ({ cls := "SableCrown$State", name := "allDead", desc := "(I)I" } : Jvm.MethodName) ({ cls := "SableCrown$State", name := "allDead", desc := "(I)I" } : Jvm.MethodName)) ∈ lw_all := lw_g (lw_at lw_m6 192 rfl) rfl
theorem q1497 : (Jvm.Cond.code ({ cls := "SableCrown$State", name := "allDead", desc := "(I)I" } : Jvm.MethodName) prog_13_method_11_code (4 : Nat) (Option.some Jvm.ClassFile.FieldType.int)) ∈ lw_all := lw_g (lw_at lw_m6 193 rfl) rfl
theorem q2312 : (Jvm.Cond.castable "SableCrown$State" "java/lang/Object") ∈ lw_tbl := lw_at lw_m10 48 rfl
theorem in_X6 : ∀ w ∈ wsX60, w ∈ lw_all := lw_in wsX60 [615, 617, 619, 621, 623, 625, 627, 629, 631, 633, 635, 637, 639] (by decide +kernel) (by decide +kernel)
/-! SableCrown$Reader -/
set_option maxRecDepth 100000
def RX8 : String := "SableCrown$Reader"
def TX8 : u_T := fun k => match k with
  | 0 => ("SableCrown$Reader", "text", "[B", true)
  | 1 => ("SableCrown$Reader", "size", "I", true)
  | 2 => ("SableCrown$Reader", "next", "I", false)
  | 3 => ("SableCrown$Reader", "place", "I", false)
  | 4 => ("SableCrown$Reader", "value", "I", false)
  | 5 => ("SableCrown$Reader", "isLong", "Z", false)
  | 6 => ("SableCrown$Reader", "sort", "LSableCrown$Sort;", false)
  | 7 => ("SableCrown$Reader", "word", "Ljava/lang/String;", false)
  | _ => ("SableCrown$Reader", "has", "[Z", true)
def tyX8 : Nat → FieldType := fun k => match k with
  | 0 => .array .byte
  | 1 => .int
  | 2 => .int
  | 3 => .int
  | 4 => .int
  | 5 => .boolean
  | 6 => .object "SableCrown$Sort"
  | 7 => .object "java/lang/String"
  | _ => .array .boolean
abbrev wsX80 : List Cond := u_ws RX8 TX8 9
theorem nmX8 : ∀ a, a < 9 → ∀ b, b < 9 → a ≠ b → (TX8 a).2.1 ≠ (TX8 b).2.1 := by decide +kernel
theorem tyX8_ok : ∀ k, k < 9 → parseFieldDescriptor (TX8 k).2.2.1 = some (tyX8 k) := by decide +kernel
abbrev cX8_init : ByteArray := prog_10_method_1_code
def yX8_init : MethodName := ⟨RX8, "<init>", "([BI)V"⟩
def dkwX8_init_1 : List UInt8 := [181, 0, 25, 42, 182, 0, 29, 177]
abbrev dktX8_init_1 : List UInt8 := dkwX8_init_1 ++ []
def dkwX8_init_0 : List UInt8 := [42, 183, 0, 3, 42, 18, 9, 181, 0, 11, 42, 7, 188, 4, 181, 0, 17, 42, 43, 181, 0, 21, 42, 28]
abbrev dktX8_init_0 : List UInt8 := dkwX8_init_0 ++ dktX8_init_1
theorem dksX8_init_0 : cX8_init.data.toList.drop 0 = dktX8_init_0 := by decide +kernel
theorem dksX8_init_1 : cX8_init.data.toList.drop 24 = dktX8_init_1 := dk_seg dksX8_init_0 24 rfl rfl
theorem dX8_init_0 : decode cX8_init 0 = .ok (.aload_n 0, 1) := dk_42 (dk_at dksX8_init_0 0 rfl rfl)
theorem dX8_init_1 : decode cX8_init 1 = .ok (.invokespecial 3, 3) := dk_183 0 3 (dk_at dksX8_init_0 1 rfl rfl)
theorem dX8_init_4 : decode cX8_init 4 = .ok (.aload_n 0, 1) := dk_42 (dk_at dksX8_init_0 4 rfl rfl)
theorem dX8_init_5 : decode cX8_init 5 = .ok (.ldc 9, 2) := dk_18 9 (dk_at dksX8_init_0 5 rfl rfl)
theorem dX8_init_7 : decode cX8_init 7 = .ok (.putfield 11, 3) := dk_181 0 11 (dk_at dksX8_init_0 7 rfl rfl)
theorem dX8_init_10 : decode cX8_init 10 = .ok (.aload_n 0, 1) := dk_42 (dk_at dksX8_init_0 10 rfl rfl)
theorem dX8_init_11 : decode cX8_init 11 = .ok (.iconst 4, 1) := dk_7 (dk_at dksX8_init_0 11 rfl rfl)
theorem dX8_init_12 : decode cX8_init 12 = .ok (.newarray .boolean, 2) := dk_188_4 (dk_at dksX8_init_0 12 rfl rfl)
theorem dX8_init_14 : decode cX8_init 14 = .ok (.putfield 17, 3) := dk_181 0 17 (dk_at dksX8_init_0 14 rfl rfl)
theorem dX8_init_17 : decode cX8_init 17 = .ok (.aload_n 0, 1) := dk_42 (dk_at dksX8_init_0 17 rfl rfl)
theorem dX8_init_18 : decode cX8_init 18 = .ok (.aload_n 1, 1) := dk_43 (dk_at dksX8_init_0 18 rfl rfl)
theorem dX8_init_19 : decode cX8_init 19 = .ok (.putfield 21, 3) := dk_181 0 21 (dk_at dksX8_init_0 19 rfl rfl)
theorem dX8_init_22 : decode cX8_init 22 = .ok (.aload_n 0, 1) := dk_42 (dk_at dksX8_init_0 22 rfl rfl)
theorem dX8_init_23 : decode cX8_init 23 = .ok (.iload_n 2, 1) := dk_28 (dk_at dksX8_init_0 23 rfl rfl)
theorem dX8_init_24 : decode cX8_init 24 = .ok (.putfield 25, 3) := dk_181 0 25 (dk_at dksX8_init_1 0 rfl rfl)
theorem dX8_init_27 : decode cX8_init 27 = .ok (.aload_n 0, 1) := dk_42 (dk_at dksX8_init_1 3 rfl rfl)
theorem dX8_init_28 : decode cX8_init 28 = .ok (.invokevirtual 29, 3) := dk_182 0 29 (dk_at dksX8_init_1 4 rfl rfl)
theorem dX8_init_31 : decode cX8_init 31 = .ok (.return_, 1) := dk_177 (dk_at dksX8_init_1 7 rfl rfl)
abbrev cX8_go : ByteArray := prog_10_method_6_code
def yX8_go : MethodName := ⟨RX8, "go", "()V"⟩
def dkwX8_go_14 : List UInt8 := [146, 184, 0, 97, 181, 0, 11, 42, 89, 180, 0, 32, 4, 96, 181, 0, 32, 177]
abbrev dktX8_go_14 : List UInt8 := dkwX8_go_14 ++ []
def dkwX8_go_13 : List UInt8 := [178, 0, 91, 167, 0, 6, 178, 0, 94, 181, 0, 52, 42, 180, 0, 52, 178, 0, 91, 166, 0, 12, 42, 27]
abbrev dktX8_go_13 : List UInt8 := dkwX8_go_13 ++ dktX8_go_14
def dkwX8_go_12 : List UInt8 := [3, 181, 0, 42, 42, 178, 0, 85, 181, 0, 52, 167, 0, 52, 42, 27, 184, 0, 88, 153, 0, 9]
abbrev dktX8_go_12 : List UInt8 := dkwX8_go_12 ++ dktX8_go_13
def dkwX8_go_11 : List UInt8 := [181, 0, 32, 167, 255, 196, 42, 42, 180, 0, 32, 42, 180, 0, 39, 100, 7, 164, 0, 7, 4, 167, 0, 4]
abbrev dktX8_go_11 : List UInt8 := dkwX8_go_11 ++ dktX8_go_12
def dkwX8_go_10 : List UInt8 := [42, 42, 180, 0, 32, 182, 0, 35, 96, 16, 48, 100, 181, 0, 82, 42, 89, 180, 0, 32, 4, 96]
abbrev dktX8_go_10 : List UInt8 := dkwX8_go_10 ++ dktX8_go_11
def dkwX8_go_9 : List UInt8 := [153, 0, 52, 42, 180, 0, 32, 42, 180, 0, 39, 100, 7, 162, 0, 26, 42, 16, 10, 42, 180, 0, 82, 104]
abbrev dktX8_go_9 : List UInt8 := dkwX8_go_9 ++ dktX8_go_10
def dkwX8_go_8 : List UInt8 := [184, 0, 79, 153, 0, 103, 42, 3, 181, 0, 82, 42, 42, 180, 0, 32, 182, 0, 35, 184, 0, 79]
abbrev dktX8_go_8 : List UInt8 := dkwX8_go_8 ++ dktX8_go_9
def dkwX8_go_7 : List UInt8 := [167, 255, 209, 42, 44, 182, 0, 72, 181, 0, 11, 42, 178, 0, 76, 181, 0, 52, 167, 0, 159, 27]
abbrev dktX8_go_7 : List UInt8 := dkwX8_go_7 ++ dktX8_go_8
def dkwX8_go_6 : List UInt8 := [42, 180, 0, 32, 182, 0, 35, 146, 182, 0, 68, 87, 42, 89, 180, 0, 32, 4, 96, 181, 0, 32]
abbrev dktX8_go_6 : List UInt8 := dkwX8_go_6 ++ dktX8_go_7
def dkwX8_go_5 : List UInt8 := [42, 180, 0, 32, 182, 0, 35, 184, 0, 55, 153, 0, 39, 44, 182, 0, 64, 16, 9, 162, 0, 17, 44, 42]
abbrev dktX8_go_5 : List UInt8 := dkwX8_go_5 ++ dktX8_go_6
def dkwX8_go_4 : List UInt8 := [181, 0, 52, 167, 0, 244, 27, 184, 0, 55, 153, 0, 81, 187, 0, 59, 89, 16, 9, 183, 0, 61, 77, 42]
abbrev dktX8_go_4 : List UInt8 := dkwX8_go_4 ++ dktX8_go_5
def dkwX8_go_3 : List UInt8 := [180, 0, 32, 182, 0, 35, 60, 42, 180, 0, 32, 42, 180, 0, 25, 161, 0, 13, 42, 178, 0, 46]
abbrev dktX8_go_3 : List UInt8 := dkwX8_go_3 ++ dktX8_go_4
def dkwX8_go_2 : List UInt8 := [167, 255, 209, 42, 42, 180, 0, 32, 181, 0, 39, 42, 18, 9, 181, 0, 11, 42, 3, 181, 0, 42, 42, 42]
abbrev dktX8_go_2 : List UInt8 := dkwX8_go_2 ++ dktX8_go_3
def dkwX8_go_1 : List UInt8 := [42, 42, 180, 0, 32, 182, 0, 35, 16, 10, 160, 0, 16, 42, 89, 180, 0, 32, 4, 96, 181, 0, 32]
abbrev dktX8_go_1 : List UInt8 := dkwX8_go_1 ++ dktX8_go_2
def dkwX8_go_0 : List UInt8 := [42, 180, 0, 32, 42, 180, 0, 25, 162, 0, 42, 42, 42, 180, 0, 32, 182, 0, 35, 16, 32, 159, 0, 16]
abbrev dktX8_go_0 : List UInt8 := dkwX8_go_0 ++ dktX8_go_1
theorem dksX8_go_0 : cX8_go.data.toList.drop 0 = dktX8_go_0 := by decide +kernel
theorem dksX8_go_1 : cX8_go.data.toList.drop 24 = dktX8_go_1 := dk_seg dksX8_go_0 24 rfl rfl
theorem dksX8_go_2 : cX8_go.data.toList.drop 47 = dktX8_go_2 := dk_seg dksX8_go_1 23 rfl rfl
theorem dksX8_go_3 : cX8_go.data.toList.drop 71 = dktX8_go_3 := dk_seg dksX8_go_2 24 rfl rfl
theorem dksX8_go_4 : cX8_go.data.toList.drop 93 = dktX8_go_4 := dk_seg dksX8_go_3 22 rfl rfl
theorem dksX8_go_5 : cX8_go.data.toList.drop 117 = dktX8_go_5 := dk_seg dksX8_go_4 24 rfl rfl
theorem dksX8_go_6 : cX8_go.data.toList.drop 141 = dktX8_go_6 := dk_seg dksX8_go_5 24 rfl rfl
theorem dksX8_go_7 : cX8_go.data.toList.drop 163 = dktX8_go_7 := dk_seg dksX8_go_6 22 rfl rfl
theorem dksX8_go_8 : cX8_go.data.toList.drop 185 = dktX8_go_8 := dk_seg dksX8_go_7 22 rfl rfl
theorem dksX8_go_9 : cX8_go.data.toList.drop 207 = dktX8_go_9 := dk_seg dksX8_go_8 22 rfl rfl
theorem dksX8_go_10 : cX8_go.data.toList.drop 231 = dktX8_go_10 := dk_seg dksX8_go_9 24 rfl rfl
theorem dksX8_go_11 : cX8_go.data.toList.drop 253 = dktX8_go_11 := dk_seg dksX8_go_10 22 rfl rfl
theorem dksX8_go_12 : cX8_go.data.toList.drop 277 = dktX8_go_12 := dk_seg dksX8_go_11 24 rfl rfl
theorem dksX8_go_13 : cX8_go.data.toList.drop 299 = dktX8_go_13 := dk_seg dksX8_go_12 22 rfl rfl
theorem dksX8_go_14 : cX8_go.data.toList.drop 323 = dktX8_go_14 := dk_seg dksX8_go_13 24 rfl rfl
theorem dX8_go_0 : decode cX8_go 0 = .ok (.aload_n 0, 1) := dk_42 (dk_at dksX8_go_0 0 rfl rfl)
theorem dX8_go_1 : decode cX8_go 1 = .ok (.getfield 32, 3) := dk_180 0 32 (dk_at dksX8_go_0 1 rfl rfl)
theorem dX8_go_4 : decode cX8_go 4 = .ok (.aload_n 0, 1) := dk_42 (dk_at dksX8_go_0 4 rfl rfl)
theorem dX8_go_5 : decode cX8_go 5 = .ok (.getfield 25, 3) := dk_180 0 25 (dk_at dksX8_go_0 5 rfl rfl)
theorem dX8_go_8 : decode cX8_go 8 = .ok (.if_icmp .ge 42, 3) := dk_162 0 42 (dk_at dksX8_go_0 8 rfl rfl)
theorem dX8_go_11 : decode cX8_go 11 = .ok (.aload_n 0, 1) := dk_42 (dk_at dksX8_go_0 11 rfl rfl)
theorem dX8_go_12 : decode cX8_go 12 = .ok (.aload_n 0, 1) := dk_42 (dk_at dksX8_go_0 12 rfl rfl)
theorem dX8_go_13 : decode cX8_go 13 = .ok (.getfield 32, 3) := dk_180 0 32 (dk_at dksX8_go_0 13 rfl rfl)
theorem dX8_go_16 : decode cX8_go 16 = .ok (.invokevirtual 35, 3) := dk_182 0 35 (dk_at dksX8_go_0 16 rfl rfl)
theorem dX8_go_19 : decode cX8_go 19 = .ok (.bipush 32, 2) := dk_16 32 (dk_at dksX8_go_0 19 rfl rfl)
theorem dX8_go_21 : decode cX8_go 21 = .ok (.if_icmp .eq 16, 3) := dk_159 0 16 (dk_at dksX8_go_0 21 rfl rfl)
theorem dX8_go_24 : decode cX8_go 24 = .ok (.aload_n 0, 1) := dk_42 (dk_at dksX8_go_1 0 rfl rfl)
theorem dX8_go_25 : decode cX8_go 25 = .ok (.aload_n 0, 1) := dk_42 (dk_at dksX8_go_1 1 rfl rfl)
theorem dX8_go_26 : decode cX8_go 26 = .ok (.getfield 32, 3) := dk_180 0 32 (dk_at dksX8_go_1 2 rfl rfl)
theorem dX8_go_29 : decode cX8_go 29 = .ok (.invokevirtual 35, 3) := dk_182 0 35 (dk_at dksX8_go_1 5 rfl rfl)
theorem dX8_go_32 : decode cX8_go 32 = .ok (.bipush 10, 2) := dk_16 10 (dk_at dksX8_go_1 8 rfl rfl)
theorem dX8_go_34 : decode cX8_go 34 = .ok (.if_icmp .ne 16, 3) := dk_160 0 16 (dk_at dksX8_go_1 10 rfl rfl)
theorem dX8_go_37 : decode cX8_go 37 = .ok (.aload_n 0, 1) := dk_42 (dk_at dksX8_go_1 13 rfl rfl)
theorem dX8_go_38 : decode cX8_go 38 = .ok (.dup, 1) := dk_89 (dk_at dksX8_go_1 14 rfl rfl)
theorem dX8_go_39 : decode cX8_go 39 = .ok (.getfield 32, 3) := dk_180 0 32 (dk_at dksX8_go_1 15 rfl rfl)
theorem dX8_go_42 : decode cX8_go 42 = .ok (.iconst 1, 1) := dk_4 (dk_at dksX8_go_1 18 rfl rfl)
theorem dX8_go_43 : decode cX8_go 43 = .ok (.iadd, 1) := dk_96 (dk_at dksX8_go_1 19 rfl rfl)
theorem dX8_go_44 : decode cX8_go 44 = .ok (.putfield 32, 3) := dk_181 0 32 (dk_at dksX8_go_1 20 rfl rfl)
theorem dX8_go_47 : decode cX8_go 47 = .ok (.goto (-47), 3) := dk_167 255 209 (dk_at dksX8_go_2 0 rfl rfl)
theorem dX8_go_50 : decode cX8_go 50 = .ok (.aload_n 0, 1) := dk_42 (dk_at dksX8_go_2 3 rfl rfl)
theorem dX8_go_51 : decode cX8_go 51 = .ok (.aload_n 0, 1) := dk_42 (dk_at dksX8_go_2 4 rfl rfl)
theorem dX8_go_52 : decode cX8_go 52 = .ok (.getfield 32, 3) := dk_180 0 32 (dk_at dksX8_go_2 5 rfl rfl)
theorem dX8_go_55 : decode cX8_go 55 = .ok (.putfield 39, 3) := dk_181 0 39 (dk_at dksX8_go_2 8 rfl rfl)
theorem dX8_go_58 : decode cX8_go 58 = .ok (.aload_n 0, 1) := dk_42 (dk_at dksX8_go_2 11 rfl rfl)
theorem dX8_go_59 : decode cX8_go 59 = .ok (.ldc 9, 2) := dk_18 9 (dk_at dksX8_go_2 12 rfl rfl)
theorem dX8_go_61 : decode cX8_go 61 = .ok (.putfield 11, 3) := dk_181 0 11 (dk_at dksX8_go_2 14 rfl rfl)
theorem dX8_go_64 : decode cX8_go 64 = .ok (.aload_n 0, 1) := dk_42 (dk_at dksX8_go_2 17 rfl rfl)
theorem dX8_go_65 : decode cX8_go 65 = .ok (.iconst 0, 1) := dk_3 (dk_at dksX8_go_2 18 rfl rfl)
theorem dX8_go_66 : decode cX8_go 66 = .ok (.putfield 42, 3) := dk_181 0 42 (dk_at dksX8_go_2 19 rfl rfl)
theorem dX8_go_69 : decode cX8_go 69 = .ok (.aload_n 0, 1) := dk_42 (dk_at dksX8_go_2 22 rfl rfl)
theorem dX8_go_70 : decode cX8_go 70 = .ok (.aload_n 0, 1) := dk_42 (dk_at dksX8_go_2 23 rfl rfl)
theorem dX8_go_71 : decode cX8_go 71 = .ok (.getfield 32, 3) := dk_180 0 32 (dk_at dksX8_go_3 0 rfl rfl)
theorem dX8_go_74 : decode cX8_go 74 = .ok (.invokevirtual 35, 3) := dk_182 0 35 (dk_at dksX8_go_3 3 rfl rfl)
theorem dX8_go_77 : decode cX8_go 77 = .ok (.istore_n 1, 1) := dk_60 (dk_at dksX8_go_3 6 rfl rfl)
theorem dX8_go_78 : decode cX8_go 78 = .ok (.aload_n 0, 1) := dk_42 (dk_at dksX8_go_3 7 rfl rfl)
theorem dX8_go_79 : decode cX8_go 79 = .ok (.getfield 32, 3) := dk_180 0 32 (dk_at dksX8_go_3 8 rfl rfl)
theorem dX8_go_82 : decode cX8_go 82 = .ok (.aload_n 0, 1) := dk_42 (dk_at dksX8_go_3 11 rfl rfl)
theorem dX8_go_83 : decode cX8_go 83 = .ok (.getfield 25, 3) := dk_180 0 25 (dk_at dksX8_go_3 12 rfl rfl)
theorem dX8_go_86 : decode cX8_go 86 = .ok (.if_icmp .lt 13, 3) := dk_161 0 13 (dk_at dksX8_go_3 15 rfl rfl)
theorem dX8_go_89 : decode cX8_go 89 = .ok (.aload_n 0, 1) := dk_42 (dk_at dksX8_go_3 18 rfl rfl)
theorem dX8_go_90 : decode cX8_go 90 = .ok (.getstatic 46, 3) := dk_178 0 46 (dk_at dksX8_go_3 19 rfl rfl)
theorem dX8_go_93 : decode cX8_go 93 = .ok (.putfield 52, 3) := dk_181 0 52 (dk_at dksX8_go_4 0 rfl rfl)
theorem dX8_go_96 : decode cX8_go 96 = .ok (.goto 244, 3) := dk_167 0 244 (dk_at dksX8_go_4 3 rfl rfl)
theorem dX8_go_99 : decode cX8_go 99 = .ok (.iload_n 1, 1) := dk_27 (dk_at dksX8_go_4 6 rfl rfl)
theorem dX8_go_100 : decode cX8_go 100 = .ok (.invokestatic 55, 3) := dk_184 0 55 (dk_at dksX8_go_4 7 rfl rfl)
theorem dX8_go_103 : decode cX8_go 103 = .ok (.ifCond .eq 81, 3) := dk_153 0 81 (dk_at dksX8_go_4 10 rfl rfl)
theorem dX8_go_106 : decode cX8_go 106 = .ok (.new 59, 3) := dk_187 0 59 (dk_at dksX8_go_4 13 rfl rfl)
theorem dX8_go_109 : decode cX8_go 109 = .ok (.dup, 1) := dk_89 (dk_at dksX8_go_4 16 rfl rfl)
theorem dX8_go_110 : decode cX8_go 110 = .ok (.bipush 9, 2) := dk_16 9 (dk_at dksX8_go_4 17 rfl rfl)
theorem dX8_go_112 : decode cX8_go 112 = .ok (.invokespecial 61, 3) := dk_183 0 61 (dk_at dksX8_go_4 19 rfl rfl)
theorem dX8_go_115 : decode cX8_go 115 = .ok (.astore_n 2, 1) := dk_77 (dk_at dksX8_go_4 22 rfl rfl)
theorem dX8_go_116 : decode cX8_go 116 = .ok (.aload_n 0, 1) := dk_42 (dk_at dksX8_go_4 23 rfl rfl)
theorem dX8_go_117 : decode cX8_go 117 = .ok (.aload_n 0, 1) := dk_42 (dk_at dksX8_go_5 0 rfl rfl)
theorem dX8_go_118 : decode cX8_go 118 = .ok (.getfield 32, 3) := dk_180 0 32 (dk_at dksX8_go_5 1 rfl rfl)
theorem dX8_go_121 : decode cX8_go 121 = .ok (.invokevirtual 35, 3) := dk_182 0 35 (dk_at dksX8_go_5 4 rfl rfl)
theorem dX8_go_124 : decode cX8_go 124 = .ok (.invokestatic 55, 3) := dk_184 0 55 (dk_at dksX8_go_5 7 rfl rfl)
theorem dX8_go_127 : decode cX8_go 127 = .ok (.ifCond .eq 39, 3) := dk_153 0 39 (dk_at dksX8_go_5 10 rfl rfl)
theorem dX8_go_130 : decode cX8_go 130 = .ok (.aload_n 2, 1) := dk_44 (dk_at dksX8_go_5 13 rfl rfl)
theorem dX8_go_131 : decode cX8_go 131 = .ok (.invokevirtual 64, 3) := dk_182 0 64 (dk_at dksX8_go_5 14 rfl rfl)
theorem dX8_go_134 : decode cX8_go 134 = .ok (.bipush 9, 2) := dk_16 9 (dk_at dksX8_go_5 17 rfl rfl)
theorem dX8_go_136 : decode cX8_go 136 = .ok (.if_icmp .ge 17, 3) := dk_162 0 17 (dk_at dksX8_go_5 19 rfl rfl)
theorem dX8_go_139 : decode cX8_go 139 = .ok (.aload_n 2, 1) := dk_44 (dk_at dksX8_go_5 22 rfl rfl)
theorem dX8_go_140 : decode cX8_go 140 = .ok (.aload_n 0, 1) := dk_42 (dk_at dksX8_go_5 23 rfl rfl)
theorem dX8_go_141 : decode cX8_go 141 = .ok (.aload_n 0, 1) := dk_42 (dk_at dksX8_go_6 0 rfl rfl)
theorem dX8_go_142 : decode cX8_go 142 = .ok (.getfield 32, 3) := dk_180 0 32 (dk_at dksX8_go_6 1 rfl rfl)
theorem dX8_go_145 : decode cX8_go 145 = .ok (.invokevirtual 35, 3) := dk_182 0 35 (dk_at dksX8_go_6 4 rfl rfl)
theorem dX8_go_148 : decode cX8_go 148 = .ok (.i2c, 1) := dk_146 (dk_at dksX8_go_6 7 rfl rfl)
theorem dX8_go_149 : decode cX8_go 149 = .ok (.invokevirtual 68, 3) := dk_182 0 68 (dk_at dksX8_go_6 8 rfl rfl)
theorem dX8_go_152 : decode cX8_go 152 = .ok (.pop, 1) := dk_87 (dk_at dksX8_go_6 11 rfl rfl)
theorem dX8_go_153 : decode cX8_go 153 = .ok (.aload_n 0, 1) := dk_42 (dk_at dksX8_go_6 12 rfl rfl)
theorem dX8_go_154 : decode cX8_go 154 = .ok (.dup, 1) := dk_89 (dk_at dksX8_go_6 13 rfl rfl)
theorem dX8_go_155 : decode cX8_go 155 = .ok (.getfield 32, 3) := dk_180 0 32 (dk_at dksX8_go_6 14 rfl rfl)
theorem dX8_go_158 : decode cX8_go 158 = .ok (.iconst 1, 1) := dk_4 (dk_at dksX8_go_6 17 rfl rfl)
theorem dX8_go_159 : decode cX8_go 159 = .ok (.iadd, 1) := dk_96 (dk_at dksX8_go_6 18 rfl rfl)
theorem dX8_go_160 : decode cX8_go 160 = .ok (.putfield 32, 3) := dk_181 0 32 (dk_at dksX8_go_6 19 rfl rfl)
theorem dX8_go_163 : decode cX8_go 163 = .ok (.goto (-47), 3) := dk_167 255 209 (dk_at dksX8_go_7 0 rfl rfl)
theorem dX8_go_166 : decode cX8_go 166 = .ok (.aload_n 0, 1) := dk_42 (dk_at dksX8_go_7 3 rfl rfl)
theorem dX8_go_167 : decode cX8_go 167 = .ok (.aload_n 2, 1) := dk_44 (dk_at dksX8_go_7 4 rfl rfl)
theorem dX8_go_168 : decode cX8_go 168 = .ok (.invokevirtual 72, 3) := dk_182 0 72 (dk_at dksX8_go_7 5 rfl rfl)
theorem dX8_go_171 : decode cX8_go 171 = .ok (.putfield 11, 3) := dk_181 0 11 (dk_at dksX8_go_7 8 rfl rfl)
theorem dX8_go_174 : decode cX8_go 174 = .ok (.aload_n 0, 1) := dk_42 (dk_at dksX8_go_7 11 rfl rfl)
theorem dX8_go_175 : decode cX8_go 175 = .ok (.getstatic 76, 3) := dk_178 0 76 (dk_at dksX8_go_7 12 rfl rfl)
theorem dX8_go_178 : decode cX8_go 178 = .ok (.putfield 52, 3) := dk_181 0 52 (dk_at dksX8_go_7 15 rfl rfl)
theorem dX8_go_181 : decode cX8_go 181 = .ok (.goto 159, 3) := dk_167 0 159 (dk_at dksX8_go_7 18 rfl rfl)
theorem dX8_go_184 : decode cX8_go 184 = .ok (.iload_n 1, 1) := dk_27 (dk_at dksX8_go_7 21 rfl rfl)
theorem dX8_go_185 : decode cX8_go 185 = .ok (.invokestatic 79, 3) := dk_184 0 79 (dk_at dksX8_go_8 0 rfl rfl)
theorem dX8_go_188 : decode cX8_go 188 = .ok (.ifCond .eq 103, 3) := dk_153 0 103 (dk_at dksX8_go_8 3 rfl rfl)
theorem dX8_go_191 : decode cX8_go 191 = .ok (.aload_n 0, 1) := dk_42 (dk_at dksX8_go_8 6 rfl rfl)
theorem dX8_go_192 : decode cX8_go 192 = .ok (.iconst 0, 1) := dk_3 (dk_at dksX8_go_8 7 rfl rfl)
theorem dX8_go_193 : decode cX8_go 193 = .ok (.putfield 82, 3) := dk_181 0 82 (dk_at dksX8_go_8 8 rfl rfl)
theorem dX8_go_196 : decode cX8_go 196 = .ok (.aload_n 0, 1) := dk_42 (dk_at dksX8_go_8 11 rfl rfl)
theorem dX8_go_197 : decode cX8_go 197 = .ok (.aload_n 0, 1) := dk_42 (dk_at dksX8_go_8 12 rfl rfl)
theorem dX8_go_198 : decode cX8_go 198 = .ok (.getfield 32, 3) := dk_180 0 32 (dk_at dksX8_go_8 13 rfl rfl)
theorem dX8_go_201 : decode cX8_go 201 = .ok (.invokevirtual 35, 3) := dk_182 0 35 (dk_at dksX8_go_8 16 rfl rfl)
theorem dX8_go_204 : decode cX8_go 204 = .ok (.invokestatic 79, 3) := dk_184 0 79 (dk_at dksX8_go_8 19 rfl rfl)
theorem dX8_go_207 : decode cX8_go 207 = .ok (.ifCond .eq 52, 3) := dk_153 0 52 (dk_at dksX8_go_9 0 rfl rfl)
theorem dX8_go_210 : decode cX8_go 210 = .ok (.aload_n 0, 1) := dk_42 (dk_at dksX8_go_9 3 rfl rfl)
theorem dX8_go_211 : decode cX8_go 211 = .ok (.getfield 32, 3) := dk_180 0 32 (dk_at dksX8_go_9 4 rfl rfl)
theorem dX8_go_214 : decode cX8_go 214 = .ok (.aload_n 0, 1) := dk_42 (dk_at dksX8_go_9 7 rfl rfl)
theorem dX8_go_215 : decode cX8_go 215 = .ok (.getfield 39, 3) := dk_180 0 39 (dk_at dksX8_go_9 8 rfl rfl)
theorem dX8_go_218 : decode cX8_go 218 = .ok (.isub, 1) := dk_100 (dk_at dksX8_go_9 11 rfl rfl)
theorem dX8_go_219 : decode cX8_go 219 = .ok (.iconst 4, 1) := dk_7 (dk_at dksX8_go_9 12 rfl rfl)
theorem dX8_go_220 : decode cX8_go 220 = .ok (.if_icmp .ge 26, 3) := dk_162 0 26 (dk_at dksX8_go_9 13 rfl rfl)
theorem dX8_go_223 : decode cX8_go 223 = .ok (.aload_n 0, 1) := dk_42 (dk_at dksX8_go_9 16 rfl rfl)
theorem dX8_go_224 : decode cX8_go 224 = .ok (.bipush 10, 2) := dk_16 10 (dk_at dksX8_go_9 17 rfl rfl)
theorem dX8_go_226 : decode cX8_go 226 = .ok (.aload_n 0, 1) := dk_42 (dk_at dksX8_go_9 19 rfl rfl)
theorem dX8_go_227 : decode cX8_go 227 = .ok (.getfield 82, 3) := dk_180 0 82 (dk_at dksX8_go_9 20 rfl rfl)
theorem dX8_go_230 : decode cX8_go 230 = .ok (.imul, 1) := dk_104 (dk_at dksX8_go_9 23 rfl rfl)
theorem dX8_go_231 : decode cX8_go 231 = .ok (.aload_n 0, 1) := dk_42 (dk_at dksX8_go_10 0 rfl rfl)
theorem dX8_go_232 : decode cX8_go 232 = .ok (.aload_n 0, 1) := dk_42 (dk_at dksX8_go_10 1 rfl rfl)
theorem dX8_go_233 : decode cX8_go 233 = .ok (.getfield 32, 3) := dk_180 0 32 (dk_at dksX8_go_10 2 rfl rfl)
theorem dX8_go_236 : decode cX8_go 236 = .ok (.invokevirtual 35, 3) := dk_182 0 35 (dk_at dksX8_go_10 5 rfl rfl)
theorem dX8_go_239 : decode cX8_go 239 = .ok (.iadd, 1) := dk_96 (dk_at dksX8_go_10 8 rfl rfl)
theorem dX8_go_240 : decode cX8_go 240 = .ok (.bipush 48, 2) := dk_16 48 (dk_at dksX8_go_10 9 rfl rfl)
theorem dX8_go_242 : decode cX8_go 242 = .ok (.isub, 1) := dk_100 (dk_at dksX8_go_10 11 rfl rfl)
theorem dX8_go_243 : decode cX8_go 243 = .ok (.putfield 82, 3) := dk_181 0 82 (dk_at dksX8_go_10 12 rfl rfl)
theorem dX8_go_246 : decode cX8_go 246 = .ok (.aload_n 0, 1) := dk_42 (dk_at dksX8_go_10 15 rfl rfl)
theorem dX8_go_247 : decode cX8_go 247 = .ok (.dup, 1) := dk_89 (dk_at dksX8_go_10 16 rfl rfl)
theorem dX8_go_248 : decode cX8_go 248 = .ok (.getfield 32, 3) := dk_180 0 32 (dk_at dksX8_go_10 17 rfl rfl)
theorem dX8_go_251 : decode cX8_go 251 = .ok (.iconst 1, 1) := dk_4 (dk_at dksX8_go_10 20 rfl rfl)
theorem dX8_go_252 : decode cX8_go 252 = .ok (.iadd, 1) := dk_96 (dk_at dksX8_go_10 21 rfl rfl)
theorem dX8_go_253 : decode cX8_go 253 = .ok (.putfield 32, 3) := dk_181 0 32 (dk_at dksX8_go_11 0 rfl rfl)
theorem dX8_go_256 : decode cX8_go 256 = .ok (.goto (-60), 3) := dk_167 255 196 (dk_at dksX8_go_11 3 rfl rfl)
theorem dX8_go_259 : decode cX8_go 259 = .ok (.aload_n 0, 1) := dk_42 (dk_at dksX8_go_11 6 rfl rfl)
theorem dX8_go_260 : decode cX8_go 260 = .ok (.aload_n 0, 1) := dk_42 (dk_at dksX8_go_11 7 rfl rfl)
theorem dX8_go_261 : decode cX8_go 261 = .ok (.getfield 32, 3) := dk_180 0 32 (dk_at dksX8_go_11 8 rfl rfl)
theorem dX8_go_264 : decode cX8_go 264 = .ok (.aload_n 0, 1) := dk_42 (dk_at dksX8_go_11 11 rfl rfl)
theorem dX8_go_265 : decode cX8_go 265 = .ok (.getfield 39, 3) := dk_180 0 39 (dk_at dksX8_go_11 12 rfl rfl)
theorem dX8_go_268 : decode cX8_go 268 = .ok (.isub, 1) := dk_100 (dk_at dksX8_go_11 15 rfl rfl)
theorem dX8_go_269 : decode cX8_go 269 = .ok (.iconst 4, 1) := dk_7 (dk_at dksX8_go_11 16 rfl rfl)
theorem dX8_go_270 : decode cX8_go 270 = .ok (.if_icmp .le 7, 3) := dk_164 0 7 (dk_at dksX8_go_11 17 rfl rfl)
theorem dX8_go_273 : decode cX8_go 273 = .ok (.iconst 1, 1) := dk_4 (dk_at dksX8_go_11 20 rfl rfl)
theorem dX8_go_274 : decode cX8_go 274 = .ok (.goto 4, 3) := dk_167 0 4 (dk_at dksX8_go_11 21 rfl rfl)
theorem dX8_go_277 : decode cX8_go 277 = .ok (.iconst 0, 1) := dk_3 (dk_at dksX8_go_12 0 rfl rfl)
theorem dX8_go_278 : decode cX8_go 278 = .ok (.putfield 42, 3) := dk_181 0 42 (dk_at dksX8_go_12 1 rfl rfl)
theorem dX8_go_281 : decode cX8_go 281 = .ok (.aload_n 0, 1) := dk_42 (dk_at dksX8_go_12 4 rfl rfl)
theorem dX8_go_282 : decode cX8_go 282 = .ok (.getstatic 85, 3) := dk_178 0 85 (dk_at dksX8_go_12 5 rfl rfl)
theorem dX8_go_285 : decode cX8_go 285 = .ok (.putfield 52, 3) := dk_181 0 52 (dk_at dksX8_go_12 8 rfl rfl)
theorem dX8_go_288 : decode cX8_go 288 = .ok (.goto 52, 3) := dk_167 0 52 (dk_at dksX8_go_12 11 rfl rfl)
theorem dX8_go_291 : decode cX8_go 291 = .ok (.aload_n 0, 1) := dk_42 (dk_at dksX8_go_12 14 rfl rfl)
theorem dX8_go_292 : decode cX8_go 292 = .ok (.iload_n 1, 1) := dk_27 (dk_at dksX8_go_12 15 rfl rfl)
theorem dX8_go_293 : decode cX8_go 293 = .ok (.invokestatic 88, 3) := dk_184 0 88 (dk_at dksX8_go_12 16 rfl rfl)
theorem dX8_go_296 : decode cX8_go 296 = .ok (.ifCond .eq 9, 3) := dk_153 0 9 (dk_at dksX8_go_12 19 rfl rfl)
theorem dX8_go_299 : decode cX8_go 299 = .ok (.getstatic 91, 3) := dk_178 0 91 (dk_at dksX8_go_13 0 rfl rfl)
theorem dX8_go_302 : decode cX8_go 302 = .ok (.goto 6, 3) := dk_167 0 6 (dk_at dksX8_go_13 3 rfl rfl)
theorem dX8_go_305 : decode cX8_go 305 = .ok (.getstatic 94, 3) := dk_178 0 94 (dk_at dksX8_go_13 6 rfl rfl)
theorem dX8_go_308 : decode cX8_go 308 = .ok (.putfield 52, 3) := dk_181 0 52 (dk_at dksX8_go_13 9 rfl rfl)
theorem dX8_go_311 : decode cX8_go 311 = .ok (.aload_n 0, 1) := dk_42 (dk_at dksX8_go_13 12 rfl rfl)
theorem dX8_go_312 : decode cX8_go 312 = .ok (.getfield 52, 3) := dk_180 0 52 (dk_at dksX8_go_13 13 rfl rfl)
theorem dX8_go_315 : decode cX8_go 315 = .ok (.getstatic 91, 3) := dk_178 0 91 (dk_at dksX8_go_13 16 rfl rfl)
theorem dX8_go_318 : decode cX8_go 318 = .ok (.if_acmp .ne 12, 3) := dk_166 0 12 (dk_at dksX8_go_13 19 rfl rfl)
theorem dX8_go_321 : decode cX8_go 321 = .ok (.aload_n 0, 1) := dk_42 (dk_at dksX8_go_13 22 rfl rfl)
theorem dX8_go_322 : decode cX8_go 322 = .ok (.iload_n 1, 1) := dk_27 (dk_at dksX8_go_13 23 rfl rfl)
theorem dX8_go_323 : decode cX8_go 323 = .ok (.i2c, 1) := dk_146 (dk_at dksX8_go_14 0 rfl rfl)
theorem dX8_go_324 : decode cX8_go 324 = .ok (.invokestatic 97, 3) := dk_184 0 97 (dk_at dksX8_go_14 1 rfl rfl)
theorem dX8_go_327 : decode cX8_go 327 = .ok (.putfield 11, 3) := dk_181 0 11 (dk_at dksX8_go_14 4 rfl rfl)
theorem dX8_go_330 : decode cX8_go 330 = .ok (.aload_n 0, 1) := dk_42 (dk_at dksX8_go_14 7 rfl rfl)
theorem dX8_go_331 : decode cX8_go 331 = .ok (.dup, 1) := dk_89 (dk_at dksX8_go_14 8 rfl rfl)
theorem dX8_go_332 : decode cX8_go 332 = .ok (.getfield 32, 3) := dk_180 0 32 (dk_at dksX8_go_14 9 rfl rfl)
theorem dX8_go_335 : decode cX8_go 335 = .ok (.iconst 1, 1) := dk_4 (dk_at dksX8_go_14 12 rfl rfl)
theorem dX8_go_336 : decode cX8_go 336 = .ok (.iadd, 1) := dk_96 (dk_at dksX8_go_14 13 rfl rfl)
theorem dX8_go_337 : decode cX8_go 337 = .ok (.putfield 32, 3) := dk_181 0 32 (dk_at dksX8_go_14 14 rfl rfl)
theorem dX8_go_340 : decode cX8_go 340 = .ok (.return_, 1) := dk_177 (dk_at dksX8_go_14 17 rfl rfl)
abbrev cX8_byteAt : ByteArray := prog_10_method_2_code
def yX8_byteAt : MethodName := ⟨RX8, "byteAt", "(I)I"⟩
def dkwX8_byteAt_0 : List UInt8 := [27, 42, 180, 0, 25, 162, 0, 16, 42, 180, 0, 21, 27, 51, 17, 0, 255, 126, 167, 0, 4, 3, 172]
abbrev dktX8_byteAt_0 : List UInt8 := dkwX8_byteAt_0 ++ []
theorem dksX8_byteAt_0 : cX8_byteAt.data.toList.drop 0 = dktX8_byteAt_0 := by decide +kernel
theorem dX8_byteAt_0 : decode cX8_byteAt 0 = .ok (.iload_n 1, 1) := dk_27 (dk_at dksX8_byteAt_0 0 rfl rfl)
theorem dX8_byteAt_1 : decode cX8_byteAt 1 = .ok (.aload_n 0, 1) := dk_42 (dk_at dksX8_byteAt_0 1 rfl rfl)
theorem dX8_byteAt_2 : decode cX8_byteAt 2 = .ok (.getfield 25, 3) := dk_180 0 25 (dk_at dksX8_byteAt_0 2 rfl rfl)
theorem dX8_byteAt_5 : decode cX8_byteAt 5 = .ok (.if_icmp .ge 16, 3) := dk_162 0 16 (dk_at dksX8_byteAt_0 5 rfl rfl)
theorem dX8_byteAt_8 : decode cX8_byteAt 8 = .ok (.aload_n 0, 1) := dk_42 (dk_at dksX8_byteAt_0 8 rfl rfl)
theorem dX8_byteAt_9 : decode cX8_byteAt 9 = .ok (.getfield 21, 3) := dk_180 0 21 (dk_at dksX8_byteAt_0 9 rfl rfl)
theorem dX8_byteAt_12 : decode cX8_byteAt 12 = .ok (.iload_n 1, 1) := dk_27 (dk_at dksX8_byteAt_0 12 rfl rfl)
theorem dX8_byteAt_13 : decode cX8_byteAt 13 = .ok (.baload, 1) := dk_51 (dk_at dksX8_byteAt_0 13 rfl rfl)
theorem dX8_byteAt_14 : decode cX8_byteAt 14 = .ok (.sipush 255, 3) := dk_17 0 255 (dk_at dksX8_byteAt_0 14 rfl rfl)
theorem dX8_byteAt_17 : decode cX8_byteAt 17 = .ok (.iand, 1) := dk_126 (dk_at dksX8_byteAt_0 17 rfl rfl)
theorem dX8_byteAt_18 : decode cX8_byteAt 18 = .ok (.goto 4, 3) := dk_167 0 4 (dk_at dksX8_byteAt_0 18 rfl rfl)
theorem dX8_byteAt_21 : decode cX8_byteAt 21 = .ok (.iconst 0, 1) := dk_3 (dk_at dksX8_byteAt_0 21 rfl rfl)
theorem dX8_byteAt_22 : decode cX8_byteAt 22 = .ok (.ireturn, 1) := dk_172 (dk_at dksX8_byteAt_0 22 rfl rfl)
abbrev cX8_isLetter : ByteArray := prog_10_method_3_code
def yX8_isLetter : MethodName := ⟨RX8, "isLetter", "(I)Z"⟩
def dkwX8_isLetter_0 : List UInt8 := [26, 16, 97, 161, 0, 13, 26, 16, 122, 163, 0, 7, 4, 167, 0, 4, 3, 172]
abbrev dktX8_isLetter_0 : List UInt8 := dkwX8_isLetter_0 ++ []
theorem dksX8_isLetter_0 : cX8_isLetter.data.toList.drop 0 = dktX8_isLetter_0 := by decide +kernel
theorem dX8_isLetter_0 : decode cX8_isLetter 0 = .ok (.iload_n 0, 1) := dk_26 (dk_at dksX8_isLetter_0 0 rfl rfl)
theorem dX8_isLetter_1 : decode cX8_isLetter 1 = .ok (.bipush 97, 2) := dk_16 97 (dk_at dksX8_isLetter_0 1 rfl rfl)
theorem dX8_isLetter_3 : decode cX8_isLetter 3 = .ok (.if_icmp .lt 13, 3) := dk_161 0 13 (dk_at dksX8_isLetter_0 3 rfl rfl)
theorem dX8_isLetter_6 : decode cX8_isLetter 6 = .ok (.iload_n 0, 1) := dk_26 (dk_at dksX8_isLetter_0 6 rfl rfl)
theorem dX8_isLetter_7 : decode cX8_isLetter 7 = .ok (.bipush 122, 2) := dk_16 122 (dk_at dksX8_isLetter_0 7 rfl rfl)
theorem dX8_isLetter_9 : decode cX8_isLetter 9 = .ok (.if_icmp .gt 7, 3) := dk_163 0 7 (dk_at dksX8_isLetter_0 9 rfl rfl)
theorem dX8_isLetter_12 : decode cX8_isLetter 12 = .ok (.iconst 1, 1) := dk_4 (dk_at dksX8_isLetter_0 12 rfl rfl)
theorem dX8_isLetter_13 : decode cX8_isLetter 13 = .ok (.goto 4, 3) := dk_167 0 4 (dk_at dksX8_isLetter_0 13 rfl rfl)
theorem dX8_isLetter_16 : decode cX8_isLetter 16 = .ok (.iconst 0, 1) := dk_3 (dk_at dksX8_isLetter_0 16 rfl rfl)
theorem dX8_isLetter_17 : decode cX8_isLetter 17 = .ok (.ireturn, 1) := dk_172 (dk_at dksX8_isLetter_0 17 rfl rfl)
abbrev cX8_isDigit : ByteArray := prog_10_method_4_code
def yX8_isDigit : MethodName := ⟨RX8, "isDigit", "(I)Z"⟩
def dkwX8_isDigit_0 : List UInt8 := [26, 16, 48, 161, 0, 13, 26, 16, 57, 163, 0, 7, 4, 167, 0, 4, 3, 172]
abbrev dktX8_isDigit_0 : List UInt8 := dkwX8_isDigit_0 ++ []
theorem dksX8_isDigit_0 : cX8_isDigit.data.toList.drop 0 = dktX8_isDigit_0 := by decide +kernel
theorem dX8_isDigit_0 : decode cX8_isDigit 0 = .ok (.iload_n 0, 1) := dk_26 (dk_at dksX8_isDigit_0 0 rfl rfl)
theorem dX8_isDigit_1 : decode cX8_isDigit 1 = .ok (.bipush 48, 2) := dk_16 48 (dk_at dksX8_isDigit_0 1 rfl rfl)
theorem dX8_isDigit_3 : decode cX8_isDigit 3 = .ok (.if_icmp .lt 13, 3) := dk_161 0 13 (dk_at dksX8_isDigit_0 3 rfl rfl)
theorem dX8_isDigit_6 : decode cX8_isDigit 6 = .ok (.iload_n 0, 1) := dk_26 (dk_at dksX8_isDigit_0 6 rfl rfl)
theorem dX8_isDigit_7 : decode cX8_isDigit 7 = .ok (.bipush 57, 2) := dk_16 57 (dk_at dksX8_isDigit_0 7 rfl rfl)
theorem dX8_isDigit_9 : decode cX8_isDigit 9 = .ok (.if_icmp .gt 7, 3) := dk_163 0 7 (dk_at dksX8_isDigit_0 9 rfl rfl)
theorem dX8_isDigit_12 : decode cX8_isDigit 12 = .ok (.iconst 1, 1) := dk_4 (dk_at dksX8_isDigit_0 12 rfl rfl)
theorem dX8_isDigit_13 : decode cX8_isDigit 13 = .ok (.goto 4, 3) := dk_167 0 4 (dk_at dksX8_isDigit_0 13 rfl rfl)
theorem dX8_isDigit_16 : decode cX8_isDigit 16 = .ok (.iconst 0, 1) := dk_3 (dk_at dksX8_isDigit_0 16 rfl rfl)
theorem dX8_isDigit_17 : decode cX8_isDigit 17 = .ok (.ireturn, 1) := dk_172 (dk_at dksX8_isDigit_0 17 rfl rfl)
abbrev cX8_isSign : ByteArray := prog_10_method_5_code
def yX8_isSign : MethodName := ⟨RX8, "isSign", "(I)Z"⟩
def dkwX8_isSign_2 : List UInt8 := [26, 16, 61, 160, 0, 7, 4, 167, 0, 4, 3, 172]
abbrev dktX8_isSign_2 : List UInt8 := dkwX8_isSign_2 ++ []
def dkwX8_isSign_1 : List UInt8 := [26, 16, 45, 159, 0, 27, 26, 16, 42, 159, 0, 21, 26, 16, 47, 159, 0, 15, 26, 16, 60, 159, 0, 9]
abbrev dktX8_isSign_1 : List UInt8 := dkwX8_isSign_1 ++ dktX8_isSign_2
def dkwX8_isSign_0 : List UInt8 := [26, 16, 59, 159, 0, 51, 26, 16, 40, 159, 0, 45, 26, 16, 41, 159, 0, 39, 26, 16, 43, 159, 0, 33]
abbrev dktX8_isSign_0 : List UInt8 := dkwX8_isSign_0 ++ dktX8_isSign_1
theorem dksX8_isSign_0 : cX8_isSign.data.toList.drop 0 = dktX8_isSign_0 := by decide +kernel
theorem dksX8_isSign_1 : cX8_isSign.data.toList.drop 24 = dktX8_isSign_1 := dk_seg dksX8_isSign_0 24 rfl rfl
theorem dksX8_isSign_2 : cX8_isSign.data.toList.drop 48 = dktX8_isSign_2 := dk_seg dksX8_isSign_1 24 rfl rfl
theorem dX8_isSign_0 : decode cX8_isSign 0 = .ok (.iload_n 0, 1) := dk_26 (dk_at dksX8_isSign_0 0 rfl rfl)
theorem dX8_isSign_1 : decode cX8_isSign 1 = .ok (.bipush 59, 2) := dk_16 59 (dk_at dksX8_isSign_0 1 rfl rfl)
theorem dX8_isSign_3 : decode cX8_isSign 3 = .ok (.if_icmp .eq 51, 3) := dk_159 0 51 (dk_at dksX8_isSign_0 3 rfl rfl)
theorem dX8_isSign_6 : decode cX8_isSign 6 = .ok (.iload_n 0, 1) := dk_26 (dk_at dksX8_isSign_0 6 rfl rfl)
theorem dX8_isSign_7 : decode cX8_isSign 7 = .ok (.bipush 40, 2) := dk_16 40 (dk_at dksX8_isSign_0 7 rfl rfl)
theorem dX8_isSign_9 : decode cX8_isSign 9 = .ok (.if_icmp .eq 45, 3) := dk_159 0 45 (dk_at dksX8_isSign_0 9 rfl rfl)
theorem dX8_isSign_12 : decode cX8_isSign 12 = .ok (.iload_n 0, 1) := dk_26 (dk_at dksX8_isSign_0 12 rfl rfl)
theorem dX8_isSign_13 : decode cX8_isSign 13 = .ok (.bipush 41, 2) := dk_16 41 (dk_at dksX8_isSign_0 13 rfl rfl)
theorem dX8_isSign_15 : decode cX8_isSign 15 = .ok (.if_icmp .eq 39, 3) := dk_159 0 39 (dk_at dksX8_isSign_0 15 rfl rfl)
theorem dX8_isSign_18 : decode cX8_isSign 18 = .ok (.iload_n 0, 1) := dk_26 (dk_at dksX8_isSign_0 18 rfl rfl)
theorem dX8_isSign_19 : decode cX8_isSign 19 = .ok (.bipush 43, 2) := dk_16 43 (dk_at dksX8_isSign_0 19 rfl rfl)
theorem dX8_isSign_21 : decode cX8_isSign 21 = .ok (.if_icmp .eq 33, 3) := dk_159 0 33 (dk_at dksX8_isSign_0 21 rfl rfl)
theorem dX8_isSign_24 : decode cX8_isSign 24 = .ok (.iload_n 0, 1) := dk_26 (dk_at dksX8_isSign_1 0 rfl rfl)
theorem dX8_isSign_25 : decode cX8_isSign 25 = .ok (.bipush 45, 2) := dk_16 45 (dk_at dksX8_isSign_1 1 rfl rfl)
theorem dX8_isSign_27 : decode cX8_isSign 27 = .ok (.if_icmp .eq 27, 3) := dk_159 0 27 (dk_at dksX8_isSign_1 3 rfl rfl)
theorem dX8_isSign_30 : decode cX8_isSign 30 = .ok (.iload_n 0, 1) := dk_26 (dk_at dksX8_isSign_1 6 rfl rfl)
theorem dX8_isSign_31 : decode cX8_isSign 31 = .ok (.bipush 42, 2) := dk_16 42 (dk_at dksX8_isSign_1 7 rfl rfl)
theorem dX8_isSign_33 : decode cX8_isSign 33 = .ok (.if_icmp .eq 21, 3) := dk_159 0 21 (dk_at dksX8_isSign_1 9 rfl rfl)
theorem dX8_isSign_36 : decode cX8_isSign 36 = .ok (.iload_n 0, 1) := dk_26 (dk_at dksX8_isSign_1 12 rfl rfl)
theorem dX8_isSign_37 : decode cX8_isSign 37 = .ok (.bipush 47, 2) := dk_16 47 (dk_at dksX8_isSign_1 13 rfl rfl)
theorem dX8_isSign_39 : decode cX8_isSign 39 = .ok (.if_icmp .eq 15, 3) := dk_159 0 15 (dk_at dksX8_isSign_1 15 rfl rfl)
theorem dX8_isSign_42 : decode cX8_isSign 42 = .ok (.iload_n 0, 1) := dk_26 (dk_at dksX8_isSign_1 18 rfl rfl)
theorem dX8_isSign_43 : decode cX8_isSign 43 = .ok (.bipush 60, 2) := dk_16 60 (dk_at dksX8_isSign_1 19 rfl rfl)
theorem dX8_isSign_45 : decode cX8_isSign 45 = .ok (.if_icmp .eq 9, 3) := dk_159 0 9 (dk_at dksX8_isSign_1 21 rfl rfl)
theorem dX8_isSign_48 : decode cX8_isSign 48 = .ok (.iload_n 0, 1) := dk_26 (dk_at dksX8_isSign_2 0 rfl rfl)
theorem dX8_isSign_49 : decode cX8_isSign 49 = .ok (.bipush 61, 2) := dk_16 61 (dk_at dksX8_isSign_2 1 rfl rfl)
theorem dX8_isSign_51 : decode cX8_isSign 51 = .ok (.if_icmp .ne 7, 3) := dk_160 0 7 (dk_at dksX8_isSign_2 3 rfl rfl)
theorem dX8_isSign_54 : decode cX8_isSign 54 = .ok (.iconst 1, 1) := dk_4 (dk_at dksX8_isSign_2 6 rfl rfl)
theorem dX8_isSign_55 : decode cX8_isSign 55 = .ok (.goto 4, 3) := dk_167 0 4 (dk_at dksX8_isSign_2 7 rfl rfl)
theorem dX8_isSign_58 : decode cX8_isSign 58 = .ok (.iconst 0, 1) := dk_3 (dk_at dksX8_isSign_2 10 rfl rfl)
theorem dX8_isSign_59 : decode cX8_isSign 59 = .ok (.ireturn, 1) := dk_172 (dk_at dksX8_isSign_2 11 rfl rfl)
abbrev cX8_land : ByteArray := prog_10_method_14_code
def yX8_land : MethodName := ⟨RX8, "land", "()LSableCrown$Land;"⟩
def dkwX8_land_16 : List UInt8 := [182, 0, 203, 167, 254, 142, 43, 182, 0, 207, 43, 176]
abbrev dktX8_land_16 : List UInt8 := dkwX8_land_16 ++ []
def dkwX8_land_15 : List UInt8 := [153, 0, 15, 43, 42, 3, 182, 0, 194, 181, 0, 198, 167, 0, 9, 42, 3, 4, 182, 0, 116, 42, 18, 201]
abbrev dktX8_land_15 : List UInt8 := dkwX8_land_15 ++ dktX8_land_16
def dkwX8_land_14 : List UInt8 := [153, 0, 17, 43, 42, 3, 16, 99, 182, 0, 136, 181, 0, 190, 167, 0, 31, 42, 18, 192, 6, 182, 0, 178]
abbrev dktX8_land_14 : List UInt8 := dkwX8_land_14 ++ dktX8_land_15
def dkwX8_land_13 : List UInt8 := [153, 0, 17, 43, 42, 4, 16, 9, 182, 0, 136, 181, 0, 186, 167, 0, 55, 42, 18, 188, 5, 182, 0, 178]
abbrev dktX8_land_13 : List UInt8 := dkwX8_land_13 ++ dktX8_land_14
def dkwX8_land_12 : List UInt8 := [153, 0, 17, 43, 42, 3, 16, 9, 182, 0, 136, 181, 0, 182, 167, 0, 79, 42, 18, 184, 4, 182, 0, 178]
abbrev dktX8_land_12 : List UInt8 := dkwX8_land_12 ++ dktX8_land_13
def dkwX8_land_11 : List UInt8 := [182, 0, 116, 42, 182, 0, 29, 42, 43, 182, 0, 174, 167, 0, 103, 42, 18, 176, 3, 182, 0, 178]
abbrev dktX8_land_11 : List UInt8 := dkwX8_land_11 ++ dktX8_land_12
def dkwX8_land_10 : List UInt8 := [182, 0, 112, 153, 0, 36, 42, 43, 180, 0, 171, 182, 0, 132, 6, 162, 0, 7, 4, 167, 0, 4, 3, 5]
abbrev dktX8_land_10 : List UInt8 := dkwX8_land_10 ++ dktX8_land_11
def dkwX8_land_9 : List UInt8 := [28, 29, 42, 3, 16, 30, 182, 0, 136, 183, 0, 166, 182, 0, 145, 87, 167, 0, 145, 42, 18, 169]
abbrev dktX8_land_9 : List UInt8 := dkwX8_land_9 ++ dktX8_land_10
def dkwX8_land_8 : List UInt8 := [182, 0, 136, 61, 42, 43, 180, 0, 128, 182, 0, 132, 182, 0, 161, 62, 43, 180, 0, 158, 187, 0, 164, 89]
abbrev dktX8_land_8 : List UInt8 := dkwX8_land_8 ++ dktX8_land_9
def dkwX8_land_7 : List UInt8 := [16, 6, 162, 0, 7, 4, 167, 0, 4, 3, 5, 182, 0, 116, 42, 182, 0, 29, 42, 4, 16, 30]
abbrev dktX8_land_7 : List UInt8 := dkwX8_land_7 ++ dktX8_land_8
def dkwX8_land_6 : List UInt8 := [43, 182, 0, 153, 167, 0, 227, 42, 18, 156, 182, 0, 112, 153, 0, 76, 42, 43, 180, 0, 158, 182, 0, 132]
abbrev dktX8_land_6 : List UInt8 := dkwX8_land_6 ++ dktX8_land_7
def dkwX8_land_5 : List UInt8 := [42, 43, 180, 0, 150, 16, 12, 162, 0, 7, 4, 167, 0, 4, 3, 5, 182, 0, 116, 42, 182, 0, 29, 42]
abbrev dktX8_land_5 : List UInt8 := dkwX8_land_5 ++ dktX8_land_6
def dkwX8_land_4 : List UInt8 := [16, 99, 182, 0, 136, 183, 0, 142, 182, 0, 145, 87, 167, 1, 11, 42, 18, 148, 182, 0, 112, 153, 0, 34]
abbrev dktX8_land_4 : List UInt8 := dkwX8_land_4 ++ dktX8_land_5
def dkwX8_land_3 : List UInt8 := [4, 17, 3, 231, 182, 0, 136, 54, 4, 43, 180, 0, 128, 187, 0, 140, 89, 28, 29, 21, 4, 42, 3]
abbrev dktX8_land_3 : List UInt8 := dkwX8_land_3 ++ dktX8_land_4
def dkwX8_land_2 : List UInt8 := [182, 0, 116, 42, 182, 0, 29, 42, 3, 17, 3, 231, 182, 0, 136, 61, 42, 3, 28, 182, 0, 136, 62, 42]
abbrev dktX8_land_2 : List UInt8 := dkwX8_land_2 ++ dktX8_land_3
def dkwX8_land_1 : List UInt8 := [153, 0, 84, 42, 43, 180, 0, 128, 182, 0, 132, 16, 8, 162, 0, 7, 4, 167, 0, 4, 3, 5]
abbrev dktX8_land_1 : List UInt8 := dkwX8_land_1 ++ dktX8_land_2
def dkwX8_land_0 : List UInt8 := [187, 0, 123, 89, 183, 0, 125, 76, 42, 180, 0, 52, 178, 0, 46, 165, 1, 110, 42, 18, 126, 182, 0, 112]
abbrev dktX8_land_0 : List UInt8 := dkwX8_land_0 ++ dktX8_land_1
theorem dksX8_land_0 : cX8_land.data.toList.drop 0 = dktX8_land_0 := by decide +kernel
theorem dksX8_land_1 : cX8_land.data.toList.drop 24 = dktX8_land_1 := dk_seg dksX8_land_0 24 rfl rfl
theorem dksX8_land_2 : cX8_land.data.toList.drop 46 = dktX8_land_2 := dk_seg dksX8_land_1 22 rfl rfl
theorem dksX8_land_3 : cX8_land.data.toList.drop 70 = dktX8_land_3 := dk_seg dksX8_land_2 24 rfl rfl
theorem dksX8_land_4 : cX8_land.data.toList.drop 93 = dktX8_land_4 := dk_seg dksX8_land_3 23 rfl rfl
theorem dksX8_land_5 : cX8_land.data.toList.drop 117 = dktX8_land_5 := dk_seg dksX8_land_4 24 rfl rfl
theorem dksX8_land_6 : cX8_land.data.toList.drop 141 = dktX8_land_6 := dk_seg dksX8_land_5 24 rfl rfl
theorem dksX8_land_7 : cX8_land.data.toList.drop 165 = dktX8_land_7 := dk_seg dksX8_land_6 24 rfl rfl
theorem dksX8_land_8 : cX8_land.data.toList.drop 187 = dktX8_land_8 := dk_seg dksX8_land_7 22 rfl rfl
theorem dksX8_land_9 : cX8_land.data.toList.drop 211 = dktX8_land_9 := dk_seg dksX8_land_8 24 rfl rfl
theorem dksX8_land_10 : cX8_land.data.toList.drop 233 = dktX8_land_10 := dk_seg dksX8_land_9 22 rfl rfl
theorem dksX8_land_11 : cX8_land.data.toList.drop 257 = dktX8_land_11 := dk_seg dksX8_land_10 24 rfl rfl
theorem dksX8_land_12 : cX8_land.data.toList.drop 279 = dktX8_land_12 := dk_seg dksX8_land_11 22 rfl rfl
theorem dksX8_land_13 : cX8_land.data.toList.drop 303 = dktX8_land_13 := dk_seg dksX8_land_12 24 rfl rfl
theorem dksX8_land_14 : cX8_land.data.toList.drop 327 = dktX8_land_14 := dk_seg dksX8_land_13 24 rfl rfl
theorem dksX8_land_15 : cX8_land.data.toList.drop 351 = dktX8_land_15 := dk_seg dksX8_land_14 24 rfl rfl
theorem dksX8_land_16 : cX8_land.data.toList.drop 375 = dktX8_land_16 := dk_seg dksX8_land_15 24 rfl rfl
theorem dX8_land_0 : decode cX8_land 0 = .ok (.new 123, 3) := dk_187 0 123 (dk_at dksX8_land_0 0 rfl rfl)
theorem dX8_land_3 : decode cX8_land 3 = .ok (.dup, 1) := dk_89 (dk_at dksX8_land_0 3 rfl rfl)
theorem dX8_land_4 : decode cX8_land 4 = .ok (.invokespecial 125, 3) := dk_183 0 125 (dk_at dksX8_land_0 4 rfl rfl)
theorem dX8_land_7 : decode cX8_land 7 = .ok (.astore_n 1, 1) := dk_76 (dk_at dksX8_land_0 7 rfl rfl)
theorem dX8_land_8 : decode cX8_land 8 = .ok (.aload_n 0, 1) := dk_42 (dk_at dksX8_land_0 8 rfl rfl)
theorem dX8_land_9 : decode cX8_land 9 = .ok (.getfield 52, 3) := dk_180 0 52 (dk_at dksX8_land_0 9 rfl rfl)
theorem dX8_land_12 : decode cX8_land 12 = .ok (.getstatic 46, 3) := dk_178 0 46 (dk_at dksX8_land_0 12 rfl rfl)
theorem dX8_land_15 : decode cX8_land 15 = .ok (.if_acmp .eq 366, 3) := dk_165 1 110 (dk_at dksX8_land_0 15 rfl rfl)
theorem dX8_land_18 : decode cX8_land 18 = .ok (.aload_n 0, 1) := dk_42 (dk_at dksX8_land_0 18 rfl rfl)
theorem dX8_land_19 : decode cX8_land 19 = .ok (.ldc 126, 2) := dk_18 126 (dk_at dksX8_land_0 19 rfl rfl)
theorem dX8_land_21 : decode cX8_land 21 = .ok (.invokevirtual 112, 3) := dk_182 0 112 (dk_at dksX8_land_0 21 rfl rfl)
theorem dX8_land_24 : decode cX8_land 24 = .ok (.ifCond .eq 84, 3) := dk_153 0 84 (dk_at dksX8_land_1 0 rfl rfl)
theorem dX8_land_27 : decode cX8_land 27 = .ok (.aload_n 0, 1) := dk_42 (dk_at dksX8_land_1 3 rfl rfl)
theorem dX8_land_28 : decode cX8_land 28 = .ok (.aload_n 1, 1) := dk_43 (dk_at dksX8_land_1 4 rfl rfl)
theorem dX8_land_29 : decode cX8_land 29 = .ok (.getfield 128, 3) := dk_180 0 128 (dk_at dksX8_land_1 5 rfl rfl)
theorem dX8_land_32 : decode cX8_land 32 = .ok (.invokevirtual 132, 3) := dk_182 0 132 (dk_at dksX8_land_1 8 rfl rfl)
theorem dX8_land_35 : decode cX8_land 35 = .ok (.bipush 8, 2) := dk_16 8 (dk_at dksX8_land_1 11 rfl rfl)
theorem dX8_land_37 : decode cX8_land 37 = .ok (.if_icmp .ge 7, 3) := dk_162 0 7 (dk_at dksX8_land_1 13 rfl rfl)
theorem dX8_land_40 : decode cX8_land 40 = .ok (.iconst 1, 1) := dk_4 (dk_at dksX8_land_1 16 rfl rfl)
theorem dX8_land_41 : decode cX8_land 41 = .ok (.goto 4, 3) := dk_167 0 4 (dk_at dksX8_land_1 17 rfl rfl)
theorem dX8_land_44 : decode cX8_land 44 = .ok (.iconst 0, 1) := dk_3 (dk_at dksX8_land_1 20 rfl rfl)
theorem dX8_land_45 : decode cX8_land 45 = .ok (.iconst 2, 1) := dk_5 (dk_at dksX8_land_1 21 rfl rfl)
theorem dX8_land_46 : decode cX8_land 46 = .ok (.invokevirtual 116, 3) := dk_182 0 116 (dk_at dksX8_land_2 0 rfl rfl)
theorem dX8_land_49 : decode cX8_land 49 = .ok (.aload_n 0, 1) := dk_42 (dk_at dksX8_land_2 3 rfl rfl)
theorem dX8_land_50 : decode cX8_land 50 = .ok (.invokevirtual 29, 3) := dk_182 0 29 (dk_at dksX8_land_2 4 rfl rfl)
theorem dX8_land_53 : decode cX8_land 53 = .ok (.aload_n 0, 1) := dk_42 (dk_at dksX8_land_2 7 rfl rfl)
theorem dX8_land_54 : decode cX8_land 54 = .ok (.iconst 0, 1) := dk_3 (dk_at dksX8_land_2 8 rfl rfl)
theorem dX8_land_55 : decode cX8_land 55 = .ok (.sipush 999, 3) := dk_17 3 231 (dk_at dksX8_land_2 9 rfl rfl)
theorem dX8_land_58 : decode cX8_land 58 = .ok (.invokevirtual 136, 3) := dk_182 0 136 (dk_at dksX8_land_2 12 rfl rfl)
theorem dX8_land_61 : decode cX8_land 61 = .ok (.istore_n 2, 1) := dk_61 (dk_at dksX8_land_2 15 rfl rfl)
theorem dX8_land_62 : decode cX8_land 62 = .ok (.aload_n 0, 1) := dk_42 (dk_at dksX8_land_2 16 rfl rfl)
theorem dX8_land_63 : decode cX8_land 63 = .ok (.iconst 0, 1) := dk_3 (dk_at dksX8_land_2 17 rfl rfl)
theorem dX8_land_64 : decode cX8_land 64 = .ok (.iload_n 2, 1) := dk_28 (dk_at dksX8_land_2 18 rfl rfl)
theorem dX8_land_65 : decode cX8_land 65 = .ok (.invokevirtual 136, 3) := dk_182 0 136 (dk_at dksX8_land_2 19 rfl rfl)
theorem dX8_land_68 : decode cX8_land 68 = .ok (.istore_n 3, 1) := dk_62 (dk_at dksX8_land_2 22 rfl rfl)
theorem dX8_land_69 : decode cX8_land 69 = .ok (.aload_n 0, 1) := dk_42 (dk_at dksX8_land_2 23 rfl rfl)
theorem dX8_land_70 : decode cX8_land 70 = .ok (.iconst 1, 1) := dk_4 (dk_at dksX8_land_3 0 rfl rfl)
theorem dX8_land_71 : decode cX8_land 71 = .ok (.sipush 999, 3) := dk_17 3 231 (dk_at dksX8_land_3 1 rfl rfl)
theorem dX8_land_74 : decode cX8_land 74 = .ok (.invokevirtual 136, 3) := dk_182 0 136 (dk_at dksX8_land_3 4 rfl rfl)
theorem dX8_land_77 : decode cX8_land 77 = .ok (.istore 4, 2) := dk_54 4 (dk_at dksX8_land_3 7 rfl rfl)
theorem dX8_land_79 : decode cX8_land 79 = .ok (.aload_n 1, 1) := dk_43 (dk_at dksX8_land_3 9 rfl rfl)
theorem dX8_land_80 : decode cX8_land 80 = .ok (.getfield 128, 3) := dk_180 0 128 (dk_at dksX8_land_3 10 rfl rfl)
theorem dX8_land_83 : decode cX8_land 83 = .ok (.new 140, 3) := dk_187 0 140 (dk_at dksX8_land_3 13 rfl rfl)
theorem dX8_land_86 : decode cX8_land 86 = .ok (.dup, 1) := dk_89 (dk_at dksX8_land_3 16 rfl rfl)
theorem dX8_land_87 : decode cX8_land 87 = .ok (.iload_n 2, 1) := dk_28 (dk_at dksX8_land_3 17 rfl rfl)
theorem dX8_land_88 : decode cX8_land 88 = .ok (.iload_n 3, 1) := dk_29 (dk_at dksX8_land_3 18 rfl rfl)
theorem dX8_land_89 : decode cX8_land 89 = .ok (.iload 4, 2) := dk_21 4 (dk_at dksX8_land_3 19 rfl rfl)
theorem dX8_land_91 : decode cX8_land 91 = .ok (.aload_n 0, 1) := dk_42 (dk_at dksX8_land_3 21 rfl rfl)
theorem dX8_land_92 : decode cX8_land 92 = .ok (.iconst 0, 1) := dk_3 (dk_at dksX8_land_3 22 rfl rfl)
theorem dX8_land_93 : decode cX8_land 93 = .ok (.bipush 99, 2) := dk_16 99 (dk_at dksX8_land_4 0 rfl rfl)
theorem dX8_land_95 : decode cX8_land 95 = .ok (.invokevirtual 136, 3) := dk_182 0 136 (dk_at dksX8_land_4 2 rfl rfl)
theorem dX8_land_98 : decode cX8_land 98 = .ok (.invokespecial 142, 3) := dk_183 0 142 (dk_at dksX8_land_4 5 rfl rfl)
theorem dX8_land_101 : decode cX8_land 101 = .ok (.invokevirtual 145, 3) := dk_182 0 145 (dk_at dksX8_land_4 8 rfl rfl)
theorem dX8_land_104 : decode cX8_land 104 = .ok (.pop, 1) := dk_87 (dk_at dksX8_land_4 11 rfl rfl)
theorem dX8_land_105 : decode cX8_land 105 = .ok (.goto 267, 3) := dk_167 1 11 (dk_at dksX8_land_4 12 rfl rfl)
theorem dX8_land_108 : decode cX8_land 108 = .ok (.aload_n 0, 1) := dk_42 (dk_at dksX8_land_4 15 rfl rfl)
theorem dX8_land_109 : decode cX8_land 109 = .ok (.ldc 148, 2) := dk_18 148 (dk_at dksX8_land_4 16 rfl rfl)
theorem dX8_land_111 : decode cX8_land 111 = .ok (.invokevirtual 112, 3) := dk_182 0 112 (dk_at dksX8_land_4 18 rfl rfl)
theorem dX8_land_114 : decode cX8_land 114 = .ok (.ifCond .eq 34, 3) := dk_153 0 34 (dk_at dksX8_land_4 21 rfl rfl)
theorem dX8_land_117 : decode cX8_land 117 = .ok (.aload_n 0, 1) := dk_42 (dk_at dksX8_land_5 0 rfl rfl)
theorem dX8_land_118 : decode cX8_land 118 = .ok (.aload_n 1, 1) := dk_43 (dk_at dksX8_land_5 1 rfl rfl)
theorem dX8_land_119 : decode cX8_land 119 = .ok (.getfield 150, 3) := dk_180 0 150 (dk_at dksX8_land_5 2 rfl rfl)
theorem dX8_land_122 : decode cX8_land 122 = .ok (.bipush 12, 2) := dk_16 12 (dk_at dksX8_land_5 5 rfl rfl)
theorem dX8_land_124 : decode cX8_land 124 = .ok (.if_icmp .ge 7, 3) := dk_162 0 7 (dk_at dksX8_land_5 7 rfl rfl)
theorem dX8_land_127 : decode cX8_land 127 = .ok (.iconst 1, 1) := dk_4 (dk_at dksX8_land_5 10 rfl rfl)
theorem dX8_land_128 : decode cX8_land 128 = .ok (.goto 4, 3) := dk_167 0 4 (dk_at dksX8_land_5 11 rfl rfl)
theorem dX8_land_131 : decode cX8_land 131 = .ok (.iconst 0, 1) := dk_3 (dk_at dksX8_land_5 14 rfl rfl)
theorem dX8_land_132 : decode cX8_land 132 = .ok (.iconst 2, 1) := dk_5 (dk_at dksX8_land_5 15 rfl rfl)
theorem dX8_land_133 : decode cX8_land 133 = .ok (.invokevirtual 116, 3) := dk_182 0 116 (dk_at dksX8_land_5 16 rfl rfl)
theorem dX8_land_136 : decode cX8_land 136 = .ok (.aload_n 0, 1) := dk_42 (dk_at dksX8_land_5 19 rfl rfl)
theorem dX8_land_137 : decode cX8_land 137 = .ok (.invokevirtual 29, 3) := dk_182 0 29 (dk_at dksX8_land_5 20 rfl rfl)
theorem dX8_land_140 : decode cX8_land 140 = .ok (.aload_n 0, 1) := dk_42 (dk_at dksX8_land_5 23 rfl rfl)
theorem dX8_land_141 : decode cX8_land 141 = .ok (.aload_n 1, 1) := dk_43 (dk_at dksX8_land_6 0 rfl rfl)
theorem dX8_land_142 : decode cX8_land 142 = .ok (.invokevirtual 153, 3) := dk_182 0 153 (dk_at dksX8_land_6 1 rfl rfl)
theorem dX8_land_145 : decode cX8_land 145 = .ok (.goto 227, 3) := dk_167 0 227 (dk_at dksX8_land_6 4 rfl rfl)
theorem dX8_land_148 : decode cX8_land 148 = .ok (.aload_n 0, 1) := dk_42 (dk_at dksX8_land_6 7 rfl rfl)
theorem dX8_land_149 : decode cX8_land 149 = .ok (.ldc 156, 2) := dk_18 156 (dk_at dksX8_land_6 8 rfl rfl)
theorem dX8_land_151 : decode cX8_land 151 = .ok (.invokevirtual 112, 3) := dk_182 0 112 (dk_at dksX8_land_6 10 rfl rfl)
theorem dX8_land_154 : decode cX8_land 154 = .ok (.ifCond .eq 76, 3) := dk_153 0 76 (dk_at dksX8_land_6 13 rfl rfl)
theorem dX8_land_157 : decode cX8_land 157 = .ok (.aload_n 0, 1) := dk_42 (dk_at dksX8_land_6 16 rfl rfl)
theorem dX8_land_158 : decode cX8_land 158 = .ok (.aload_n 1, 1) := dk_43 (dk_at dksX8_land_6 17 rfl rfl)
theorem dX8_land_159 : decode cX8_land 159 = .ok (.getfield 158, 3) := dk_180 0 158 (dk_at dksX8_land_6 18 rfl rfl)
theorem dX8_land_162 : decode cX8_land 162 = .ok (.invokevirtual 132, 3) := dk_182 0 132 (dk_at dksX8_land_6 21 rfl rfl)
theorem dX8_land_165 : decode cX8_land 165 = .ok (.bipush 6, 2) := dk_16 6 (dk_at dksX8_land_7 0 rfl rfl)
theorem dX8_land_167 : decode cX8_land 167 = .ok (.if_icmp .ge 7, 3) := dk_162 0 7 (dk_at dksX8_land_7 2 rfl rfl)
theorem dX8_land_170 : decode cX8_land 170 = .ok (.iconst 1, 1) := dk_4 (dk_at dksX8_land_7 5 rfl rfl)
theorem dX8_land_171 : decode cX8_land 171 = .ok (.goto 4, 3) := dk_167 0 4 (dk_at dksX8_land_7 6 rfl rfl)
theorem dX8_land_174 : decode cX8_land 174 = .ok (.iconst 0, 1) := dk_3 (dk_at dksX8_land_7 9 rfl rfl)
theorem dX8_land_175 : decode cX8_land 175 = .ok (.iconst 2, 1) := dk_5 (dk_at dksX8_land_7 10 rfl rfl)
theorem dX8_land_176 : decode cX8_land 176 = .ok (.invokevirtual 116, 3) := dk_182 0 116 (dk_at dksX8_land_7 11 rfl rfl)
theorem dX8_land_179 : decode cX8_land 179 = .ok (.aload_n 0, 1) := dk_42 (dk_at dksX8_land_7 14 rfl rfl)
theorem dX8_land_180 : decode cX8_land 180 = .ok (.invokevirtual 29, 3) := dk_182 0 29 (dk_at dksX8_land_7 15 rfl rfl)
theorem dX8_land_183 : decode cX8_land 183 = .ok (.aload_n 0, 1) := dk_42 (dk_at dksX8_land_7 18 rfl rfl)
theorem dX8_land_184 : decode cX8_land 184 = .ok (.iconst 1, 1) := dk_4 (dk_at dksX8_land_7 19 rfl rfl)
theorem dX8_land_185 : decode cX8_land 185 = .ok (.bipush 30, 2) := dk_16 30 (dk_at dksX8_land_7 20 rfl rfl)
theorem dX8_land_187 : decode cX8_land 187 = .ok (.invokevirtual 136, 3) := dk_182 0 136 (dk_at dksX8_land_8 0 rfl rfl)
theorem dX8_land_190 : decode cX8_land 190 = .ok (.istore_n 2, 1) := dk_61 (dk_at dksX8_land_8 3 rfl rfl)
theorem dX8_land_191 : decode cX8_land 191 = .ok (.aload_n 0, 1) := dk_42 (dk_at dksX8_land_8 4 rfl rfl)
theorem dX8_land_192 : decode cX8_land 192 = .ok (.aload_n 1, 1) := dk_43 (dk_at dksX8_land_8 5 rfl rfl)
theorem dX8_land_193 : decode cX8_land 193 = .ok (.getfield 128, 3) := dk_180 0 128 (dk_at dksX8_land_8 6 rfl rfl)
theorem dX8_land_196 : decode cX8_land 196 = .ok (.invokevirtual 132, 3) := dk_182 0 132 (dk_at dksX8_land_8 9 rfl rfl)
theorem dX8_land_199 : decode cX8_land 199 = .ok (.invokevirtual 161, 3) := dk_182 0 161 (dk_at dksX8_land_8 12 rfl rfl)
theorem dX8_land_202 : decode cX8_land 202 = .ok (.istore_n 3, 1) := dk_62 (dk_at dksX8_land_8 15 rfl rfl)
theorem dX8_land_203 : decode cX8_land 203 = .ok (.aload_n 1, 1) := dk_43 (dk_at dksX8_land_8 16 rfl rfl)
theorem dX8_land_204 : decode cX8_land 204 = .ok (.getfield 158, 3) := dk_180 0 158 (dk_at dksX8_land_8 17 rfl rfl)
theorem dX8_land_207 : decode cX8_land 207 = .ok (.new 164, 3) := dk_187 0 164 (dk_at dksX8_land_8 20 rfl rfl)
theorem dX8_land_210 : decode cX8_land 210 = .ok (.dup, 1) := dk_89 (dk_at dksX8_land_8 23 rfl rfl)
theorem dX8_land_211 : decode cX8_land 211 = .ok (.iload_n 2, 1) := dk_28 (dk_at dksX8_land_9 0 rfl rfl)
theorem dX8_land_212 : decode cX8_land 212 = .ok (.iload_n 3, 1) := dk_29 (dk_at dksX8_land_9 1 rfl rfl)
theorem dX8_land_213 : decode cX8_land 213 = .ok (.aload_n 0, 1) := dk_42 (dk_at dksX8_land_9 2 rfl rfl)
theorem dX8_land_214 : decode cX8_land 214 = .ok (.iconst 0, 1) := dk_3 (dk_at dksX8_land_9 3 rfl rfl)
theorem dX8_land_215 : decode cX8_land 215 = .ok (.bipush 30, 2) := dk_16 30 (dk_at dksX8_land_9 4 rfl rfl)
theorem dX8_land_217 : decode cX8_land 217 = .ok (.invokevirtual 136, 3) := dk_182 0 136 (dk_at dksX8_land_9 6 rfl rfl)
theorem dX8_land_220 : decode cX8_land 220 = .ok (.invokespecial 166, 3) := dk_183 0 166 (dk_at dksX8_land_9 9 rfl rfl)
theorem dX8_land_223 : decode cX8_land 223 = .ok (.invokevirtual 145, 3) := dk_182 0 145 (dk_at dksX8_land_9 12 rfl rfl)
theorem dX8_land_226 : decode cX8_land 226 = .ok (.pop, 1) := dk_87 (dk_at dksX8_land_9 15 rfl rfl)
theorem dX8_land_227 : decode cX8_land 227 = .ok (.goto 145, 3) := dk_167 0 145 (dk_at dksX8_land_9 16 rfl rfl)
theorem dX8_land_230 : decode cX8_land 230 = .ok (.aload_n 0, 1) := dk_42 (dk_at dksX8_land_9 19 rfl rfl)
theorem dX8_land_231 : decode cX8_land 231 = .ok (.ldc 169, 2) := dk_18 169 (dk_at dksX8_land_9 20 rfl rfl)
theorem dX8_land_233 : decode cX8_land 233 = .ok (.invokevirtual 112, 3) := dk_182 0 112 (dk_at dksX8_land_10 0 rfl rfl)
theorem dX8_land_236 : decode cX8_land 236 = .ok (.ifCond .eq 36, 3) := dk_153 0 36 (dk_at dksX8_land_10 3 rfl rfl)
theorem dX8_land_239 : decode cX8_land 239 = .ok (.aload_n 0, 1) := dk_42 (dk_at dksX8_land_10 6 rfl rfl)
theorem dX8_land_240 : decode cX8_land 240 = .ok (.aload_n 1, 1) := dk_43 (dk_at dksX8_land_10 7 rfl rfl)
theorem dX8_land_241 : decode cX8_land 241 = .ok (.getfield 171, 3) := dk_180 0 171 (dk_at dksX8_land_10 8 rfl rfl)
theorem dX8_land_244 : decode cX8_land 244 = .ok (.invokevirtual 132, 3) := dk_182 0 132 (dk_at dksX8_land_10 11 rfl rfl)
theorem dX8_land_247 : decode cX8_land 247 = .ok (.iconst 3, 1) := dk_6 (dk_at dksX8_land_10 14 rfl rfl)
theorem dX8_land_248 : decode cX8_land 248 = .ok (.if_icmp .ge 7, 3) := dk_162 0 7 (dk_at dksX8_land_10 15 rfl rfl)
theorem dX8_land_251 : decode cX8_land 251 = .ok (.iconst 1, 1) := dk_4 (dk_at dksX8_land_10 18 rfl rfl)
theorem dX8_land_252 : decode cX8_land 252 = .ok (.goto 4, 3) := dk_167 0 4 (dk_at dksX8_land_10 19 rfl rfl)
theorem dX8_land_255 : decode cX8_land 255 = .ok (.iconst 0, 1) := dk_3 (dk_at dksX8_land_10 22 rfl rfl)
theorem dX8_land_256 : decode cX8_land 256 = .ok (.iconst 2, 1) := dk_5 (dk_at dksX8_land_10 23 rfl rfl)
theorem dX8_land_257 : decode cX8_land 257 = .ok (.invokevirtual 116, 3) := dk_182 0 116 (dk_at dksX8_land_11 0 rfl rfl)
theorem dX8_land_260 : decode cX8_land 260 = .ok (.aload_n 0, 1) := dk_42 (dk_at dksX8_land_11 3 rfl rfl)
theorem dX8_land_261 : decode cX8_land 261 = .ok (.invokevirtual 29, 3) := dk_182 0 29 (dk_at dksX8_land_11 4 rfl rfl)
theorem dX8_land_264 : decode cX8_land 264 = .ok (.aload_n 0, 1) := dk_42 (dk_at dksX8_land_11 7 rfl rfl)
theorem dX8_land_265 : decode cX8_land 265 = .ok (.aload_n 1, 1) := dk_43 (dk_at dksX8_land_11 8 rfl rfl)
theorem dX8_land_266 : decode cX8_land 266 = .ok (.invokevirtual 174, 3) := dk_182 0 174 (dk_at dksX8_land_11 9 rfl rfl)
theorem dX8_land_269 : decode cX8_land 269 = .ok (.goto 103, 3) := dk_167 0 103 (dk_at dksX8_land_11 12 rfl rfl)
theorem dX8_land_272 : decode cX8_land 272 = .ok (.aload_n 0, 1) := dk_42 (dk_at dksX8_land_11 15 rfl rfl)
theorem dX8_land_273 : decode cX8_land 273 = .ok (.ldc 176, 2) := dk_18 176 (dk_at dksX8_land_11 16 rfl rfl)
theorem dX8_land_275 : decode cX8_land 275 = .ok (.iconst 0, 1) := dk_3 (dk_at dksX8_land_11 18 rfl rfl)
theorem dX8_land_276 : decode cX8_land 276 = .ok (.invokevirtual 178, 3) := dk_182 0 178 (dk_at dksX8_land_11 19 rfl rfl)
theorem dX8_land_279 : decode cX8_land 279 = .ok (.ifCond .eq 17, 3) := dk_153 0 17 (dk_at dksX8_land_12 0 rfl rfl)
theorem dX8_land_282 : decode cX8_land 282 = .ok (.aload_n 1, 1) := dk_43 (dk_at dksX8_land_12 3 rfl rfl)
theorem dX8_land_283 : decode cX8_land 283 = .ok (.aload_n 0, 1) := dk_42 (dk_at dksX8_land_12 4 rfl rfl)
theorem dX8_land_284 : decode cX8_land 284 = .ok (.iconst 0, 1) := dk_3 (dk_at dksX8_land_12 5 rfl rfl)
theorem dX8_land_285 : decode cX8_land 285 = .ok (.bipush 9, 2) := dk_16 9 (dk_at dksX8_land_12 6 rfl rfl)
theorem dX8_land_287 : decode cX8_land 287 = .ok (.invokevirtual 136, 3) := dk_182 0 136 (dk_at dksX8_land_12 8 rfl rfl)
theorem dX8_land_290 : decode cX8_land 290 = .ok (.putfield 182, 3) := dk_181 0 182 (dk_at dksX8_land_12 11 rfl rfl)
theorem dX8_land_293 : decode cX8_land 293 = .ok (.goto 79, 3) := dk_167 0 79 (dk_at dksX8_land_12 14 rfl rfl)
theorem dX8_land_296 : decode cX8_land 296 = .ok (.aload_n 0, 1) := dk_42 (dk_at dksX8_land_12 17 rfl rfl)
theorem dX8_land_297 : decode cX8_land 297 = .ok (.ldc 184, 2) := dk_18 184 (dk_at dksX8_land_12 18 rfl rfl)
theorem dX8_land_299 : decode cX8_land 299 = .ok (.iconst 1, 1) := dk_4 (dk_at dksX8_land_12 20 rfl rfl)
theorem dX8_land_300 : decode cX8_land 300 = .ok (.invokevirtual 178, 3) := dk_182 0 178 (dk_at dksX8_land_12 21 rfl rfl)
theorem dX8_land_303 : decode cX8_land 303 = .ok (.ifCond .eq 17, 3) := dk_153 0 17 (dk_at dksX8_land_13 0 rfl rfl)
theorem dX8_land_306 : decode cX8_land 306 = .ok (.aload_n 1, 1) := dk_43 (dk_at dksX8_land_13 3 rfl rfl)
theorem dX8_land_307 : decode cX8_land 307 = .ok (.aload_n 0, 1) := dk_42 (dk_at dksX8_land_13 4 rfl rfl)
theorem dX8_land_308 : decode cX8_land 308 = .ok (.iconst 1, 1) := dk_4 (dk_at dksX8_land_13 5 rfl rfl)
theorem dX8_land_309 : decode cX8_land 309 = .ok (.bipush 9, 2) := dk_16 9 (dk_at dksX8_land_13 6 rfl rfl)
theorem dX8_land_311 : decode cX8_land 311 = .ok (.invokevirtual 136, 3) := dk_182 0 136 (dk_at dksX8_land_13 8 rfl rfl)
theorem dX8_land_314 : decode cX8_land 314 = .ok (.putfield 186, 3) := dk_181 0 186 (dk_at dksX8_land_13 11 rfl rfl)
theorem dX8_land_317 : decode cX8_land 317 = .ok (.goto 55, 3) := dk_167 0 55 (dk_at dksX8_land_13 14 rfl rfl)
theorem dX8_land_320 : decode cX8_land 320 = .ok (.aload_n 0, 1) := dk_42 (dk_at dksX8_land_13 17 rfl rfl)
theorem dX8_land_321 : decode cX8_land 321 = .ok (.ldc 188, 2) := dk_18 188 (dk_at dksX8_land_13 18 rfl rfl)
theorem dX8_land_323 : decode cX8_land 323 = .ok (.iconst 2, 1) := dk_5 (dk_at dksX8_land_13 20 rfl rfl)
theorem dX8_land_324 : decode cX8_land 324 = .ok (.invokevirtual 178, 3) := dk_182 0 178 (dk_at dksX8_land_13 21 rfl rfl)
theorem dX8_land_327 : decode cX8_land 327 = .ok (.ifCond .eq 17, 3) := dk_153 0 17 (dk_at dksX8_land_14 0 rfl rfl)
theorem dX8_land_330 : decode cX8_land 330 = .ok (.aload_n 1, 1) := dk_43 (dk_at dksX8_land_14 3 rfl rfl)
theorem dX8_land_331 : decode cX8_land 331 = .ok (.aload_n 0, 1) := dk_42 (dk_at dksX8_land_14 4 rfl rfl)
theorem dX8_land_332 : decode cX8_land 332 = .ok (.iconst 0, 1) := dk_3 (dk_at dksX8_land_14 5 rfl rfl)
theorem dX8_land_333 : decode cX8_land 333 = .ok (.bipush 99, 2) := dk_16 99 (dk_at dksX8_land_14 6 rfl rfl)
theorem dX8_land_335 : decode cX8_land 335 = .ok (.invokevirtual 136, 3) := dk_182 0 136 (dk_at dksX8_land_14 8 rfl rfl)
theorem dX8_land_338 : decode cX8_land 338 = .ok (.putfield 190, 3) := dk_181 0 190 (dk_at dksX8_land_14 11 rfl rfl)
theorem dX8_land_341 : decode cX8_land 341 = .ok (.goto 31, 3) := dk_167 0 31 (dk_at dksX8_land_14 14 rfl rfl)
theorem dX8_land_344 : decode cX8_land 344 = .ok (.aload_n 0, 1) := dk_42 (dk_at dksX8_land_14 17 rfl rfl)
theorem dX8_land_345 : decode cX8_land 345 = .ok (.ldc 192, 2) := dk_18 192 (dk_at dksX8_land_14 18 rfl rfl)
theorem dX8_land_347 : decode cX8_land 347 = .ok (.iconst 3, 1) := dk_6 (dk_at dksX8_land_14 20 rfl rfl)
theorem dX8_land_348 : decode cX8_land 348 = .ok (.invokevirtual 178, 3) := dk_182 0 178 (dk_at dksX8_land_14 21 rfl rfl)
theorem dX8_land_351 : decode cX8_land 351 = .ok (.ifCond .eq 15, 3) := dk_153 0 15 (dk_at dksX8_land_15 0 rfl rfl)
theorem dX8_land_354 : decode cX8_land 354 = .ok (.aload_n 1, 1) := dk_43 (dk_at dksX8_land_15 3 rfl rfl)
theorem dX8_land_355 : decode cX8_land 355 = .ok (.aload_n 0, 1) := dk_42 (dk_at dksX8_land_15 4 rfl rfl)
theorem dX8_land_356 : decode cX8_land 356 = .ok (.iconst 0, 1) := dk_3 (dk_at dksX8_land_15 5 rfl rfl)
theorem dX8_land_357 : decode cX8_land 357 = .ok (.invokevirtual 194, 3) := dk_182 0 194 (dk_at dksX8_land_15 6 rfl rfl)
theorem dX8_land_360 : decode cX8_land 360 = .ok (.putfield 198, 3) := dk_181 0 198 (dk_at dksX8_land_15 9 rfl rfl)
theorem dX8_land_363 : decode cX8_land 363 = .ok (.goto 9, 3) := dk_167 0 9 (dk_at dksX8_land_15 12 rfl rfl)
theorem dX8_land_366 : decode cX8_land 366 = .ok (.aload_n 0, 1) := dk_42 (dk_at dksX8_land_15 15 rfl rfl)
theorem dX8_land_367 : decode cX8_land 367 = .ok (.iconst 0, 1) := dk_3 (dk_at dksX8_land_15 16 rfl rfl)
theorem dX8_land_368 : decode cX8_land 368 = .ok (.iconst 1, 1) := dk_4 (dk_at dksX8_land_15 17 rfl rfl)
theorem dX8_land_369 : decode cX8_land 369 = .ok (.invokevirtual 116, 3) := dk_182 0 116 (dk_at dksX8_land_15 18 rfl rfl)
theorem dX8_land_372 : decode cX8_land 372 = .ok (.aload_n 0, 1) := dk_42 (dk_at dksX8_land_15 21 rfl rfl)
theorem dX8_land_373 : decode cX8_land 373 = .ok (.ldc 201, 2) := dk_18 201 (dk_at dksX8_land_15 22 rfl rfl)
theorem dX8_land_375 : decode cX8_land 375 = .ok (.invokevirtual 203, 3) := dk_182 0 203 (dk_at dksX8_land_16 0 rfl rfl)
theorem dX8_land_378 : decode cX8_land 378 = .ok (.goto (-370), 3) := dk_167 254 142 (dk_at dksX8_land_16 3 rfl rfl)
theorem dX8_land_381 : decode cX8_land 381 = .ok (.aload_n 1, 1) := dk_43 (dk_at dksX8_land_16 6 rfl rfl)
theorem dX8_land_382 : decode cX8_land 382 = .ok (.invokevirtual 207, 3) := dk_182 0 207 (dk_at dksX8_land_16 7 rfl rfl)
theorem dX8_land_385 : decode cX8_land 385 = .ok (.aload_n 1, 1) := dk_43 (dk_at dksX8_land_16 10 rfl rfl)
theorem dX8_land_386 : decode cX8_land 386 = .ok (.areturn, 1) := dk_176 (dk_at dksX8_land_16 11 rfl rfl)
abbrev cX8_is : ByteArray := prog_10_method_7_code
def yX8_is : MethodName := ⟨RX8, "is", "(Ljava/lang/String;)Z"⟩
def dkwX8_is_1 : List UInt8 := [43, 182, 0, 103, 153, 0, 7, 4, 167, 0, 4, 3, 172]
abbrev dktX8_is_1 : List UInt8 := dkwX8_is_1 ++ []
def dkwX8_is_0 : List UInt8 := [42, 180, 0, 52, 178, 0, 76, 165, 0, 13, 42, 180, 0, 52, 178, 0, 91, 166, 0, 18, 42, 180, 0, 11]
abbrev dktX8_is_0 : List UInt8 := dkwX8_is_0 ++ dktX8_is_1
theorem dksX8_is_0 : cX8_is.data.toList.drop 0 = dktX8_is_0 := by decide +kernel
theorem dksX8_is_1 : cX8_is.data.toList.drop 24 = dktX8_is_1 := dk_seg dksX8_is_0 24 rfl rfl
theorem dX8_is_0 : decode cX8_is 0 = .ok (.aload_n 0, 1) := dk_42 (dk_at dksX8_is_0 0 rfl rfl)
theorem dX8_is_1 : decode cX8_is 1 = .ok (.getfield 52, 3) := dk_180 0 52 (dk_at dksX8_is_0 1 rfl rfl)
theorem dX8_is_4 : decode cX8_is 4 = .ok (.getstatic 76, 3) := dk_178 0 76 (dk_at dksX8_is_0 4 rfl rfl)
theorem dX8_is_7 : decode cX8_is 7 = .ok (.if_acmp .eq 13, 3) := dk_165 0 13 (dk_at dksX8_is_0 7 rfl rfl)
theorem dX8_is_10 : decode cX8_is 10 = .ok (.aload_n 0, 1) := dk_42 (dk_at dksX8_is_0 10 rfl rfl)
theorem dX8_is_11 : decode cX8_is 11 = .ok (.getfield 52, 3) := dk_180 0 52 (dk_at dksX8_is_0 11 rfl rfl)
theorem dX8_is_14 : decode cX8_is 14 = .ok (.getstatic 91, 3) := dk_178 0 91 (dk_at dksX8_is_0 14 rfl rfl)
theorem dX8_is_17 : decode cX8_is 17 = .ok (.if_acmp .ne 18, 3) := dk_166 0 18 (dk_at dksX8_is_0 17 rfl rfl)
theorem dX8_is_20 : decode cX8_is 20 = .ok (.aload_n 0, 1) := dk_42 (dk_at dksX8_is_0 20 rfl rfl)
theorem dX8_is_21 : decode cX8_is 21 = .ok (.getfield 11, 3) := dk_180 0 11 (dk_at dksX8_is_0 21 rfl rfl)
theorem dX8_is_24 : decode cX8_is 24 = .ok (.aload_n 1, 1) := dk_43 (dk_at dksX8_is_1 0 rfl rfl)
theorem dX8_is_25 : decode cX8_is 25 = .ok (.invokevirtual 103, 3) := dk_182 0 103 (dk_at dksX8_is_1 1 rfl rfl)
theorem dX8_is_28 : decode cX8_is 28 = .ok (.ifCond .eq 7, 3) := dk_153 0 7 (dk_at dksX8_is_1 4 rfl rfl)
theorem dX8_is_31 : decode cX8_is 31 = .ok (.iconst 1, 1) := dk_4 (dk_at dksX8_is_1 7 rfl rfl)
theorem dX8_is_32 : decode cX8_is 32 = .ok (.goto 4, 3) := dk_167 0 4 (dk_at dksX8_is_1 8 rfl rfl)
theorem dX8_is_35 : decode cX8_is 35 = .ok (.iconst 0, 1) := dk_3 (dk_at dksX8_is_1 11 rfl rfl)
theorem dX8_is_36 : decode cX8_is 36 = .ok (.ireturn, 1) := dk_172 (dk_at dksX8_is_1 12 rfl rfl)
abbrev cX8_check : ByteArray := prog_10_method_8_code
def yX8_check : MethodName := ⟨RX8, "check", "(ZI)V"⟩
def dkwX8_check_0 : List UInt8 := [27, 154, 0, 16, 187, 0, 107, 89, 28, 42, 180, 0, 39, 183, 0, 109, 191, 177]
abbrev dktX8_check_0 : List UInt8 := dkwX8_check_0 ++ []
theorem dksX8_check_0 : cX8_check.data.toList.drop 0 = dktX8_check_0 := by decide +kernel
theorem dX8_check_0 : decode cX8_check 0 = .ok (.iload_n 1, 1) := dk_27 (dk_at dksX8_check_0 0 rfl rfl)
theorem dX8_check_1 : decode cX8_check 1 = .ok (.ifCond .ne 16, 3) := dk_154 0 16 (dk_at dksX8_check_0 1 rfl rfl)
theorem dX8_check_4 : decode cX8_check 4 = .ok (.new 107, 3) := dk_187 0 107 (dk_at dksX8_check_0 4 rfl rfl)
theorem dX8_check_7 : decode cX8_check 7 = .ok (.dup, 1) := dk_89 (dk_at dksX8_check_0 7 rfl rfl)
theorem dX8_check_8 : decode cX8_check 8 = .ok (.iload_n 2, 1) := dk_28 (dk_at dksX8_check_0 8 rfl rfl)
theorem dX8_check_9 : decode cX8_check 9 = .ok (.aload_n 0, 1) := dk_42 (dk_at dksX8_check_0 9 rfl rfl)
theorem dX8_check_10 : decode cX8_check 10 = .ok (.getfield 39, 3) := dk_180 0 39 (dk_at dksX8_check_0 10 rfl rfl)
theorem dX8_check_13 : decode cX8_check 13 = .ok (.invokespecial 109, 3) := dk_183 0 109 (dk_at dksX8_check_0 13 rfl rfl)
theorem dX8_check_16 : decode cX8_check 16 = .ok (.athrow, 1) := dk_191 (dk_at dksX8_check_0 16 rfl rfl)
theorem dX8_check_17 : decode cX8_check 17 = .ok (.return_, 1) := dk_177 (dk_at dksX8_check_0 17 rfl rfl)
abbrev cX8_number : ByteArray := prog_10_method_10_code
def yX8_number : MethodName := ⟨RX8, "number", "(II)I"⟩
def dkwX8_number_2 : List UInt8 := [167, 0, 4, 3, 5, 182, 0, 116, 42, 180, 0, 82, 62, 42, 182, 0, 29, 29, 172]
abbrev dktX8_number_2 : List UInt8 := dkwX8_number_2 ++ []
def dkwX8_number_1 : List UInt8 := [180, 0, 42, 154, 0, 23, 42, 180, 0, 82, 27, 161, 0, 15, 42, 180, 0, 82, 28, 163, 0, 7, 4]
abbrev dktX8_number_1 : List UInt8 := dkwX8_number_1 ++ dktX8_number_2
def dkwX8_number_0 : List UInt8 := [42, 42, 180, 0, 52, 178, 0, 85, 166, 0, 7, 4, 167, 0, 4, 3, 4, 182, 0, 116, 42, 42]
abbrev dktX8_number_0 : List UInt8 := dkwX8_number_0 ++ dktX8_number_1
theorem dksX8_number_0 : cX8_number.data.toList.drop 0 = dktX8_number_0 := by decide +kernel
theorem dksX8_number_1 : cX8_number.data.toList.drop 22 = dktX8_number_1 := dk_seg dksX8_number_0 22 rfl rfl
theorem dksX8_number_2 : cX8_number.data.toList.drop 45 = dktX8_number_2 := dk_seg dksX8_number_1 23 rfl rfl
theorem dX8_number_0 : decode cX8_number 0 = .ok (.aload_n 0, 1) := dk_42 (dk_at dksX8_number_0 0 rfl rfl)
theorem dX8_number_1 : decode cX8_number 1 = .ok (.aload_n 0, 1) := dk_42 (dk_at dksX8_number_0 1 rfl rfl)
theorem dX8_number_2 : decode cX8_number 2 = .ok (.getfield 52, 3) := dk_180 0 52 (dk_at dksX8_number_0 2 rfl rfl)
theorem dX8_number_5 : decode cX8_number 5 = .ok (.getstatic 85, 3) := dk_178 0 85 (dk_at dksX8_number_0 5 rfl rfl)
theorem dX8_number_8 : decode cX8_number 8 = .ok (.if_acmp .ne 7, 3) := dk_166 0 7 (dk_at dksX8_number_0 8 rfl rfl)
theorem dX8_number_11 : decode cX8_number 11 = .ok (.iconst 1, 1) := dk_4 (dk_at dksX8_number_0 11 rfl rfl)
theorem dX8_number_12 : decode cX8_number 12 = .ok (.goto 4, 3) := dk_167 0 4 (dk_at dksX8_number_0 12 rfl rfl)
theorem dX8_number_15 : decode cX8_number 15 = .ok (.iconst 0, 1) := dk_3 (dk_at dksX8_number_0 15 rfl rfl)
theorem dX8_number_16 : decode cX8_number 16 = .ok (.iconst 1, 1) := dk_4 (dk_at dksX8_number_0 16 rfl rfl)
theorem dX8_number_17 : decode cX8_number 17 = .ok (.invokevirtual 116, 3) := dk_182 0 116 (dk_at dksX8_number_0 17 rfl rfl)
theorem dX8_number_20 : decode cX8_number 20 = .ok (.aload_n 0, 1) := dk_42 (dk_at dksX8_number_0 20 rfl rfl)
theorem dX8_number_21 : decode cX8_number 21 = .ok (.aload_n 0, 1) := dk_42 (dk_at dksX8_number_0 21 rfl rfl)
theorem dX8_number_22 : decode cX8_number 22 = .ok (.getfield 42, 3) := dk_180 0 42 (dk_at dksX8_number_1 0 rfl rfl)
theorem dX8_number_25 : decode cX8_number 25 = .ok (.ifCond .ne 23, 3) := dk_154 0 23 (dk_at dksX8_number_1 3 rfl rfl)
theorem dX8_number_28 : decode cX8_number 28 = .ok (.aload_n 0, 1) := dk_42 (dk_at dksX8_number_1 6 rfl rfl)
theorem dX8_number_29 : decode cX8_number 29 = .ok (.getfield 82, 3) := dk_180 0 82 (dk_at dksX8_number_1 7 rfl rfl)
theorem dX8_number_32 : decode cX8_number 32 = .ok (.iload_n 1, 1) := dk_27 (dk_at dksX8_number_1 10 rfl rfl)
theorem dX8_number_33 : decode cX8_number 33 = .ok (.if_icmp .lt 15, 3) := dk_161 0 15 (dk_at dksX8_number_1 11 rfl rfl)
theorem dX8_number_36 : decode cX8_number 36 = .ok (.aload_n 0, 1) := dk_42 (dk_at dksX8_number_1 14 rfl rfl)
theorem dX8_number_37 : decode cX8_number 37 = .ok (.getfield 82, 3) := dk_180 0 82 (dk_at dksX8_number_1 15 rfl rfl)
theorem dX8_number_40 : decode cX8_number 40 = .ok (.iload_n 2, 1) := dk_28 (dk_at dksX8_number_1 18 rfl rfl)
theorem dX8_number_41 : decode cX8_number 41 = .ok (.if_icmp .gt 7, 3) := dk_163 0 7 (dk_at dksX8_number_1 19 rfl rfl)
theorem dX8_number_44 : decode cX8_number 44 = .ok (.iconst 1, 1) := dk_4 (dk_at dksX8_number_1 22 rfl rfl)
theorem dX8_number_45 : decode cX8_number 45 = .ok (.goto 4, 3) := dk_167 0 4 (dk_at dksX8_number_2 0 rfl rfl)
theorem dX8_number_48 : decode cX8_number 48 = .ok (.iconst 0, 1) := dk_3 (dk_at dksX8_number_2 3 rfl rfl)
theorem dX8_number_49 : decode cX8_number 49 = .ok (.iconst 2, 1) := dk_5 (dk_at dksX8_number_2 4 rfl rfl)
theorem dX8_number_50 : decode cX8_number 50 = .ok (.invokevirtual 116, 3) := dk_182 0 116 (dk_at dksX8_number_2 5 rfl rfl)
theorem dX8_number_53 : decode cX8_number 53 = .ok (.aload_n 0, 1) := dk_42 (dk_at dksX8_number_2 8 rfl rfl)
theorem dX8_number_54 : decode cX8_number 54 = .ok (.getfield 82, 3) := dk_180 0 82 (dk_at dksX8_number_2 9 rfl rfl)
theorem dX8_number_57 : decode cX8_number 57 = .ok (.istore_n 3, 1) := dk_62 (dk_at dksX8_number_2 12 rfl rfl)
theorem dX8_number_58 : decode cX8_number 58 = .ok (.aload_n 0, 1) := dk_42 (dk_at dksX8_number_2 13 rfl rfl)
theorem dX8_number_59 : decode cX8_number 59 = .ok (.invokevirtual 29, 3) := dk_182 0 29 (dk_at dksX8_number_2 14 rfl rfl)
theorem dX8_number_62 : decode cX8_number 62 = .ok (.iload_n 3, 1) := dk_29 (dk_at dksX8_number_2 17 rfl rfl)
theorem dX8_number_63 : decode cX8_number 63 = .ok (.ireturn, 1) := dk_172 (dk_at dksX8_number_2 18 rfl rfl)
abbrev cX8_river : ByteArray := prog_10_method_15_code
def yX8_river : MethodName := ⟨RX8, "river", "(LSableCrown$Land;)V"⟩
def dkwX8_river_4 : List UInt8 := [181, 0, 150, 177]
abbrev dktX8_river_4 : List UInt8 := dkwX8_river_4 ++ []
def dkwX8_river_3 : List UInt8 := [21, 4, 79, 43, 180, 0, 214, 16, 8, 29, 104, 28, 96, 21, 4, 79, 43, 89, 180, 0, 150, 4, 96]
abbrev dktX8_river_3 : List UInt8 := dkwX8_river_3 ++ dktX8_river_4
def dkwX8_river_2 : List UInt8 := [42, 182, 0, 29, 42, 4, 16, 30, 182, 0, 136, 54, 4, 43, 180, 0, 214, 16, 8, 28, 104, 29, 96]
abbrev dktX8_river_2 : List UInt8 := dkwX8_river_2 ++ dktX8_river_3
def dkwX8_river_1 : List UInt8 := [42, 28, 29, 159, 0, 16, 43, 28, 29, 182, 0, 210, 154, 0, 7, 4, 167, 0, 4, 3, 7, 182, 0, 116]
abbrev dktX8_river_1 : List UInt8 := dkwX8_river_1 ++ dktX8_river_2
def dkwX8_river_0 : List UInt8 := [42, 43, 180, 0, 128, 182, 0, 132, 182, 0, 161, 61, 42, 43, 180, 0, 128, 182, 0, 132, 182, 0, 120, 62]
abbrev dktX8_river_0 : List UInt8 := dkwX8_river_0 ++ dktX8_river_1
theorem dksX8_river_0 : cX8_river.data.toList.drop 0 = dktX8_river_0 := by decide +kernel
theorem dksX8_river_1 : cX8_river.data.toList.drop 24 = dktX8_river_1 := dk_seg dksX8_river_0 24 rfl rfl
theorem dksX8_river_2 : cX8_river.data.toList.drop 48 = dktX8_river_2 := dk_seg dksX8_river_1 24 rfl rfl
theorem dksX8_river_3 : cX8_river.data.toList.drop 71 = dktX8_river_3 := dk_seg dksX8_river_2 23 rfl rfl
theorem dksX8_river_4 : cX8_river.data.toList.drop 94 = dktX8_river_4 := dk_seg dksX8_river_3 23 rfl rfl
theorem dX8_river_0 : decode cX8_river 0 = .ok (.aload_n 0, 1) := dk_42 (dk_at dksX8_river_0 0 rfl rfl)
theorem dX8_river_1 : decode cX8_river 1 = .ok (.aload_n 1, 1) := dk_43 (dk_at dksX8_river_0 1 rfl rfl)
theorem dX8_river_2 : decode cX8_river 2 = .ok (.getfield 128, 3) := dk_180 0 128 (dk_at dksX8_river_0 2 rfl rfl)
theorem dX8_river_5 : decode cX8_river 5 = .ok (.invokevirtual 132, 3) := dk_182 0 132 (dk_at dksX8_river_0 5 rfl rfl)
theorem dX8_river_8 : decode cX8_river 8 = .ok (.invokevirtual 161, 3) := dk_182 0 161 (dk_at dksX8_river_0 8 rfl rfl)
theorem dX8_river_11 : decode cX8_river 11 = .ok (.istore_n 2, 1) := dk_61 (dk_at dksX8_river_0 11 rfl rfl)
theorem dX8_river_12 : decode cX8_river 12 = .ok (.aload_n 0, 1) := dk_42 (dk_at dksX8_river_0 12 rfl rfl)
theorem dX8_river_13 : decode cX8_river 13 = .ok (.aload_n 1, 1) := dk_43 (dk_at dksX8_river_0 13 rfl rfl)
theorem dX8_river_14 : decode cX8_river 14 = .ok (.getfield 128, 3) := dk_180 0 128 (dk_at dksX8_river_0 14 rfl rfl)
theorem dX8_river_17 : decode cX8_river 17 = .ok (.invokevirtual 132, 3) := dk_182 0 132 (dk_at dksX8_river_0 17 rfl rfl)
theorem dX8_river_20 : decode cX8_river 20 = .ok (.invokevirtual 120, 3) := dk_182 0 120 (dk_at dksX8_river_0 20 rfl rfl)
theorem dX8_river_23 : decode cX8_river 23 = .ok (.istore_n 3, 1) := dk_62 (dk_at dksX8_river_0 23 rfl rfl)
theorem dX8_river_24 : decode cX8_river 24 = .ok (.aload_n 0, 1) := dk_42 (dk_at dksX8_river_1 0 rfl rfl)
theorem dX8_river_25 : decode cX8_river 25 = .ok (.iload_n 2, 1) := dk_28 (dk_at dksX8_river_1 1 rfl rfl)
theorem dX8_river_26 : decode cX8_river 26 = .ok (.iload_n 3, 1) := dk_29 (dk_at dksX8_river_1 2 rfl rfl)
theorem dX8_river_27 : decode cX8_river 27 = .ok (.if_icmp .eq 16, 3) := dk_159 0 16 (dk_at dksX8_river_1 3 rfl rfl)
theorem dX8_river_30 : decode cX8_river 30 = .ok (.aload_n 1, 1) := dk_43 (dk_at dksX8_river_1 6 rfl rfl)
theorem dX8_river_31 : decode cX8_river 31 = .ok (.iload_n 2, 1) := dk_28 (dk_at dksX8_river_1 7 rfl rfl)
theorem dX8_river_32 : decode cX8_river 32 = .ok (.iload_n 3, 1) := dk_29 (dk_at dksX8_river_1 8 rfl rfl)
theorem dX8_river_33 : decode cX8_river 33 = .ok (.invokevirtual 210, 3) := dk_182 0 210 (dk_at dksX8_river_1 9 rfl rfl)
theorem dX8_river_36 : decode cX8_river 36 = .ok (.ifCond .ne 7, 3) := dk_154 0 7 (dk_at dksX8_river_1 12 rfl rfl)
theorem dX8_river_39 : decode cX8_river 39 = .ok (.iconst 1, 1) := dk_4 (dk_at dksX8_river_1 15 rfl rfl)
theorem dX8_river_40 : decode cX8_river 40 = .ok (.goto 4, 3) := dk_167 0 4 (dk_at dksX8_river_1 16 rfl rfl)
theorem dX8_river_43 : decode cX8_river 43 = .ok (.iconst 0, 1) := dk_3 (dk_at dksX8_river_1 19 rfl rfl)
theorem dX8_river_44 : decode cX8_river 44 = .ok (.iconst 4, 1) := dk_7 (dk_at dksX8_river_1 20 rfl rfl)
theorem dX8_river_45 : decode cX8_river 45 = .ok (.invokevirtual 116, 3) := dk_182 0 116 (dk_at dksX8_river_1 21 rfl rfl)
theorem dX8_river_48 : decode cX8_river 48 = .ok (.aload_n 0, 1) := dk_42 (dk_at dksX8_river_2 0 rfl rfl)
theorem dX8_river_49 : decode cX8_river 49 = .ok (.invokevirtual 29, 3) := dk_182 0 29 (dk_at dksX8_river_2 1 rfl rfl)
theorem dX8_river_52 : decode cX8_river 52 = .ok (.aload_n 0, 1) := dk_42 (dk_at dksX8_river_2 4 rfl rfl)
theorem dX8_river_53 : decode cX8_river 53 = .ok (.iconst 1, 1) := dk_4 (dk_at dksX8_river_2 5 rfl rfl)
theorem dX8_river_54 : decode cX8_river 54 = .ok (.bipush 30, 2) := dk_16 30 (dk_at dksX8_river_2 6 rfl rfl)
theorem dX8_river_56 : decode cX8_river 56 = .ok (.invokevirtual 136, 3) := dk_182 0 136 (dk_at dksX8_river_2 8 rfl rfl)
theorem dX8_river_59 : decode cX8_river 59 = .ok (.istore 4, 2) := dk_54 4 (dk_at dksX8_river_2 11 rfl rfl)
theorem dX8_river_61 : decode cX8_river 61 = .ok (.aload_n 1, 1) := dk_43 (dk_at dksX8_river_2 13 rfl rfl)
theorem dX8_river_62 : decode cX8_river 62 = .ok (.getfield 214, 3) := dk_180 0 214 (dk_at dksX8_river_2 14 rfl rfl)
theorem dX8_river_65 : decode cX8_river 65 = .ok (.bipush 8, 2) := dk_16 8 (dk_at dksX8_river_2 17 rfl rfl)
theorem dX8_river_67 : decode cX8_river 67 = .ok (.iload_n 2, 1) := dk_28 (dk_at dksX8_river_2 19 rfl rfl)
theorem dX8_river_68 : decode cX8_river 68 = .ok (.imul, 1) := dk_104 (dk_at dksX8_river_2 20 rfl rfl)
theorem dX8_river_69 : decode cX8_river 69 = .ok (.iload_n 3, 1) := dk_29 (dk_at dksX8_river_2 21 rfl rfl)
theorem dX8_river_70 : decode cX8_river 70 = .ok (.iadd, 1) := dk_96 (dk_at dksX8_river_2 22 rfl rfl)
theorem dX8_river_71 : decode cX8_river 71 = .ok (.iload 4, 2) := dk_21 4 (dk_at dksX8_river_3 0 rfl rfl)
theorem dX8_river_73 : decode cX8_river 73 = .ok (.iastore, 1) := dk_79 (dk_at dksX8_river_3 2 rfl rfl)
theorem dX8_river_74 : decode cX8_river 74 = .ok (.aload_n 1, 1) := dk_43 (dk_at dksX8_river_3 3 rfl rfl)
theorem dX8_river_75 : decode cX8_river 75 = .ok (.getfield 214, 3) := dk_180 0 214 (dk_at dksX8_river_3 4 rfl rfl)
theorem dX8_river_78 : decode cX8_river 78 = .ok (.bipush 8, 2) := dk_16 8 (dk_at dksX8_river_3 7 rfl rfl)
theorem dX8_river_80 : decode cX8_river 80 = .ok (.iload_n 3, 1) := dk_29 (dk_at dksX8_river_3 9 rfl rfl)
theorem dX8_river_81 : decode cX8_river 81 = .ok (.imul, 1) := dk_104 (dk_at dksX8_river_3 10 rfl rfl)
theorem dX8_river_82 : decode cX8_river 82 = .ok (.iload_n 2, 1) := dk_28 (dk_at dksX8_river_3 11 rfl rfl)
theorem dX8_river_83 : decode cX8_river 83 = .ok (.iadd, 1) := dk_96 (dk_at dksX8_river_3 12 rfl rfl)
theorem dX8_river_84 : decode cX8_river 84 = .ok (.iload 4, 2) := dk_21 4 (dk_at dksX8_river_3 13 rfl rfl)
theorem dX8_river_86 : decode cX8_river 86 = .ok (.iastore, 1) := dk_79 (dk_at dksX8_river_3 15 rfl rfl)
theorem dX8_river_87 : decode cX8_river 87 = .ok (.aload_n 1, 1) := dk_43 (dk_at dksX8_river_3 16 rfl rfl)
theorem dX8_river_88 : decode cX8_river 88 = .ok (.dup, 1) := dk_89 (dk_at dksX8_river_3 17 rfl rfl)
theorem dX8_river_89 : decode cX8_river 89 = .ok (.getfield 150, 3) := dk_180 0 150 (dk_at dksX8_river_3 18 rfl rfl)
theorem dX8_river_92 : decode cX8_river 92 = .ok (.iconst 1, 1) := dk_4 (dk_at dksX8_river_3 21 rfl rfl)
theorem dX8_river_93 : decode cX8_river 93 = .ok (.iadd, 1) := dk_96 (dk_at dksX8_river_3 22 rfl rfl)
theorem dX8_river_94 : decode cX8_river 94 = .ok (.putfield 150, 3) := dk_181 0 150 (dk_at dksX8_river_4 0 rfl rfl)
theorem dX8_river_97 : decode cX8_river 97 = .ok (.return_, 1) := dk_177 (dk_at dksX8_river_4 3 rfl rfl)
abbrev cX8_among : ByteArray := prog_10_method_13_code
def yX8_among : MethodName := ⟨RX8, "among", "(I)I"⟩
def dkwX8_among_0 : List UInt8 := [42, 27, 182, 0, 120, 61, 42, 182, 0, 29, 28, 172]
abbrev dktX8_among_0 : List UInt8 := dkwX8_among_0 ++ []
theorem dksX8_among_0 : cX8_among.data.toList.drop 0 = dktX8_among_0 := by decide +kernel
theorem dX8_among_0 : decode cX8_among 0 = .ok (.aload_n 0, 1) := dk_42 (dk_at dksX8_among_0 0 rfl rfl)
theorem dX8_among_1 : decode cX8_among 1 = .ok (.iload_n 1, 1) := dk_27 (dk_at dksX8_among_0 1 rfl rfl)
theorem dX8_among_2 : decode cX8_among 2 = .ok (.invokevirtual 120, 3) := dk_182 0 120 (dk_at dksX8_among_0 2 rfl rfl)
theorem dX8_among_5 : decode cX8_among 5 = .ok (.istore_n 2, 1) := dk_61 (dk_at dksX8_among_0 5 rfl rfl)
theorem dX8_among_6 : decode cX8_among 6 = .ok (.aload_n 0, 1) := dk_42 (dk_at dksX8_among_0 6 rfl rfl)
theorem dX8_among_7 : decode cX8_among 7 = .ok (.invokevirtual 29, 3) := dk_182 0 29 (dk_at dksX8_among_0 7 rfl rfl)
theorem dX8_among_10 : decode cX8_among 10 = .ok (.iload_n 2, 1) := dk_28 (dk_at dksX8_among_0 10 rfl rfl)
theorem dX8_among_11 : decode cX8_among 11 = .ok (.ireturn, 1) := dk_172 (dk_at dksX8_among_0 11 rfl rfl)
abbrev cX8_amongHere : ByteArray := prog_10_method_12_code
def yX8_amongHere : MethodName := ⟨RX8, "amongHere", "(I)I"⟩
def dkwX8_amongHere_2 : List UInt8 := [4, 167, 0, 4, 3, 6, 182, 0, 116, 42, 180, 0, 82, 172]
abbrev dktX8_amongHere_2 : List UInt8 := dkwX8_amongHere_2 ++ []
def dkwX8_amongHere_1 : List UInt8 := [180, 0, 42, 154, 0, 7, 4, 167, 0, 4, 3, 5, 182, 0, 116, 42, 42, 180, 0, 82, 27, 162, 0, 7]
abbrev dktX8_amongHere_1 : List UInt8 := dkwX8_amongHere_1 ++ dktX8_amongHere_2
def dkwX8_amongHere_0 : List UInt8 := [42, 42, 180, 0, 52, 178, 0, 85, 166, 0, 7, 4, 167, 0, 4, 3, 4, 182, 0, 116, 42, 42]
abbrev dktX8_amongHere_0 : List UInt8 := dkwX8_amongHere_0 ++ dktX8_amongHere_1
theorem dksX8_amongHere_0 : cX8_amongHere.data.toList.drop 0 = dktX8_amongHere_0 := by decide +kernel
theorem dksX8_amongHere_1 : cX8_amongHere.data.toList.drop 22 = dktX8_amongHere_1 := dk_seg dksX8_amongHere_0 22 rfl rfl
theorem dksX8_amongHere_2 : cX8_amongHere.data.toList.drop 46 = dktX8_amongHere_2 := dk_seg dksX8_amongHere_1 24 rfl rfl
theorem dX8_amongHere_0 : decode cX8_amongHere 0 = .ok (.aload_n 0, 1) := dk_42 (dk_at dksX8_amongHere_0 0 rfl rfl)
theorem dX8_amongHere_1 : decode cX8_amongHere 1 = .ok (.aload_n 0, 1) := dk_42 (dk_at dksX8_amongHere_0 1 rfl rfl)
theorem dX8_amongHere_2 : decode cX8_amongHere 2 = .ok (.getfield 52, 3) := dk_180 0 52 (dk_at dksX8_amongHere_0 2 rfl rfl)
theorem dX8_amongHere_5 : decode cX8_amongHere 5 = .ok (.getstatic 85, 3) := dk_178 0 85 (dk_at dksX8_amongHere_0 5 rfl rfl)
theorem dX8_amongHere_8 : decode cX8_amongHere 8 = .ok (.if_acmp .ne 7, 3) := dk_166 0 7 (dk_at dksX8_amongHere_0 8 rfl rfl)
theorem dX8_amongHere_11 : decode cX8_amongHere 11 = .ok (.iconst 1, 1) := dk_4 (dk_at dksX8_amongHere_0 11 rfl rfl)
theorem dX8_amongHere_12 : decode cX8_amongHere 12 = .ok (.goto 4, 3) := dk_167 0 4 (dk_at dksX8_amongHere_0 12 rfl rfl)
theorem dX8_amongHere_15 : decode cX8_amongHere 15 = .ok (.iconst 0, 1) := dk_3 (dk_at dksX8_amongHere_0 15 rfl rfl)
theorem dX8_amongHere_16 : decode cX8_amongHere 16 = .ok (.iconst 1, 1) := dk_4 (dk_at dksX8_amongHere_0 16 rfl rfl)
theorem dX8_amongHere_17 : decode cX8_amongHere 17 = .ok (.invokevirtual 116, 3) := dk_182 0 116 (dk_at dksX8_amongHere_0 17 rfl rfl)
theorem dX8_amongHere_20 : decode cX8_amongHere 20 = .ok (.aload_n 0, 1) := dk_42 (dk_at dksX8_amongHere_0 20 rfl rfl)
theorem dX8_amongHere_21 : decode cX8_amongHere 21 = .ok (.aload_n 0, 1) := dk_42 (dk_at dksX8_amongHere_0 21 rfl rfl)
theorem dX8_amongHere_22 : decode cX8_amongHere 22 = .ok (.getfield 42, 3) := dk_180 0 42 (dk_at dksX8_amongHere_1 0 rfl rfl)
theorem dX8_amongHere_25 : decode cX8_amongHere 25 = .ok (.ifCond .ne 7, 3) := dk_154 0 7 (dk_at dksX8_amongHere_1 3 rfl rfl)
theorem dX8_amongHere_28 : decode cX8_amongHere 28 = .ok (.iconst 1, 1) := dk_4 (dk_at dksX8_amongHere_1 6 rfl rfl)
theorem dX8_amongHere_29 : decode cX8_amongHere 29 = .ok (.goto 4, 3) := dk_167 0 4 (dk_at dksX8_amongHere_1 7 rfl rfl)
theorem dX8_amongHere_32 : decode cX8_amongHere 32 = .ok (.iconst 0, 1) := dk_3 (dk_at dksX8_amongHere_1 10 rfl rfl)
theorem dX8_amongHere_33 : decode cX8_amongHere 33 = .ok (.iconst 2, 1) := dk_5 (dk_at dksX8_amongHere_1 11 rfl rfl)
theorem dX8_amongHere_34 : decode cX8_amongHere 34 = .ok (.invokevirtual 116, 3) := dk_182 0 116 (dk_at dksX8_amongHere_1 12 rfl rfl)
theorem dX8_amongHere_37 : decode cX8_amongHere 37 = .ok (.aload_n 0, 1) := dk_42 (dk_at dksX8_amongHere_1 15 rfl rfl)
theorem dX8_amongHere_38 : decode cX8_amongHere 38 = .ok (.aload_n 0, 1) := dk_42 (dk_at dksX8_amongHere_1 16 rfl rfl)
theorem dX8_amongHere_39 : decode cX8_amongHere 39 = .ok (.getfield 82, 3) := dk_180 0 82 (dk_at dksX8_amongHere_1 17 rfl rfl)
theorem dX8_amongHere_42 : decode cX8_amongHere 42 = .ok (.iload_n 1, 1) := dk_27 (dk_at dksX8_amongHere_1 20 rfl rfl)
theorem dX8_amongHere_43 : decode cX8_amongHere 43 = .ok (.if_icmp .ge 7, 3) := dk_162 0 7 (dk_at dksX8_amongHere_1 21 rfl rfl)
theorem dX8_amongHere_46 : decode cX8_amongHere 46 = .ok (.iconst 1, 1) := dk_4 (dk_at dksX8_amongHere_2 0 rfl rfl)
theorem dX8_amongHere_47 : decode cX8_amongHere 47 = .ok (.goto 4, 3) := dk_167 0 4 (dk_at dksX8_amongHere_2 1 rfl rfl)
theorem dX8_amongHere_50 : decode cX8_amongHere 50 = .ok (.iconst 0, 1) := dk_3 (dk_at dksX8_amongHere_2 4 rfl rfl)
theorem dX8_amongHere_51 : decode cX8_amongHere 51 = .ok (.iconst 3, 1) := dk_6 (dk_at dksX8_amongHere_2 5 rfl rfl)
theorem dX8_amongHere_52 : decode cX8_amongHere 52 = .ok (.invokevirtual 116, 3) := dk_182 0 116 (dk_at dksX8_amongHere_2 6 rfl rfl)
theorem dX8_amongHere_55 : decode cX8_amongHere 55 = .ok (.aload_n 0, 1) := dk_42 (dk_at dksX8_amongHere_2 9 rfl rfl)
theorem dX8_amongHere_56 : decode cX8_amongHere 56 = .ok (.getfield 82, 3) := dk_180 0 82 (dk_at dksX8_amongHere_2 10 rfl rfl)
theorem dX8_amongHere_59 : decode cX8_amongHere 59 = .ok (.ireturn, 1) := dk_172 (dk_at dksX8_amongHere_2 13 rfl rfl)
abbrev cX8_fort : ByteArray := prog_10_method_16_code
def yX8_fort : MethodName := ⟨RX8, "fort", "(LSableCrown$Land;)V"⟩
def dkwX8_fort_3 : List UInt8 := [184, 0, 227, 182, 0, 145, 87, 177]
abbrev dktX8_fort_3 : List UInt8 := dkwX8_fort_3 ++ []
def dkwX8_fort_2 : List UInt8 := [167, 0, 4, 3, 7, 182, 0, 116, 132, 3, 1, 167, 255, 214, 42, 182, 0, 29, 43, 180, 0, 171, 28]
abbrev dktX8_fort_2 : List UInt8 := dkwX8_fort_2 ++ dktX8_fort_3
def dkwX8_fort_1 : List UInt8 := [162, 0, 37, 42, 43, 180, 0, 171, 29, 182, 0, 218, 192, 0, 222, 182, 0, 224, 28, 159, 0, 7, 4]
abbrev dktX8_fort_1 : List UInt8 := dkwX8_fort_1 ++ dktX8_fort_2
def dkwX8_fort_0 : List UInt8 := [42, 43, 180, 0, 128, 182, 0, 132, 182, 0, 120, 61, 3, 62, 29, 43, 180, 0, 171, 182, 0, 132]
abbrev dktX8_fort_0 : List UInt8 := dkwX8_fort_0 ++ dktX8_fort_1
theorem dksX8_fort_0 : cX8_fort.data.toList.drop 0 = dktX8_fort_0 := by decide +kernel
theorem dksX8_fort_1 : cX8_fort.data.toList.drop 22 = dktX8_fort_1 := dk_seg dksX8_fort_0 22 rfl rfl
theorem dksX8_fort_2 : cX8_fort.data.toList.drop 45 = dktX8_fort_2 := dk_seg dksX8_fort_1 23 rfl rfl
theorem dksX8_fort_3 : cX8_fort.data.toList.drop 68 = dktX8_fort_3 := dk_seg dksX8_fort_2 23 rfl rfl
theorem dX8_fort_0 : decode cX8_fort 0 = .ok (.aload_n 0, 1) := dk_42 (dk_at dksX8_fort_0 0 rfl rfl)
theorem dX8_fort_1 : decode cX8_fort 1 = .ok (.aload_n 1, 1) := dk_43 (dk_at dksX8_fort_0 1 rfl rfl)
theorem dX8_fort_2 : decode cX8_fort 2 = .ok (.getfield 128, 3) := dk_180 0 128 (dk_at dksX8_fort_0 2 rfl rfl)
theorem dX8_fort_5 : decode cX8_fort 5 = .ok (.invokevirtual 132, 3) := dk_182 0 132 (dk_at dksX8_fort_0 5 rfl rfl)
theorem dX8_fort_8 : decode cX8_fort 8 = .ok (.invokevirtual 120, 3) := dk_182 0 120 (dk_at dksX8_fort_0 8 rfl rfl)
theorem dX8_fort_11 : decode cX8_fort 11 = .ok (.istore_n 2, 1) := dk_61 (dk_at dksX8_fort_0 11 rfl rfl)
theorem dX8_fort_12 : decode cX8_fort 12 = .ok (.iconst 0, 1) := dk_3 (dk_at dksX8_fort_0 12 rfl rfl)
theorem dX8_fort_13 : decode cX8_fort 13 = .ok (.istore_n 3, 1) := dk_62 (dk_at dksX8_fort_0 13 rfl rfl)
theorem dX8_fort_14 : decode cX8_fort 14 = .ok (.iload_n 3, 1) := dk_29 (dk_at dksX8_fort_0 14 rfl rfl)
theorem dX8_fort_15 : decode cX8_fort 15 = .ok (.aload_n 1, 1) := dk_43 (dk_at dksX8_fort_0 15 rfl rfl)
theorem dX8_fort_16 : decode cX8_fort 16 = .ok (.getfield 171, 3) := dk_180 0 171 (dk_at dksX8_fort_0 16 rfl rfl)
theorem dX8_fort_19 : decode cX8_fort 19 = .ok (.invokevirtual 132, 3) := dk_182 0 132 (dk_at dksX8_fort_0 19 rfl rfl)
theorem dX8_fort_22 : decode cX8_fort 22 = .ok (.if_icmp .ge 37, 3) := dk_162 0 37 (dk_at dksX8_fort_1 0 rfl rfl)
theorem dX8_fort_25 : decode cX8_fort 25 = .ok (.aload_n 0, 1) := dk_42 (dk_at dksX8_fort_1 3 rfl rfl)
theorem dX8_fort_26 : decode cX8_fort 26 = .ok (.aload_n 1, 1) := dk_43 (dk_at dksX8_fort_1 4 rfl rfl)
theorem dX8_fort_27 : decode cX8_fort 27 = .ok (.getfield 171, 3) := dk_180 0 171 (dk_at dksX8_fort_1 5 rfl rfl)
theorem dX8_fort_30 : decode cX8_fort 30 = .ok (.iload_n 3, 1) := dk_29 (dk_at dksX8_fort_1 8 rfl rfl)
theorem dX8_fort_31 : decode cX8_fort 31 = .ok (.invokevirtual 218, 3) := dk_182 0 218 (dk_at dksX8_fort_1 9 rfl rfl)
theorem dX8_fort_34 : decode cX8_fort 34 = .ok (.checkcast 222, 3) := dk_192 0 222 (dk_at dksX8_fort_1 12 rfl rfl)
theorem dX8_fort_37 : decode cX8_fort 37 = .ok (.invokevirtual 224, 3) := dk_182 0 224 (dk_at dksX8_fort_1 15 rfl rfl)
theorem dX8_fort_40 : decode cX8_fort 40 = .ok (.iload_n 2, 1) := dk_28 (dk_at dksX8_fort_1 18 rfl rfl)
theorem dX8_fort_41 : decode cX8_fort 41 = .ok (.if_icmp .eq 7, 3) := dk_159 0 7 (dk_at dksX8_fort_1 19 rfl rfl)
theorem dX8_fort_44 : decode cX8_fort 44 = .ok (.iconst 1, 1) := dk_4 (dk_at dksX8_fort_1 22 rfl rfl)
theorem dX8_fort_45 : decode cX8_fort 45 = .ok (.goto 4, 3) := dk_167 0 4 (dk_at dksX8_fort_2 0 rfl rfl)
theorem dX8_fort_48 : decode cX8_fort 48 = .ok (.iconst 0, 1) := dk_3 (dk_at dksX8_fort_2 3 rfl rfl)
theorem dX8_fort_49 : decode cX8_fort 49 = .ok (.iconst 4, 1) := dk_7 (dk_at dksX8_fort_2 4 rfl rfl)
theorem dX8_fort_50 : decode cX8_fort 50 = .ok (.invokevirtual 116, 3) := dk_182 0 116 (dk_at dksX8_fort_2 5 rfl rfl)
theorem dX8_fort_53 : decode cX8_fort 53 = .ok (.iinc 3 1, 3) := dk_132 3 1 (dk_at dksX8_fort_2 8 rfl rfl)
theorem dX8_fort_56 : decode cX8_fort 56 = .ok (.goto (-42), 3) := dk_167 255 214 (dk_at dksX8_fort_2 11 rfl rfl)
theorem dX8_fort_59 : decode cX8_fort 59 = .ok (.aload_n 0, 1) := dk_42 (dk_at dksX8_fort_2 14 rfl rfl)
theorem dX8_fort_60 : decode cX8_fort 60 = .ok (.invokevirtual 29, 3) := dk_182 0 29 (dk_at dksX8_fort_2 15 rfl rfl)
theorem dX8_fort_63 : decode cX8_fort 63 = .ok (.aload_n 1, 1) := dk_43 (dk_at dksX8_fort_2 18 rfl rfl)
theorem dX8_fort_64 : decode cX8_fort 64 = .ok (.getfield 171, 3) := dk_180 0 171 (dk_at dksX8_fort_2 19 rfl rfl)
theorem dX8_fort_67 : decode cX8_fort 67 = .ok (.iload_n 2, 1) := dk_28 (dk_at dksX8_fort_2 22 rfl rfl)
theorem dX8_fort_68 : decode cX8_fort 68 = .ok (.invokestatic 227, 3) := dk_184 0 227 (dk_at dksX8_fort_3 0 rfl rfl)
theorem dX8_fort_71 : decode cX8_fort 71 = .ok (.invokevirtual 145, 3) := dk_182 0 145 (dk_at dksX8_fort_3 3 rfl rfl)
theorem dX8_fort_74 : decode cX8_fort 74 = .ok (.pop, 1) := dk_87 (dk_at dksX8_fort_3 6 rfl rfl)
theorem dX8_fort_75 : decode cX8_fort 75 = .ok (.return_, 1) := dk_177 (dk_at dksX8_fort_3 7 rfl rfl)
abbrev cX8_begins : ByteArray := prog_10_method_11_code
def yX8_begins : MethodName := ⟨RX8, "begins", "(Ljava/lang/String;I)Z"⟩
def dkwX8_begins_1 : List UInt8 := [3, 8, 182, 0, 116, 42, 180, 0, 17, 28, 4, 84, 42, 182, 0, 29, 4, 172]
abbrev dktX8_begins_1 : List UInt8 := dkwX8_begins_1 ++ []
def dkwX8_begins_0 : List UInt8 := [42, 43, 182, 0, 112, 154, 0, 5, 3, 172, 42, 42, 180, 0, 17, 28, 51, 154, 0, 7, 4, 167, 0, 4]
abbrev dktX8_begins_0 : List UInt8 := dkwX8_begins_0 ++ dktX8_begins_1
theorem dksX8_begins_0 : cX8_begins.data.toList.drop 0 = dktX8_begins_0 := by decide +kernel
theorem dksX8_begins_1 : cX8_begins.data.toList.drop 24 = dktX8_begins_1 := dk_seg dksX8_begins_0 24 rfl rfl
theorem dX8_begins_0 : decode cX8_begins 0 = .ok (.aload_n 0, 1) := dk_42 (dk_at dksX8_begins_0 0 rfl rfl)
theorem dX8_begins_1 : decode cX8_begins 1 = .ok (.aload_n 1, 1) := dk_43 (dk_at dksX8_begins_0 1 rfl rfl)
theorem dX8_begins_2 : decode cX8_begins 2 = .ok (.invokevirtual 112, 3) := dk_182 0 112 (dk_at dksX8_begins_0 2 rfl rfl)
theorem dX8_begins_5 : decode cX8_begins 5 = .ok (.ifCond .ne 5, 3) := dk_154 0 5 (dk_at dksX8_begins_0 5 rfl rfl)
theorem dX8_begins_8 : decode cX8_begins 8 = .ok (.iconst 0, 1) := dk_3 (dk_at dksX8_begins_0 8 rfl rfl)
theorem dX8_begins_9 : decode cX8_begins 9 = .ok (.ireturn, 1) := dk_172 (dk_at dksX8_begins_0 9 rfl rfl)
theorem dX8_begins_10 : decode cX8_begins 10 = .ok (.aload_n 0, 1) := dk_42 (dk_at dksX8_begins_0 10 rfl rfl)
theorem dX8_begins_11 : decode cX8_begins 11 = .ok (.aload_n 0, 1) := dk_42 (dk_at dksX8_begins_0 11 rfl rfl)
theorem dX8_begins_12 : decode cX8_begins 12 = .ok (.getfield 17, 3) := dk_180 0 17 (dk_at dksX8_begins_0 12 rfl rfl)
theorem dX8_begins_15 : decode cX8_begins 15 = .ok (.iload_n 2, 1) := dk_28 (dk_at dksX8_begins_0 15 rfl rfl)
theorem dX8_begins_16 : decode cX8_begins 16 = .ok (.baload, 1) := dk_51 (dk_at dksX8_begins_0 16 rfl rfl)
theorem dX8_begins_17 : decode cX8_begins 17 = .ok (.ifCond .ne 7, 3) := dk_154 0 7 (dk_at dksX8_begins_0 17 rfl rfl)
theorem dX8_begins_20 : decode cX8_begins 20 = .ok (.iconst 1, 1) := dk_4 (dk_at dksX8_begins_0 20 rfl rfl)
theorem dX8_begins_21 : decode cX8_begins 21 = .ok (.goto 4, 3) := dk_167 0 4 (dk_at dksX8_begins_0 21 rfl rfl)
theorem dX8_begins_24 : decode cX8_begins 24 = .ok (.iconst 0, 1) := dk_3 (dk_at dksX8_begins_1 0 rfl rfl)
theorem dX8_begins_25 : decode cX8_begins 25 = .ok (.iconst 5, 1) := dk_8 (dk_at dksX8_begins_1 1 rfl rfl)
theorem dX8_begins_26 : decode cX8_begins 26 = .ok (.invokevirtual 116, 3) := dk_182 0 116 (dk_at dksX8_begins_1 2 rfl rfl)
theorem dX8_begins_29 : decode cX8_begins 29 = .ok (.aload_n 0, 1) := dk_42 (dk_at dksX8_begins_1 5 rfl rfl)
theorem dX8_begins_30 : decode cX8_begins 30 = .ok (.getfield 17, 3) := dk_180 0 17 (dk_at dksX8_begins_1 6 rfl rfl)
theorem dX8_begins_33 : decode cX8_begins 33 = .ok (.iload_n 2, 1) := dk_28 (dk_at dksX8_begins_1 9 rfl rfl)
theorem dX8_begins_34 : decode cX8_begins 34 = .ok (.iconst 1, 1) := dk_4 (dk_at dksX8_begins_1 10 rfl rfl)
theorem dX8_begins_35 : decode cX8_begins 35 = .ok (.bastore, 1) := dk_84 (dk_at dksX8_begins_1 11 rfl rfl)
theorem dX8_begins_36 : decode cX8_begins 36 = .ok (.aload_n 0, 1) := dk_42 (dk_at dksX8_begins_1 12 rfl rfl)
theorem dX8_begins_37 : decode cX8_begins 37 = .ok (.invokevirtual 29, 3) := dk_182 0 29 (dk_at dksX8_begins_1 13 rfl rfl)
theorem dX8_begins_40 : decode cX8_begins 40 = .ok (.iconst 1, 1) := dk_4 (dk_at dksX8_begins_1 16 rfl rfl)
theorem dX8_begins_41 : decode cX8_begins 41 = .ok (.ireturn, 1) := dk_172 (dk_at dksX8_begins_1 17 rfl rfl)
abbrev cX8_expr : ByteArray := prog_10_method_17_code
def yX8_expr : MethodName := ⟨RX8, "expr", "(I)LSableCrown$Expr;"⟩
def dkwX8_expr_3 : List UInt8 := [42, 27, 182, 0, 232, 183, 0, 239, 77, 167, 255, 227, 44, 176]
abbrev dktX8_expr_3 : List UInt8 := dkwX8_expr_3 ++ []
def dkwX8_expr_2 : List UInt8 := [182, 0, 232, 77, 42, 18, 235, 182, 0, 112, 153, 0, 26, 42, 182, 0, 29, 187, 0, 237, 89, 16, 124, 44]
abbrev dktX8_expr_2 : List UInt8 := dkwX8_expr_2 ++ dktX8_expr_3
def dkwX8_expr_1 : List UInt8 := [165, 0, 16, 42, 18, 230, 182, 0, 112, 154, 0, 7, 4, 167, 0, 4, 3, 5, 182, 0, 116, 42, 27]
abbrev dktX8_expr_1 : List UInt8 := dkwX8_expr_1 ++ dktX8_expr_2
def dkwX8_expr_0 : List UInt8 := [27, 16, 6, 161, 0, 42, 42, 42, 180, 0, 52, 178, 0, 85, 165, 0, 26, 42, 180, 0, 52, 178, 0, 76]
abbrev dktX8_expr_0 : List UInt8 := dkwX8_expr_0 ++ dktX8_expr_1
theorem dksX8_expr_0 : cX8_expr.data.toList.drop 0 = dktX8_expr_0 := by decide +kernel
theorem dksX8_expr_1 : cX8_expr.data.toList.drop 24 = dktX8_expr_1 := dk_seg dksX8_expr_0 24 rfl rfl
theorem dksX8_expr_2 : cX8_expr.data.toList.drop 47 = dktX8_expr_2 := dk_seg dksX8_expr_1 23 rfl rfl
theorem dksX8_expr_3 : cX8_expr.data.toList.drop 71 = dktX8_expr_3 := dk_seg dksX8_expr_2 24 rfl rfl
theorem dX8_expr_0 : decode cX8_expr 0 = .ok (.iload_n 1, 1) := dk_27 (dk_at dksX8_expr_0 0 rfl rfl)
theorem dX8_expr_1 : decode cX8_expr 1 = .ok (.bipush 6, 2) := dk_16 6 (dk_at dksX8_expr_0 1 rfl rfl)
theorem dX8_expr_3 : decode cX8_expr 3 = .ok (.if_icmp .lt 42, 3) := dk_161 0 42 (dk_at dksX8_expr_0 3 rfl rfl)
theorem dX8_expr_6 : decode cX8_expr 6 = .ok (.aload_n 0, 1) := dk_42 (dk_at dksX8_expr_0 6 rfl rfl)
theorem dX8_expr_7 : decode cX8_expr 7 = .ok (.aload_n 0, 1) := dk_42 (dk_at dksX8_expr_0 7 rfl rfl)
theorem dX8_expr_8 : decode cX8_expr 8 = .ok (.getfield 52, 3) := dk_180 0 52 (dk_at dksX8_expr_0 8 rfl rfl)
theorem dX8_expr_11 : decode cX8_expr 11 = .ok (.getstatic 85, 3) := dk_178 0 85 (dk_at dksX8_expr_0 11 rfl rfl)
theorem dX8_expr_14 : decode cX8_expr 14 = .ok (.if_acmp .eq 26, 3) := dk_165 0 26 (dk_at dksX8_expr_0 14 rfl rfl)
theorem dX8_expr_17 : decode cX8_expr 17 = .ok (.aload_n 0, 1) := dk_42 (dk_at dksX8_expr_0 17 rfl rfl)
theorem dX8_expr_18 : decode cX8_expr 18 = .ok (.getfield 52, 3) := dk_180 0 52 (dk_at dksX8_expr_0 18 rfl rfl)
theorem dX8_expr_21 : decode cX8_expr 21 = .ok (.getstatic 76, 3) := dk_178 0 76 (dk_at dksX8_expr_0 21 rfl rfl)
theorem dX8_expr_24 : decode cX8_expr 24 = .ok (.if_acmp .eq 16, 3) := dk_165 0 16 (dk_at dksX8_expr_1 0 rfl rfl)
theorem dX8_expr_27 : decode cX8_expr 27 = .ok (.aload_n 0, 1) := dk_42 (dk_at dksX8_expr_1 3 rfl rfl)
theorem dX8_expr_28 : decode cX8_expr 28 = .ok (.ldc 230, 2) := dk_18 230 (dk_at dksX8_expr_1 4 rfl rfl)
theorem dX8_expr_30 : decode cX8_expr 30 = .ok (.invokevirtual 112, 3) := dk_182 0 112 (dk_at dksX8_expr_1 6 rfl rfl)
theorem dX8_expr_33 : decode cX8_expr 33 = .ok (.ifCond .ne 7, 3) := dk_154 0 7 (dk_at dksX8_expr_1 9 rfl rfl)
theorem dX8_expr_36 : decode cX8_expr 36 = .ok (.iconst 1, 1) := dk_4 (dk_at dksX8_expr_1 12 rfl rfl)
theorem dX8_expr_37 : decode cX8_expr 37 = .ok (.goto 4, 3) := dk_167 0 4 (dk_at dksX8_expr_1 13 rfl rfl)
theorem dX8_expr_40 : decode cX8_expr 40 = .ok (.iconst 0, 1) := dk_3 (dk_at dksX8_expr_1 16 rfl rfl)
theorem dX8_expr_41 : decode cX8_expr 41 = .ok (.iconst 2, 1) := dk_5 (dk_at dksX8_expr_1 17 rfl rfl)
theorem dX8_expr_42 : decode cX8_expr 42 = .ok (.invokevirtual 116, 3) := dk_182 0 116 (dk_at dksX8_expr_1 18 rfl rfl)
theorem dX8_expr_45 : decode cX8_expr 45 = .ok (.aload_n 0, 1) := dk_42 (dk_at dksX8_expr_1 21 rfl rfl)
theorem dX8_expr_46 : decode cX8_expr 46 = .ok (.iload_n 1, 1) := dk_27 (dk_at dksX8_expr_1 22 rfl rfl)
theorem dX8_expr_47 : decode cX8_expr 47 = .ok (.invokevirtual 232, 3) := dk_182 0 232 (dk_at dksX8_expr_2 0 rfl rfl)
theorem dX8_expr_50 : decode cX8_expr 50 = .ok (.astore_n 2, 1) := dk_77 (dk_at dksX8_expr_2 3 rfl rfl)
theorem dX8_expr_51 : decode cX8_expr 51 = .ok (.aload_n 0, 1) := dk_42 (dk_at dksX8_expr_2 4 rfl rfl)
theorem dX8_expr_52 : decode cX8_expr 52 = .ok (.ldc 235, 2) := dk_18 235 (dk_at dksX8_expr_2 5 rfl rfl)
theorem dX8_expr_54 : decode cX8_expr 54 = .ok (.invokevirtual 112, 3) := dk_182 0 112 (dk_at dksX8_expr_2 7 rfl rfl)
theorem dX8_expr_57 : decode cX8_expr 57 = .ok (.ifCond .eq 26, 3) := dk_153 0 26 (dk_at dksX8_expr_2 10 rfl rfl)
theorem dX8_expr_60 : decode cX8_expr 60 = .ok (.aload_n 0, 1) := dk_42 (dk_at dksX8_expr_2 13 rfl rfl)
theorem dX8_expr_61 : decode cX8_expr 61 = .ok (.invokevirtual 29, 3) := dk_182 0 29 (dk_at dksX8_expr_2 14 rfl rfl)
theorem dX8_expr_64 : decode cX8_expr 64 = .ok (.new 237, 3) := dk_187 0 237 (dk_at dksX8_expr_2 17 rfl rfl)
theorem dX8_expr_67 : decode cX8_expr 67 = .ok (.dup, 1) := dk_89 (dk_at dksX8_expr_2 20 rfl rfl)
theorem dX8_expr_68 : decode cX8_expr 68 = .ok (.bipush 124, 2) := dk_16 124 (dk_at dksX8_expr_2 21 rfl rfl)
theorem dX8_expr_70 : decode cX8_expr 70 = .ok (.aload_n 2, 1) := dk_44 (dk_at dksX8_expr_2 23 rfl rfl)
theorem dX8_expr_71 : decode cX8_expr 71 = .ok (.aload_n 0, 1) := dk_42 (dk_at dksX8_expr_3 0 rfl rfl)
theorem dX8_expr_72 : decode cX8_expr 72 = .ok (.iload_n 1, 1) := dk_27 (dk_at dksX8_expr_3 1 rfl rfl)
theorem dX8_expr_73 : decode cX8_expr 73 = .ok (.invokevirtual 232, 3) := dk_182 0 232 (dk_at dksX8_expr_3 2 rfl rfl)
theorem dX8_expr_76 : decode cX8_expr 76 = .ok (.invokespecial 239, 3) := dk_183 0 239 (dk_at dksX8_expr_3 5 rfl rfl)
theorem dX8_expr_79 : decode cX8_expr 79 = .ok (.astore_n 2, 1) := dk_77 (dk_at dksX8_expr_3 8 rfl rfl)
theorem dX8_expr_80 : decode cX8_expr 80 = .ok (.goto (-29), 3) := dk_167 255 227 (dk_at dksX8_expr_3 9 rfl rfl)
theorem dX8_expr_83 : decode cX8_expr 83 = .ok (.aload_n 2, 1) := dk_44 (dk_at dksX8_expr_3 12 rfl rfl)
theorem dX8_expr_84 : decode cX8_expr 84 = .ok (.areturn, 1) := dk_176 (dk_at dksX8_expr_3 13 rfl rfl)
abbrev cX8_and : ByteArray := prog_10_method_18_code
def yX8_and : MethodName := ⟨RX8, "and", "(I)LSableCrown$Expr;"⟩
def dkwX8_and_1 : List UInt8 := [16, 38, 44, 42, 27, 182, 0, 242, 183, 0, 239, 77, 167, 255, 227, 44, 176]
abbrev dktX8_and_1 : List UInt8 := dkwX8_and_1 ++ []
def dkwX8_and_0 : List UInt8 := [42, 27, 182, 0, 242, 77, 42, 18, 245, 182, 0, 112, 153, 0, 26, 42, 182, 0, 29, 187, 0, 237, 89]
abbrev dktX8_and_0 : List UInt8 := dkwX8_and_0 ++ dktX8_and_1
theorem dksX8_and_0 : cX8_and.data.toList.drop 0 = dktX8_and_0 := by decide +kernel
theorem dksX8_and_1 : cX8_and.data.toList.drop 23 = dktX8_and_1 := dk_seg dksX8_and_0 23 rfl rfl
theorem dX8_and_0 : decode cX8_and 0 = .ok (.aload_n 0, 1) := dk_42 (dk_at dksX8_and_0 0 rfl rfl)
theorem dX8_and_1 : decode cX8_and 1 = .ok (.iload_n 1, 1) := dk_27 (dk_at dksX8_and_0 1 rfl rfl)
theorem dX8_and_2 : decode cX8_and 2 = .ok (.invokevirtual 242, 3) := dk_182 0 242 (dk_at dksX8_and_0 2 rfl rfl)
theorem dX8_and_5 : decode cX8_and 5 = .ok (.astore_n 2, 1) := dk_77 (dk_at dksX8_and_0 5 rfl rfl)
theorem dX8_and_6 : decode cX8_and 6 = .ok (.aload_n 0, 1) := dk_42 (dk_at dksX8_and_0 6 rfl rfl)
theorem dX8_and_7 : decode cX8_and 7 = .ok (.ldc 245, 2) := dk_18 245 (dk_at dksX8_and_0 7 rfl rfl)
theorem dX8_and_9 : decode cX8_and 9 = .ok (.invokevirtual 112, 3) := dk_182 0 112 (dk_at dksX8_and_0 9 rfl rfl)
theorem dX8_and_12 : decode cX8_and 12 = .ok (.ifCond .eq 26, 3) := dk_153 0 26 (dk_at dksX8_and_0 12 rfl rfl)
theorem dX8_and_15 : decode cX8_and 15 = .ok (.aload_n 0, 1) := dk_42 (dk_at dksX8_and_0 15 rfl rfl)
theorem dX8_and_16 : decode cX8_and 16 = .ok (.invokevirtual 29, 3) := dk_182 0 29 (dk_at dksX8_and_0 16 rfl rfl)
theorem dX8_and_19 : decode cX8_and 19 = .ok (.new 237, 3) := dk_187 0 237 (dk_at dksX8_and_0 19 rfl rfl)
theorem dX8_and_22 : decode cX8_and 22 = .ok (.dup, 1) := dk_89 (dk_at dksX8_and_0 22 rfl rfl)
theorem dX8_and_23 : decode cX8_and 23 = .ok (.bipush 38, 2) := dk_16 38 (dk_at dksX8_and_1 0 rfl rfl)
theorem dX8_and_25 : decode cX8_and 25 = .ok (.aload_n 2, 1) := dk_44 (dk_at dksX8_and_1 2 rfl rfl)
theorem dX8_and_26 : decode cX8_and 26 = .ok (.aload_n 0, 1) := dk_42 (dk_at dksX8_and_1 3 rfl rfl)
theorem dX8_and_27 : decode cX8_and 27 = .ok (.iload_n 1, 1) := dk_27 (dk_at dksX8_and_1 4 rfl rfl)
theorem dX8_and_28 : decode cX8_and 28 = .ok (.invokevirtual 242, 3) := dk_182 0 242 (dk_at dksX8_and_1 5 rfl rfl)
theorem dX8_and_31 : decode cX8_and 31 = .ok (.invokespecial 239, 3) := dk_183 0 239 (dk_at dksX8_and_1 8 rfl rfl)
theorem dX8_and_34 : decode cX8_and 34 = .ok (.astore_n 2, 1) := dk_77 (dk_at dksX8_and_1 11 rfl rfl)
theorem dX8_and_35 : decode cX8_and 35 = .ok (.goto (-29), 3) := dk_167 255 227 (dk_at dksX8_and_1 12 rfl rfl)
theorem dX8_and_38 : decode cX8_and 38 = .ok (.aload_n 2, 1) := dk_44 (dk_at dksX8_and_1 15 rfl rfl)
theorem dX8_and_39 : decode cX8_and 39 = .ok (.areturn, 1) := dk_176 (dk_at dksX8_and_1 16 rfl rfl)
abbrev cX8_not : ByteArray := prog_10_method_19_code
def yX8_not : MethodName := ⟨RX8, "not", "(I)LSableCrown$Expr;"⟩
def dkwX8_not_4 : List UInt8 := [158, 0, 18, 187, 1, 2, 89, 45, 183, 1, 4, 78, 132, 2, 255, 167, 255, 240, 45, 176]
abbrev dktX8_not_4 : List UInt8 := dkwX8_not_4 ++ []
def dkwX8_not_3 : List UInt8 := [54, 4, 42, 182, 0, 29, 187, 0, 237, 89, 21, 4, 45, 42, 27, 182, 0, 247, 183, 0, 239, 78, 28]
abbrev dktX8_not_3 : List UInt8 := dkwX8_not_3 ++ dktX8_not_4
def dkwX8_not_2 : List UInt8 := [182, 0, 112, 154, 0, 12, 42, 18, 252, 182, 0, 112, 153, 0, 33, 42, 180, 0, 11, 3, 182, 0, 254]
abbrev dktX8_not_2 : List UInt8 := dkwX8_not_2 ++ dktX8_not_3
def dkwX8_not_1 : List UInt8 := [182, 0, 116, 42, 182, 0, 29, 132, 2, 1, 167, 255, 224, 42, 27, 182, 0, 247, 78, 42, 18, 250]
abbrev dktX8_not_1 : List UInt8 := dkwX8_not_1 ++ dktX8_not_2
def dkwX8_not_0 : List UInt8 := [3, 61, 42, 18, 246, 182, 0, 112, 153, 0, 29, 42, 28, 16, 6, 162, 0, 7, 4, 167, 0, 4, 3, 5]
abbrev dktX8_not_0 : List UInt8 := dkwX8_not_0 ++ dktX8_not_1
theorem dksX8_not_0 : cX8_not.data.toList.drop 0 = dktX8_not_0 := by decide +kernel
theorem dksX8_not_1 : cX8_not.data.toList.drop 24 = dktX8_not_1 := dk_seg dksX8_not_0 24 rfl rfl
theorem dksX8_not_2 : cX8_not.data.toList.drop 46 = dktX8_not_2 := dk_seg dksX8_not_1 22 rfl rfl
theorem dksX8_not_3 : cX8_not.data.toList.drop 69 = dktX8_not_3 := dk_seg dksX8_not_2 23 rfl rfl
theorem dksX8_not_4 : cX8_not.data.toList.drop 92 = dktX8_not_4 := dk_seg dksX8_not_3 23 rfl rfl
theorem dX8_not_0 : decode cX8_not 0 = .ok (.iconst 0, 1) := dk_3 (dk_at dksX8_not_0 0 rfl rfl)
theorem dX8_not_1 : decode cX8_not 1 = .ok (.istore_n 2, 1) := dk_61 (dk_at dksX8_not_0 1 rfl rfl)
theorem dX8_not_2 : decode cX8_not 2 = .ok (.aload_n 0, 1) := dk_42 (dk_at dksX8_not_0 2 rfl rfl)
theorem dX8_not_3 : decode cX8_not 3 = .ok (.ldc 246, 2) := dk_18 246 (dk_at dksX8_not_0 3 rfl rfl)
theorem dX8_not_5 : decode cX8_not 5 = .ok (.invokevirtual 112, 3) := dk_182 0 112 (dk_at dksX8_not_0 5 rfl rfl)
theorem dX8_not_8 : decode cX8_not 8 = .ok (.ifCond .eq 29, 3) := dk_153 0 29 (dk_at dksX8_not_0 8 rfl rfl)
theorem dX8_not_11 : decode cX8_not 11 = .ok (.aload_n 0, 1) := dk_42 (dk_at dksX8_not_0 11 rfl rfl)
theorem dX8_not_12 : decode cX8_not 12 = .ok (.iload_n 2, 1) := dk_28 (dk_at dksX8_not_0 12 rfl rfl)
theorem dX8_not_13 : decode cX8_not 13 = .ok (.bipush 6, 2) := dk_16 6 (dk_at dksX8_not_0 13 rfl rfl)
theorem dX8_not_15 : decode cX8_not 15 = .ok (.if_icmp .ge 7, 3) := dk_162 0 7 (dk_at dksX8_not_0 15 rfl rfl)
theorem dX8_not_18 : decode cX8_not 18 = .ok (.iconst 1, 1) := dk_4 (dk_at dksX8_not_0 18 rfl rfl)
theorem dX8_not_19 : decode cX8_not 19 = .ok (.goto 4, 3) := dk_167 0 4 (dk_at dksX8_not_0 19 rfl rfl)
theorem dX8_not_22 : decode cX8_not 22 = .ok (.iconst 0, 1) := dk_3 (dk_at dksX8_not_0 22 rfl rfl)
theorem dX8_not_23 : decode cX8_not 23 = .ok (.iconst 2, 1) := dk_5 (dk_at dksX8_not_0 23 rfl rfl)
theorem dX8_not_24 : decode cX8_not 24 = .ok (.invokevirtual 116, 3) := dk_182 0 116 (dk_at dksX8_not_1 0 rfl rfl)
theorem dX8_not_27 : decode cX8_not 27 = .ok (.aload_n 0, 1) := dk_42 (dk_at dksX8_not_1 3 rfl rfl)
theorem dX8_not_28 : decode cX8_not 28 = .ok (.invokevirtual 29, 3) := dk_182 0 29 (dk_at dksX8_not_1 4 rfl rfl)
theorem dX8_not_31 : decode cX8_not 31 = .ok (.iinc 2 1, 3) := dk_132 2 1 (dk_at dksX8_not_1 7 rfl rfl)
theorem dX8_not_34 : decode cX8_not 34 = .ok (.goto (-32), 3) := dk_167 255 224 (dk_at dksX8_not_1 10 rfl rfl)
theorem dX8_not_37 : decode cX8_not 37 = .ok (.aload_n 0, 1) := dk_42 (dk_at dksX8_not_1 13 rfl rfl)
theorem dX8_not_38 : decode cX8_not 38 = .ok (.iload_n 1, 1) := dk_27 (dk_at dksX8_not_1 14 rfl rfl)
theorem dX8_not_39 : decode cX8_not 39 = .ok (.invokevirtual 247, 3) := dk_182 0 247 (dk_at dksX8_not_1 15 rfl rfl)
theorem dX8_not_42 : decode cX8_not 42 = .ok (.astore_n 3, 1) := dk_78 (dk_at dksX8_not_1 18 rfl rfl)
theorem dX8_not_43 : decode cX8_not 43 = .ok (.aload_n 0, 1) := dk_42 (dk_at dksX8_not_1 19 rfl rfl)
theorem dX8_not_44 : decode cX8_not 44 = .ok (.ldc 250, 2) := dk_18 250 (dk_at dksX8_not_1 20 rfl rfl)
theorem dX8_not_46 : decode cX8_not 46 = .ok (.invokevirtual 112, 3) := dk_182 0 112 (dk_at dksX8_not_2 0 rfl rfl)
theorem dX8_not_49 : decode cX8_not 49 = .ok (.ifCond .ne 12, 3) := dk_154 0 12 (dk_at dksX8_not_2 3 rfl rfl)
theorem dX8_not_52 : decode cX8_not 52 = .ok (.aload_n 0, 1) := dk_42 (dk_at dksX8_not_2 6 rfl rfl)
theorem dX8_not_53 : decode cX8_not 53 = .ok (.ldc 252, 2) := dk_18 252 (dk_at dksX8_not_2 7 rfl rfl)
theorem dX8_not_55 : decode cX8_not 55 = .ok (.invokevirtual 112, 3) := dk_182 0 112 (dk_at dksX8_not_2 9 rfl rfl)
theorem dX8_not_58 : decode cX8_not 58 = .ok (.ifCond .eq 33, 3) := dk_153 0 33 (dk_at dksX8_not_2 12 rfl rfl)
theorem dX8_not_61 : decode cX8_not 61 = .ok (.aload_n 0, 1) := dk_42 (dk_at dksX8_not_2 15 rfl rfl)
theorem dX8_not_62 : decode cX8_not 62 = .ok (.getfield 11, 3) := dk_180 0 11 (dk_at dksX8_not_2 16 rfl rfl)
theorem dX8_not_65 : decode cX8_not 65 = .ok (.iconst 0, 1) := dk_3 (dk_at dksX8_not_2 19 rfl rfl)
theorem dX8_not_66 : decode cX8_not 66 = .ok (.invokevirtual 254, 3) := dk_182 0 254 (dk_at dksX8_not_2 20 rfl rfl)
theorem dX8_not_69 : decode cX8_not 69 = .ok (.istore 4, 2) := dk_54 4 (dk_at dksX8_not_3 0 rfl rfl)
theorem dX8_not_71 : decode cX8_not 71 = .ok (.aload_n 0, 1) := dk_42 (dk_at dksX8_not_3 2 rfl rfl)
theorem dX8_not_72 : decode cX8_not 72 = .ok (.invokevirtual 29, 3) := dk_182 0 29 (dk_at dksX8_not_3 3 rfl rfl)
theorem dX8_not_75 : decode cX8_not 75 = .ok (.new 237, 3) := dk_187 0 237 (dk_at dksX8_not_3 6 rfl rfl)
theorem dX8_not_78 : decode cX8_not 78 = .ok (.dup, 1) := dk_89 (dk_at dksX8_not_3 9 rfl rfl)
theorem dX8_not_79 : decode cX8_not 79 = .ok (.iload 4, 2) := dk_21 4 (dk_at dksX8_not_3 10 rfl rfl)
theorem dX8_not_81 : decode cX8_not 81 = .ok (.aload_n 3, 1) := dk_45 (dk_at dksX8_not_3 12 rfl rfl)
theorem dX8_not_82 : decode cX8_not 82 = .ok (.aload_n 0, 1) := dk_42 (dk_at dksX8_not_3 13 rfl rfl)
theorem dX8_not_83 : decode cX8_not 83 = .ok (.iload_n 1, 1) := dk_27 (dk_at dksX8_not_3 14 rfl rfl)
theorem dX8_not_84 : decode cX8_not 84 = .ok (.invokevirtual 247, 3) := dk_182 0 247 (dk_at dksX8_not_3 15 rfl rfl)
theorem dX8_not_87 : decode cX8_not 87 = .ok (.invokespecial 239, 3) := dk_183 0 239 (dk_at dksX8_not_3 18 rfl rfl)
theorem dX8_not_90 : decode cX8_not 90 = .ok (.astore_n 3, 1) := dk_78 (dk_at dksX8_not_3 21 rfl rfl)
theorem dX8_not_91 : decode cX8_not 91 = .ok (.iload_n 2, 1) := dk_28 (dk_at dksX8_not_3 22 rfl rfl)
theorem dX8_not_92 : decode cX8_not 92 = .ok (.ifCond .le 18, 3) := dk_158 0 18 (dk_at dksX8_not_4 0 rfl rfl)
theorem dX8_not_95 : decode cX8_not 95 = .ok (.new 258, 3) := dk_187 1 2 (dk_at dksX8_not_4 3 rfl rfl)
theorem dX8_not_98 : decode cX8_not 98 = .ok (.dup, 1) := dk_89 (dk_at dksX8_not_4 6 rfl rfl)
theorem dX8_not_99 : decode cX8_not 99 = .ok (.aload_n 3, 1) := dk_45 (dk_at dksX8_not_4 7 rfl rfl)
theorem dX8_not_100 : decode cX8_not 100 = .ok (.invokespecial 260, 3) := dk_183 1 4 (dk_at dksX8_not_4 8 rfl rfl)
theorem dX8_not_103 : decode cX8_not 103 = .ok (.astore_n 3, 1) := dk_78 (dk_at dksX8_not_4 11 rfl rfl)
theorem dX8_not_104 : decode cX8_not 104 = .ok (.iinc 2 (-1), 3) := dk_132 2 255 (dk_at dksX8_not_4 12 rfl rfl)
theorem dX8_not_107 : decode cX8_not 107 = .ok (.goto (-16), 3) := dk_167 255 240 (dk_at dksX8_not_4 15 rfl rfl)
theorem dX8_not_110 : decode cX8_not 110 = .ok (.aload_n 3, 1) := dk_45 (dk_at dksX8_not_4 18 rfl rfl)
theorem dX8_not_111 : decode cX8_not 111 = .ok (.areturn, 1) := dk_176 (dk_at dksX8_not_4 19 rfl rfl)
abbrev cX8_sum : ByteArray := prog_10_method_20_code
def yX8_sum : MethodName := ⟨RX8, "sum", "(I)LSableCrown$Expr;"⟩
def dkwX8_sum_2 : List UInt8 := [182, 1, 7, 183, 0, 239, 77, 167, 255, 208, 44, 176]
abbrev dktX8_sum_2 : List UInt8 := dkwX8_sum_2 ++ []
def dkwX8_sum_1 : List UInt8 := [153, 0, 34, 42, 180, 0, 11, 3, 182, 0, 254, 62, 42, 182, 0, 29, 187, 0, 237, 89, 29, 44, 42, 27]
abbrev dktX8_sum_1 : List UInt8 := dkwX8_sum_1 ++ dktX8_sum_2
def dkwX8_sum_0 : List UInt8 := [42, 27, 182, 1, 7, 77, 42, 19, 1, 10, 182, 0, 112, 154, 0, 13, 42, 19, 1, 12, 182, 0, 112]
abbrev dktX8_sum_0 : List UInt8 := dkwX8_sum_0 ++ dktX8_sum_1
theorem dksX8_sum_0 : cX8_sum.data.toList.drop 0 = dktX8_sum_0 := by decide +kernel
theorem dksX8_sum_1 : cX8_sum.data.toList.drop 23 = dktX8_sum_1 := dk_seg dksX8_sum_0 23 rfl rfl
theorem dksX8_sum_2 : cX8_sum.data.toList.drop 47 = dktX8_sum_2 := dk_seg dksX8_sum_1 24 rfl rfl
theorem dX8_sum_0 : decode cX8_sum 0 = .ok (.aload_n 0, 1) := dk_42 (dk_at dksX8_sum_0 0 rfl rfl)
theorem dX8_sum_1 : decode cX8_sum 1 = .ok (.iload_n 1, 1) := dk_27 (dk_at dksX8_sum_0 1 rfl rfl)
theorem dX8_sum_2 : decode cX8_sum 2 = .ok (.invokevirtual 263, 3) := dk_182 1 7 (dk_at dksX8_sum_0 2 rfl rfl)
theorem dX8_sum_5 : decode cX8_sum 5 = .ok (.astore_n 2, 1) := dk_77 (dk_at dksX8_sum_0 5 rfl rfl)
theorem dX8_sum_6 : decode cX8_sum 6 = .ok (.aload_n 0, 1) := dk_42 (dk_at dksX8_sum_0 6 rfl rfl)
theorem dX8_sum_7 : decode cX8_sum 7 = .ok (.ldc_w 266, 3) := dk_19 1 10 (dk_at dksX8_sum_0 7 rfl rfl)
theorem dX8_sum_10 : decode cX8_sum 10 = .ok (.invokevirtual 112, 3) := dk_182 0 112 (dk_at dksX8_sum_0 10 rfl rfl)
theorem dX8_sum_13 : decode cX8_sum 13 = .ok (.ifCond .ne 13, 3) := dk_154 0 13 (dk_at dksX8_sum_0 13 rfl rfl)
theorem dX8_sum_16 : decode cX8_sum 16 = .ok (.aload_n 0, 1) := dk_42 (dk_at dksX8_sum_0 16 rfl rfl)
theorem dX8_sum_17 : decode cX8_sum 17 = .ok (.ldc_w 268, 3) := dk_19 1 12 (dk_at dksX8_sum_0 17 rfl rfl)
theorem dX8_sum_20 : decode cX8_sum 20 = .ok (.invokevirtual 112, 3) := dk_182 0 112 (dk_at dksX8_sum_0 20 rfl rfl)
theorem dX8_sum_23 : decode cX8_sum 23 = .ok (.ifCond .eq 34, 3) := dk_153 0 34 (dk_at dksX8_sum_1 0 rfl rfl)
theorem dX8_sum_26 : decode cX8_sum 26 = .ok (.aload_n 0, 1) := dk_42 (dk_at dksX8_sum_1 3 rfl rfl)
theorem dX8_sum_27 : decode cX8_sum 27 = .ok (.getfield 11, 3) := dk_180 0 11 (dk_at dksX8_sum_1 4 rfl rfl)
theorem dX8_sum_30 : decode cX8_sum 30 = .ok (.iconst 0, 1) := dk_3 (dk_at dksX8_sum_1 7 rfl rfl)
theorem dX8_sum_31 : decode cX8_sum 31 = .ok (.invokevirtual 254, 3) := dk_182 0 254 (dk_at dksX8_sum_1 8 rfl rfl)
theorem dX8_sum_34 : decode cX8_sum 34 = .ok (.istore_n 3, 1) := dk_62 (dk_at dksX8_sum_1 11 rfl rfl)
theorem dX8_sum_35 : decode cX8_sum 35 = .ok (.aload_n 0, 1) := dk_42 (dk_at dksX8_sum_1 12 rfl rfl)
theorem dX8_sum_36 : decode cX8_sum 36 = .ok (.invokevirtual 29, 3) := dk_182 0 29 (dk_at dksX8_sum_1 13 rfl rfl)
theorem dX8_sum_39 : decode cX8_sum 39 = .ok (.new 237, 3) := dk_187 0 237 (dk_at dksX8_sum_1 16 rfl rfl)
theorem dX8_sum_42 : decode cX8_sum 42 = .ok (.dup, 1) := dk_89 (dk_at dksX8_sum_1 19 rfl rfl)
theorem dX8_sum_43 : decode cX8_sum 43 = .ok (.iload_n 3, 1) := dk_29 (dk_at dksX8_sum_1 20 rfl rfl)
theorem dX8_sum_44 : decode cX8_sum 44 = .ok (.aload_n 2, 1) := dk_44 (dk_at dksX8_sum_1 21 rfl rfl)
theorem dX8_sum_45 : decode cX8_sum 45 = .ok (.aload_n 0, 1) := dk_42 (dk_at dksX8_sum_1 22 rfl rfl)
theorem dX8_sum_46 : decode cX8_sum 46 = .ok (.iload_n 1, 1) := dk_27 (dk_at dksX8_sum_1 23 rfl rfl)
theorem dX8_sum_47 : decode cX8_sum 47 = .ok (.invokevirtual 263, 3) := dk_182 1 7 (dk_at dksX8_sum_2 0 rfl rfl)
theorem dX8_sum_50 : decode cX8_sum 50 = .ok (.invokespecial 239, 3) := dk_183 0 239 (dk_at dksX8_sum_2 3 rfl rfl)
theorem dX8_sum_53 : decode cX8_sum 53 = .ok (.astore_n 2, 1) := dk_77 (dk_at dksX8_sum_2 6 rfl rfl)
theorem dX8_sum_54 : decode cX8_sum 54 = .ok (.goto (-48), 3) := dk_167 255 208 (dk_at dksX8_sum_2 7 rfl rfl)
theorem dX8_sum_57 : decode cX8_sum 57 = .ok (.aload_n 2, 1) := dk_44 (dk_at dksX8_sum_2 10 rfl rfl)
theorem dX8_sum_58 : decode cX8_sum 58 = .ok (.areturn, 1) := dk_176 (dk_at dksX8_sum_2 11 rfl rfl)
abbrev cX8_product : ByteArray := prog_10_method_21_code
def yX8_product : MethodName := ⟨RX8, "product", "(I)LSableCrown$Expr;"⟩
def dkwX8_product_2 : List UInt8 := [182, 1, 14, 183, 0, 239, 77, 167, 255, 208, 44, 176]
abbrev dktX8_product_2 : List UInt8 := dkwX8_product_2 ++ []
def dkwX8_product_1 : List UInt8 := [153, 0, 34, 42, 180, 0, 11, 3, 182, 0, 254, 62, 42, 182, 0, 29, 187, 0, 237, 89, 29, 44, 42, 27]
abbrev dktX8_product_1 : List UInt8 := dkwX8_product_1 ++ dktX8_product_2
def dkwX8_product_0 : List UInt8 := [42, 27, 182, 1, 14, 77, 42, 19, 1, 17, 182, 0, 112, 154, 0, 13, 42, 19, 1, 19, 182, 0, 112]
abbrev dktX8_product_0 : List UInt8 := dkwX8_product_0 ++ dktX8_product_1
theorem dksX8_product_0 : cX8_product.data.toList.drop 0 = dktX8_product_0 := by decide +kernel
theorem dksX8_product_1 : cX8_product.data.toList.drop 23 = dktX8_product_1 := dk_seg dksX8_product_0 23 rfl rfl
theorem dksX8_product_2 : cX8_product.data.toList.drop 47 = dktX8_product_2 := dk_seg dksX8_product_1 24 rfl rfl
theorem dX8_product_0 : decode cX8_product 0 = .ok (.aload_n 0, 1) := dk_42 (dk_at dksX8_product_0 0 rfl rfl)
theorem dX8_product_1 : decode cX8_product 1 = .ok (.iload_n 1, 1) := dk_27 (dk_at dksX8_product_0 1 rfl rfl)
theorem dX8_product_2 : decode cX8_product 2 = .ok (.invokevirtual 270, 3) := dk_182 1 14 (dk_at dksX8_product_0 2 rfl rfl)
theorem dX8_product_5 : decode cX8_product 5 = .ok (.astore_n 2, 1) := dk_77 (dk_at dksX8_product_0 5 rfl rfl)
theorem dX8_product_6 : decode cX8_product 6 = .ok (.aload_n 0, 1) := dk_42 (dk_at dksX8_product_0 6 rfl rfl)
theorem dX8_product_7 : decode cX8_product 7 = .ok (.ldc_w 273, 3) := dk_19 1 17 (dk_at dksX8_product_0 7 rfl rfl)
theorem dX8_product_10 : decode cX8_product 10 = .ok (.invokevirtual 112, 3) := dk_182 0 112 (dk_at dksX8_product_0 10 rfl rfl)
theorem dX8_product_13 : decode cX8_product 13 = .ok (.ifCond .ne 13, 3) := dk_154 0 13 (dk_at dksX8_product_0 13 rfl rfl)
theorem dX8_product_16 : decode cX8_product 16 = .ok (.aload_n 0, 1) := dk_42 (dk_at dksX8_product_0 16 rfl rfl)
theorem dX8_product_17 : decode cX8_product 17 = .ok (.ldc_w 275, 3) := dk_19 1 19 (dk_at dksX8_product_0 17 rfl rfl)
theorem dX8_product_20 : decode cX8_product 20 = .ok (.invokevirtual 112, 3) := dk_182 0 112 (dk_at dksX8_product_0 20 rfl rfl)
theorem dX8_product_23 : decode cX8_product 23 = .ok (.ifCond .eq 34, 3) := dk_153 0 34 (dk_at dksX8_product_1 0 rfl rfl)
theorem dX8_product_26 : decode cX8_product 26 = .ok (.aload_n 0, 1) := dk_42 (dk_at dksX8_product_1 3 rfl rfl)
theorem dX8_product_27 : decode cX8_product 27 = .ok (.getfield 11, 3) := dk_180 0 11 (dk_at dksX8_product_1 4 rfl rfl)
theorem dX8_product_30 : decode cX8_product 30 = .ok (.iconst 0, 1) := dk_3 (dk_at dksX8_product_1 7 rfl rfl)
theorem dX8_product_31 : decode cX8_product 31 = .ok (.invokevirtual 254, 3) := dk_182 0 254 (dk_at dksX8_product_1 8 rfl rfl)
theorem dX8_product_34 : decode cX8_product 34 = .ok (.istore_n 3, 1) := dk_62 (dk_at dksX8_product_1 11 rfl rfl)
theorem dX8_product_35 : decode cX8_product 35 = .ok (.aload_n 0, 1) := dk_42 (dk_at dksX8_product_1 12 rfl rfl)
theorem dX8_product_36 : decode cX8_product 36 = .ok (.invokevirtual 29, 3) := dk_182 0 29 (dk_at dksX8_product_1 13 rfl rfl)
theorem dX8_product_39 : decode cX8_product 39 = .ok (.new 237, 3) := dk_187 0 237 (dk_at dksX8_product_1 16 rfl rfl)
theorem dX8_product_42 : decode cX8_product 42 = .ok (.dup, 1) := dk_89 (dk_at dksX8_product_1 19 rfl rfl)
theorem dX8_product_43 : decode cX8_product 43 = .ok (.iload_n 3, 1) := dk_29 (dk_at dksX8_product_1 20 rfl rfl)
theorem dX8_product_44 : decode cX8_product 44 = .ok (.aload_n 2, 1) := dk_44 (dk_at dksX8_product_1 21 rfl rfl)
theorem dX8_product_45 : decode cX8_product 45 = .ok (.aload_n 0, 1) := dk_42 (dk_at dksX8_product_1 22 rfl rfl)
theorem dX8_product_46 : decode cX8_product 46 = .ok (.iload_n 1, 1) := dk_27 (dk_at dksX8_product_1 23 rfl rfl)
theorem dX8_product_47 : decode cX8_product 47 = .ok (.invokevirtual 270, 3) := dk_182 1 14 (dk_at dksX8_product_2 0 rfl rfl)
theorem dX8_product_50 : decode cX8_product 50 = .ok (.invokespecial 239, 3) := dk_183 0 239 (dk_at dksX8_product_2 3 rfl rfl)
theorem dX8_product_53 : decode cX8_product 53 = .ok (.astore_n 2, 1) := dk_77 (dk_at dksX8_product_2 6 rfl rfl)
theorem dX8_product_54 : decode cX8_product 54 = .ok (.goto (-48), 3) := dk_167 255 208 (dk_at dksX8_product_2 7 rfl rfl)
theorem dX8_product_57 : decode cX8_product 57 = .ok (.aload_n 2, 1) := dk_44 (dk_at dksX8_product_2 10 rfl rfl)
theorem dX8_product_58 : decode cX8_product 58 = .ok (.areturn, 1) := dk_176 (dk_at dksX8_product_2 11 rfl rfl)
abbrev cX8_part : ByteArray := prog_10_method_22_code
def yX8_part : MethodName := ⟨RX8, "part", "(I)LSableCrown$Expr;"⟩
def dkwX8_part_4 : List UInt8 := [167, 0, 4, 3, 6, 182, 0, 116, 42, 182, 0, 29, 187, 1, 29, 89, 44, 183, 1, 31, 176]
abbrev dktX8_part_4 : List UInt8 := dkwX8_part_4 ++ []
def dkwX8_part_3 : List UInt8 := [167, 0, 4, 3, 4, 182, 0, 116, 42, 180, 0, 11, 184, 1, 26, 77, 42, 44, 198, 0, 7, 4]
abbrev dktX8_part_3 : List UInt8 := dkwX8_part_3 ++ dktX8_part_4
def dkwX8_part_2 : List UInt8 := [77, 42, 19, 1, 24, 182, 0, 203, 44, 176, 42, 42, 180, 0, 52, 178, 0, 76, 166, 0, 7, 4]
abbrev dktX8_part_2 : List UInt8 := dkwX8_part_2 ++ dktX8_part_3
def dkwX8_part_1 : List UInt8 := [183, 1, 23, 176, 42, 18, 230, 182, 0, 112, 153, 0, 24, 42, 182, 0, 29, 42, 27, 4, 96, 182, 0, 194]
abbrev dktX8_part_1 : List UInt8 := dkwX8_part_1 ++ dktX8_part_2
def dkwX8_part_0 : List UInt8 := [42, 180, 0, 52, 178, 0, 85, 166, 0, 19, 187, 1, 21, 89, 42, 3, 17, 39, 15, 182, 0, 136]
abbrev dktX8_part_0 : List UInt8 := dkwX8_part_0 ++ dktX8_part_1
theorem dksX8_part_0 : cX8_part.data.toList.drop 0 = dktX8_part_0 := by decide +kernel
theorem dksX8_part_1 : cX8_part.data.toList.drop 22 = dktX8_part_1 := dk_seg dksX8_part_0 22 rfl rfl
theorem dksX8_part_2 : cX8_part.data.toList.drop 46 = dktX8_part_2 := dk_seg dksX8_part_1 24 rfl rfl
theorem dksX8_part_3 : cX8_part.data.toList.drop 68 = dktX8_part_3 := dk_seg dksX8_part_2 22 rfl rfl
theorem dksX8_part_4 : cX8_part.data.toList.drop 90 = dktX8_part_4 := dk_seg dksX8_part_3 22 rfl rfl
theorem dX8_part_0 : decode cX8_part 0 = .ok (.aload_n 0, 1) := dk_42 (dk_at dksX8_part_0 0 rfl rfl)
theorem dX8_part_1 : decode cX8_part 1 = .ok (.getfield 52, 3) := dk_180 0 52 (dk_at dksX8_part_0 1 rfl rfl)
theorem dX8_part_4 : decode cX8_part 4 = .ok (.getstatic 85, 3) := dk_178 0 85 (dk_at dksX8_part_0 4 rfl rfl)
theorem dX8_part_7 : decode cX8_part 7 = .ok (.if_acmp .ne 19, 3) := dk_166 0 19 (dk_at dksX8_part_0 7 rfl rfl)
theorem dX8_part_10 : decode cX8_part 10 = .ok (.new 277, 3) := dk_187 1 21 (dk_at dksX8_part_0 10 rfl rfl)
theorem dX8_part_13 : decode cX8_part 13 = .ok (.dup, 1) := dk_89 (dk_at dksX8_part_0 13 rfl rfl)
theorem dX8_part_14 : decode cX8_part 14 = .ok (.aload_n 0, 1) := dk_42 (dk_at dksX8_part_0 14 rfl rfl)
theorem dX8_part_15 : decode cX8_part 15 = .ok (.iconst 0, 1) := dk_3 (dk_at dksX8_part_0 15 rfl rfl)
theorem dX8_part_16 : decode cX8_part 16 = .ok (.sipush 9999, 3) := dk_17 39 15 (dk_at dksX8_part_0 16 rfl rfl)
theorem dX8_part_19 : decode cX8_part 19 = .ok (.invokevirtual 136, 3) := dk_182 0 136 (dk_at dksX8_part_0 19 rfl rfl)
theorem dX8_part_22 : decode cX8_part 22 = .ok (.invokespecial 279, 3) := dk_183 1 23 (dk_at dksX8_part_1 0 rfl rfl)
theorem dX8_part_25 : decode cX8_part 25 = .ok (.areturn, 1) := dk_176 (dk_at dksX8_part_1 3 rfl rfl)
theorem dX8_part_26 : decode cX8_part 26 = .ok (.aload_n 0, 1) := dk_42 (dk_at dksX8_part_1 4 rfl rfl)
theorem dX8_part_27 : decode cX8_part 27 = .ok (.ldc 230, 2) := dk_18 230 (dk_at dksX8_part_1 5 rfl rfl)
theorem dX8_part_29 : decode cX8_part 29 = .ok (.invokevirtual 112, 3) := dk_182 0 112 (dk_at dksX8_part_1 7 rfl rfl)
theorem dX8_part_32 : decode cX8_part 32 = .ok (.ifCond .eq 24, 3) := dk_153 0 24 (dk_at dksX8_part_1 10 rfl rfl)
theorem dX8_part_35 : decode cX8_part 35 = .ok (.aload_n 0, 1) := dk_42 (dk_at dksX8_part_1 13 rfl rfl)
theorem dX8_part_36 : decode cX8_part 36 = .ok (.invokevirtual 29, 3) := dk_182 0 29 (dk_at dksX8_part_1 14 rfl rfl)
theorem dX8_part_39 : decode cX8_part 39 = .ok (.aload_n 0, 1) := dk_42 (dk_at dksX8_part_1 17 rfl rfl)
theorem dX8_part_40 : decode cX8_part 40 = .ok (.iload_n 1, 1) := dk_27 (dk_at dksX8_part_1 18 rfl rfl)
theorem dX8_part_41 : decode cX8_part 41 = .ok (.iconst 1, 1) := dk_4 (dk_at dksX8_part_1 19 rfl rfl)
theorem dX8_part_42 : decode cX8_part 42 = .ok (.iadd, 1) := dk_96 (dk_at dksX8_part_1 20 rfl rfl)
theorem dX8_part_43 : decode cX8_part 43 = .ok (.invokevirtual 194, 3) := dk_182 0 194 (dk_at dksX8_part_1 21 rfl rfl)
theorem dX8_part_46 : decode cX8_part 46 = .ok (.astore_n 2, 1) := dk_77 (dk_at dksX8_part_2 0 rfl rfl)
theorem dX8_part_47 : decode cX8_part 47 = .ok (.aload_n 0, 1) := dk_42 (dk_at dksX8_part_2 1 rfl rfl)
theorem dX8_part_48 : decode cX8_part 48 = .ok (.ldc_w 280, 3) := dk_19 1 24 (dk_at dksX8_part_2 2 rfl rfl)
theorem dX8_part_51 : decode cX8_part 51 = .ok (.invokevirtual 203, 3) := dk_182 0 203 (dk_at dksX8_part_2 5 rfl rfl)
theorem dX8_part_54 : decode cX8_part 54 = .ok (.aload_n 2, 1) := dk_44 (dk_at dksX8_part_2 8 rfl rfl)
theorem dX8_part_55 : decode cX8_part 55 = .ok (.areturn, 1) := dk_176 (dk_at dksX8_part_2 9 rfl rfl)
theorem dX8_part_56 : decode cX8_part 56 = .ok (.aload_n 0, 1) := dk_42 (dk_at dksX8_part_2 10 rfl rfl)
theorem dX8_part_57 : decode cX8_part 57 = .ok (.aload_n 0, 1) := dk_42 (dk_at dksX8_part_2 11 rfl rfl)
theorem dX8_part_58 : decode cX8_part 58 = .ok (.getfield 52, 3) := dk_180 0 52 (dk_at dksX8_part_2 12 rfl rfl)
theorem dX8_part_61 : decode cX8_part 61 = .ok (.getstatic 76, 3) := dk_178 0 76 (dk_at dksX8_part_2 15 rfl rfl)
theorem dX8_part_64 : decode cX8_part 64 = .ok (.if_acmp .ne 7, 3) := dk_166 0 7 (dk_at dksX8_part_2 18 rfl rfl)
theorem dX8_part_67 : decode cX8_part 67 = .ok (.iconst 1, 1) := dk_4 (dk_at dksX8_part_2 21 rfl rfl)
theorem dX8_part_68 : decode cX8_part 68 = .ok (.goto 4, 3) := dk_167 0 4 (dk_at dksX8_part_3 0 rfl rfl)
theorem dX8_part_71 : decode cX8_part 71 = .ok (.iconst 0, 1) := dk_3 (dk_at dksX8_part_3 3 rfl rfl)
theorem dX8_part_72 : decode cX8_part 72 = .ok (.iconst 1, 1) := dk_4 (dk_at dksX8_part_3 4 rfl rfl)
theorem dX8_part_73 : decode cX8_part 73 = .ok (.invokevirtual 116, 3) := dk_182 0 116 (dk_at dksX8_part_3 5 rfl rfl)
theorem dX8_part_76 : decode cX8_part 76 = .ok (.aload_n 0, 1) := dk_42 (dk_at dksX8_part_3 8 rfl rfl)
theorem dX8_part_77 : decode cX8_part 77 = .ok (.getfield 11, 3) := dk_180 0 11 (dk_at dksX8_part_3 9 rfl rfl)
theorem dX8_part_80 : decode cX8_part 80 = .ok (.invokestatic 282, 3) := dk_184 1 26 (dk_at dksX8_part_3 12 rfl rfl)
theorem dX8_part_83 : decode cX8_part 83 = .ok (.astore_n 2, 1) := dk_77 (dk_at dksX8_part_3 15 rfl rfl)
theorem dX8_part_84 : decode cX8_part 84 = .ok (.aload_n 0, 1) := dk_42 (dk_at dksX8_part_3 16 rfl rfl)
theorem dX8_part_85 : decode cX8_part 85 = .ok (.aload_n 2, 1) := dk_44 (dk_at dksX8_part_3 17 rfl rfl)
theorem dX8_part_86 : decode cX8_part 86 = .ok (.ifnull 7, 3) := dk_198 0 7 (dk_at dksX8_part_3 18 rfl rfl)
theorem dX8_part_89 : decode cX8_part 89 = .ok (.iconst 1, 1) := dk_4 (dk_at dksX8_part_3 21 rfl rfl)
theorem dX8_part_90 : decode cX8_part 90 = .ok (.goto 4, 3) := dk_167 0 4 (dk_at dksX8_part_4 0 rfl rfl)
theorem dX8_part_93 : decode cX8_part 93 = .ok (.iconst 0, 1) := dk_3 (dk_at dksX8_part_4 3 rfl rfl)
theorem dX8_part_94 : decode cX8_part 94 = .ok (.iconst 3, 1) := dk_6 (dk_at dksX8_part_4 4 rfl rfl)
theorem dX8_part_95 : decode cX8_part 95 = .ok (.invokevirtual 116, 3) := dk_182 0 116 (dk_at dksX8_part_4 5 rfl rfl)
theorem dX8_part_98 : decode cX8_part 98 = .ok (.aload_n 0, 1) := dk_42 (dk_at dksX8_part_4 8 rfl rfl)
theorem dX8_part_99 : decode cX8_part 99 = .ok (.invokevirtual 29, 3) := dk_182 0 29 (dk_at dksX8_part_4 9 rfl rfl)
theorem dX8_part_102 : decode cX8_part 102 = .ok (.new 285, 3) := dk_187 1 29 (dk_at dksX8_part_4 12 rfl rfl)
theorem dX8_part_105 : decode cX8_part 105 = .ok (.dup, 1) := dk_89 (dk_at dksX8_part_4 15 rfl rfl)
theorem dX8_part_106 : decode cX8_part 106 = .ok (.aload_n 2, 1) := dk_44 (dk_at dksX8_part_4 16 rfl rfl)
theorem dX8_part_107 : decode cX8_part 107 = .ok (.invokespecial 287, 3) := dk_183 1 31 (dk_at dksX8_part_4 17 rfl rfl)
theorem dX8_part_110 : decode cX8_part 110 = .ok (.areturn, 1) := dk_176 (dk_at dksX8_part_4 20 rfl rfl)
abbrev cX8_need : ByteArray := prog_10_method_9_code
def yX8_need : MethodName := ⟨RX8, "need", "(Ljava/lang/String;)V"⟩
def dkwX8_need_0 : List UInt8 := [42, 42, 43, 182, 0, 112, 4, 182, 0, 116, 42, 182, 0, 29, 177]
abbrev dktX8_need_0 : List UInt8 := dkwX8_need_0 ++ []
theorem dksX8_need_0 : cX8_need.data.toList.drop 0 = dktX8_need_0 := by decide +kernel
theorem dX8_need_0 : decode cX8_need 0 = .ok (.aload_n 0, 1) := dk_42 (dk_at dksX8_need_0 0 rfl rfl)
theorem dX8_need_1 : decode cX8_need 1 = .ok (.aload_n 0, 1) := dk_42 (dk_at dksX8_need_0 1 rfl rfl)
theorem dX8_need_2 : decode cX8_need 2 = .ok (.aload_n 1, 1) := dk_43 (dk_at dksX8_need_0 2 rfl rfl)
theorem dX8_need_3 : decode cX8_need 3 = .ok (.invokevirtual 112, 3) := dk_182 0 112 (dk_at dksX8_need_0 3 rfl rfl)
theorem dX8_need_6 : decode cX8_need 6 = .ok (.iconst 1, 1) := dk_4 (dk_at dksX8_need_0 6 rfl rfl)
theorem dX8_need_7 : decode cX8_need 7 = .ok (.invokevirtual 116, 3) := dk_182 0 116 (dk_at dksX8_need_0 7 rfl rfl)
theorem dX8_need_10 : decode cX8_need 10 = .ok (.aload_n 0, 1) := dk_42 (dk_at dksX8_need_0 10 rfl rfl)
theorem dX8_need_11 : decode cX8_need 11 = .ok (.invokevirtual 29, 3) := dk_182 0 29 (dk_at dksX8_need_0 11 rfl rfl)
theorem dX8_need_14 : decode cX8_need 14 = .ok (.return_, 1) := dk_177 (dk_at dksX8_need_0 14 rfl rfl)
abbrev cX8_valueOf : ByteArray := prog_10_method_23_code
def yX8_valueOf : MethodName := ⟨RX8, "valueOf", "(Ljava/lang/String;)LSableCrown$Value;"⟩
def dkwX8_valueOf_4 : List UInt8 := [178, 1, 69, 167, 0, 4, 1, 176]
abbrev dktX8_valueOf_4 : List UInt8 := dkwX8_valueOf_4 ++ []
def dkwX8_valueOf_3 : List UInt8 := [42, 19, 1, 62, 182, 0, 103, 153, 0, 7, 178, 1, 64, 176, 42, 19, 1, 67, 182, 0, 103, 153, 0, 9]
abbrev dktX8_valueOf_3 : List UInt8 := dkwX8_valueOf_3 ++ dktX8_valueOf_4
def dkwX8_valueOf_2 : List UInt8 := [182, 0, 103, 153, 0, 7, 178, 1, 54, 176, 42, 19, 1, 57, 182, 0, 103, 153, 0, 7, 178, 1, 59, 176]
abbrev dktX8_valueOf_2 : List UInt8 := dkwX8_valueOf_2 ++ dktX8_valueOf_3
def dkwX8_valueOf_1 : List UInt8 := [178, 1, 44, 176, 42, 19, 1, 47, 182, 0, 103, 153, 0, 7, 178, 1, 49, 176, 42, 19, 1, 52]
abbrev dktX8_valueOf_1 : List UInt8 := dkwX8_valueOf_1 ++ dktX8_valueOf_2
def dkwX8_valueOf_0 : List UInt8 := [42, 19, 1, 34, 182, 0, 103, 153, 0, 7, 178, 1, 36, 176, 42, 19, 1, 42, 182, 0, 103, 153, 0, 7]
abbrev dktX8_valueOf_0 : List UInt8 := dkwX8_valueOf_0 ++ dktX8_valueOf_1
theorem dksX8_valueOf_0 : cX8_valueOf.data.toList.drop 0 = dktX8_valueOf_0 := by decide +kernel
theorem dksX8_valueOf_1 : cX8_valueOf.data.toList.drop 24 = dktX8_valueOf_1 := dk_seg dksX8_valueOf_0 24 rfl rfl
theorem dksX8_valueOf_2 : cX8_valueOf.data.toList.drop 46 = dktX8_valueOf_2 := dk_seg dksX8_valueOf_1 22 rfl rfl
theorem dksX8_valueOf_3 : cX8_valueOf.data.toList.drop 70 = dktX8_valueOf_3 := dk_seg dksX8_valueOf_2 24 rfl rfl
theorem dksX8_valueOf_4 : cX8_valueOf.data.toList.drop 94 = dktX8_valueOf_4 := dk_seg dksX8_valueOf_3 24 rfl rfl
theorem dX8_valueOf_0 : decode cX8_valueOf 0 = .ok (.aload_n 0, 1) := dk_42 (dk_at dksX8_valueOf_0 0 rfl rfl)
theorem dX8_valueOf_1 : decode cX8_valueOf 1 = .ok (.ldc_w 290, 3) := dk_19 1 34 (dk_at dksX8_valueOf_0 1 rfl rfl)
theorem dX8_valueOf_4 : decode cX8_valueOf 4 = .ok (.invokevirtual 103, 3) := dk_182 0 103 (dk_at dksX8_valueOf_0 4 rfl rfl)
theorem dX8_valueOf_7 : decode cX8_valueOf 7 = .ok (.ifCond .eq 7, 3) := dk_153 0 7 (dk_at dksX8_valueOf_0 7 rfl rfl)
theorem dX8_valueOf_10 : decode cX8_valueOf 10 = .ok (.getstatic 292, 3) := dk_178 1 36 (dk_at dksX8_valueOf_0 10 rfl rfl)
theorem dX8_valueOf_13 : decode cX8_valueOf 13 = .ok (.areturn, 1) := dk_176 (dk_at dksX8_valueOf_0 13 rfl rfl)
theorem dX8_valueOf_14 : decode cX8_valueOf 14 = .ok (.aload_n 0, 1) := dk_42 (dk_at dksX8_valueOf_0 14 rfl rfl)
theorem dX8_valueOf_15 : decode cX8_valueOf 15 = .ok (.ldc_w 298, 3) := dk_19 1 42 (dk_at dksX8_valueOf_0 15 rfl rfl)
theorem dX8_valueOf_18 : decode cX8_valueOf 18 = .ok (.invokevirtual 103, 3) := dk_182 0 103 (dk_at dksX8_valueOf_0 18 rfl rfl)
theorem dX8_valueOf_21 : decode cX8_valueOf 21 = .ok (.ifCond .eq 7, 3) := dk_153 0 7 (dk_at dksX8_valueOf_0 21 rfl rfl)
theorem dX8_valueOf_24 : decode cX8_valueOf 24 = .ok (.getstatic 300, 3) := dk_178 1 44 (dk_at dksX8_valueOf_1 0 rfl rfl)
theorem dX8_valueOf_27 : decode cX8_valueOf 27 = .ok (.areturn, 1) := dk_176 (dk_at dksX8_valueOf_1 3 rfl rfl)
theorem dX8_valueOf_28 : decode cX8_valueOf 28 = .ok (.aload_n 0, 1) := dk_42 (dk_at dksX8_valueOf_1 4 rfl rfl)
theorem dX8_valueOf_29 : decode cX8_valueOf 29 = .ok (.ldc_w 303, 3) := dk_19 1 47 (dk_at dksX8_valueOf_1 5 rfl rfl)
theorem dX8_valueOf_32 : decode cX8_valueOf 32 = .ok (.invokevirtual 103, 3) := dk_182 0 103 (dk_at dksX8_valueOf_1 8 rfl rfl)
theorem dX8_valueOf_35 : decode cX8_valueOf 35 = .ok (.ifCond .eq 7, 3) := dk_153 0 7 (dk_at dksX8_valueOf_1 11 rfl rfl)
theorem dX8_valueOf_38 : decode cX8_valueOf 38 = .ok (.getstatic 305, 3) := dk_178 1 49 (dk_at dksX8_valueOf_1 14 rfl rfl)
theorem dX8_valueOf_41 : decode cX8_valueOf 41 = .ok (.areturn, 1) := dk_176 (dk_at dksX8_valueOf_1 17 rfl rfl)
theorem dX8_valueOf_42 : decode cX8_valueOf 42 = .ok (.aload_n 0, 1) := dk_42 (dk_at dksX8_valueOf_1 18 rfl rfl)
theorem dX8_valueOf_43 : decode cX8_valueOf 43 = .ok (.ldc_w 308, 3) := dk_19 1 52 (dk_at dksX8_valueOf_1 19 rfl rfl)
theorem dX8_valueOf_46 : decode cX8_valueOf 46 = .ok (.invokevirtual 103, 3) := dk_182 0 103 (dk_at dksX8_valueOf_2 0 rfl rfl)
theorem dX8_valueOf_49 : decode cX8_valueOf 49 = .ok (.ifCond .eq 7, 3) := dk_153 0 7 (dk_at dksX8_valueOf_2 3 rfl rfl)
theorem dX8_valueOf_52 : decode cX8_valueOf 52 = .ok (.getstatic 310, 3) := dk_178 1 54 (dk_at dksX8_valueOf_2 6 rfl rfl)
theorem dX8_valueOf_55 : decode cX8_valueOf 55 = .ok (.areturn, 1) := dk_176 (dk_at dksX8_valueOf_2 9 rfl rfl)
theorem dX8_valueOf_56 : decode cX8_valueOf 56 = .ok (.aload_n 0, 1) := dk_42 (dk_at dksX8_valueOf_2 10 rfl rfl)
theorem dX8_valueOf_57 : decode cX8_valueOf 57 = .ok (.ldc_w 313, 3) := dk_19 1 57 (dk_at dksX8_valueOf_2 11 rfl rfl)
theorem dX8_valueOf_60 : decode cX8_valueOf 60 = .ok (.invokevirtual 103, 3) := dk_182 0 103 (dk_at dksX8_valueOf_2 14 rfl rfl)
theorem dX8_valueOf_63 : decode cX8_valueOf 63 = .ok (.ifCond .eq 7, 3) := dk_153 0 7 (dk_at dksX8_valueOf_2 17 rfl rfl)
theorem dX8_valueOf_66 : decode cX8_valueOf 66 = .ok (.getstatic 315, 3) := dk_178 1 59 (dk_at dksX8_valueOf_2 20 rfl rfl)
theorem dX8_valueOf_69 : decode cX8_valueOf 69 = .ok (.areturn, 1) := dk_176 (dk_at dksX8_valueOf_2 23 rfl rfl)
theorem dX8_valueOf_70 : decode cX8_valueOf 70 = .ok (.aload_n 0, 1) := dk_42 (dk_at dksX8_valueOf_3 0 rfl rfl)
theorem dX8_valueOf_71 : decode cX8_valueOf 71 = .ok (.ldc_w 318, 3) := dk_19 1 62 (dk_at dksX8_valueOf_3 1 rfl rfl)
theorem dX8_valueOf_74 : decode cX8_valueOf 74 = .ok (.invokevirtual 103, 3) := dk_182 0 103 (dk_at dksX8_valueOf_3 4 rfl rfl)
theorem dX8_valueOf_77 : decode cX8_valueOf 77 = .ok (.ifCond .eq 7, 3) := dk_153 0 7 (dk_at dksX8_valueOf_3 7 rfl rfl)
theorem dX8_valueOf_80 : decode cX8_valueOf 80 = .ok (.getstatic 320, 3) := dk_178 1 64 (dk_at dksX8_valueOf_3 10 rfl rfl)
theorem dX8_valueOf_83 : decode cX8_valueOf 83 = .ok (.areturn, 1) := dk_176 (dk_at dksX8_valueOf_3 13 rfl rfl)
theorem dX8_valueOf_84 : decode cX8_valueOf 84 = .ok (.aload_n 0, 1) := dk_42 (dk_at dksX8_valueOf_3 14 rfl rfl)
theorem dX8_valueOf_85 : decode cX8_valueOf 85 = .ok (.ldc_w 323, 3) := dk_19 1 67 (dk_at dksX8_valueOf_3 15 rfl rfl)
theorem dX8_valueOf_88 : decode cX8_valueOf 88 = .ok (.invokevirtual 103, 3) := dk_182 0 103 (dk_at dksX8_valueOf_3 18 rfl rfl)
theorem dX8_valueOf_91 : decode cX8_valueOf 91 = .ok (.ifCond .eq 9, 3) := dk_153 0 9 (dk_at dksX8_valueOf_3 21 rfl rfl)
theorem dX8_valueOf_94 : decode cX8_valueOf 94 = .ok (.getstatic 325, 3) := dk_178 1 69 (dk_at dksX8_valueOf_4 0 rfl rfl)
theorem dX8_valueOf_97 : decode cX8_valueOf 97 = .ok (.goto 4, 3) := dk_167 0 4 (dk_at dksX8_valueOf_4 3 rfl rfl)
theorem dX8_valueOf_100 : decode cX8_valueOf 100 = .ok (.aconst_null, 1) := dk_1 (dk_at dksX8_valueOf_4 6 rfl rfl)
theorem dX8_valueOf_101 : decode cX8_valueOf 101 = .ok (.areturn, 1) := dk_176 (dk_at dksX8_valueOf_4 7 rfl rfl)
theorem q132 : (Jvm.Cond.initialized "SableCrown$Reader") ∈ lw_all := lw_g (lw_at lw_m1 28 rfl) rfl
theorem q525 : (Jvm.Cond.fieldLinkNest "SableCrown$Reader" (182 : Nat) "SableCrown$Land" "tax" "I" "SableCrown") ∈ lw_tbl := lw_at lw_m2 181 rfl
theorem q529 : (Jvm.Cond.fieldLinkNest "SableCrown$Reader" (186 : Nat) "SableCrown$Land" "fox" "I" "SableCrown") ∈ lw_tbl := lw_at lw_m2 185 rfl
theorem q533 : (Jvm.Cond.fieldLinkNest "SableCrown$Reader" (190 : Nat) "SableCrown$Land" "limit" "I" "SableCrown") ∈ lw_tbl := lw_at lw_m2 189 rfl
theorem q535 : (Jvm.Cond.fieldLinkNest "SableCrown$Reader" (150 : Nat) "SableCrown$Land" "rivers" "I" "SableCrown") ∈ lw_tbl := lw_at lw_m2 191 rfl
theorem q539 : (Jvm.Cond.fieldLinkNest "SableCrown$Reader" (128 : Nat) "SableCrown$Land" "forests" "Ljava/util/ArrayList;" "SableCrown") ∈ lw_tbl := lw_at lw_m2 195 rfl
theorem q543 : (Jvm.Cond.fieldLinkNest "SableCrown$Reader" (158 : Nat) "SableCrown$Land" "bands" "Ljava/util/ArrayList;" "SableCrown") ∈ lw_tbl := lw_at lw_m2 199 rfl
theorem q546 : (Jvm.Cond.fieldLinkNest "SableCrown$Reader" (171 : Nat) "SableCrown$Land" "forts" "Ljava/util/ArrayList;" "SableCrown") ∈ lw_tbl := lw_at lw_m2 202 rfl
theorem q548 : (Jvm.Cond.fieldLinkNest "SableCrown$Reader" (214 : Nat) "SableCrown$Land" "days" "[I" "SableCrown") ∈ lw_tbl := lw_at lw_m2 204 rfl
theorem q551 : (Jvm.Cond.fieldLinkNest "SableCrown$Reader" (198 : Nat) "SableCrown$Land" "hunts" "LSableCrown$Expr;" "SableCrown") ∈ lw_tbl := lw_at lw_m2 207 rfl
theorem q677 : (Jvm.Cond.selects "SableCrown$Reader" ({ cls := "java/lang/Object", name := "getClass", desc := "()Ljava/lang/Class;" } : Jvm.MethodName) ({ cls := "java/lang/Object", name := "getClass", desc := "()Ljava/lang/Class;" } : Jvm.MethodName)) ∈ lw_all := lw_g (lw_at lw_m3 93 rfl) rfl
theorem q969 : (Jvm.Cond.instantiable "SableCrown$Reader" (9 : Nat)) ∈ lw_all := lw_g (lw_at lw_m4 145 rfl) rfl
theorem q971 : (Jvm.Cond.instanceMethod ({ cls := "SableCrown$Reader", name := "<init>", desc := "([BI)V" } : Jvm.MethodName)) ∈ lw_all := lw_g (lw_at lw_m4 147 rfl) rfl
theorem q972 : (Jvm.Cond.code ({ cls := "SableCrown$Reader", name := "<init>", desc := "([BI)V" } : Jvm.MethodName) prog_10_method_1_code (3 : Nat) (Option.none : Option Jvm.ClassFile.FieldType)) ∈ lw_all := lw_g (lw_at lw_m4 148 rfl) rfl
theorem q973 : (Jvm.Cond.methodLink "SableCrown$Reader" (3 : Nat) ({ cls := "java/lang/Object", name := "<init>", desc := "()V" } : Jvm.MethodName)) ∈ lw_all := lw_g (lw_at lw_m4 149 rfl) rfl
theorem q974 : (Jvm.Cond.stringRef "SableCrown$Reader" (9 : Nat) "") ∈ lw_tbl := lw_at lw_m4 150 rfl
theorem q975 : (Jvm.Cond.methodLink "SableCrown$Reader" (29 : Nat) ({ cls := "SableCrown$Reader", name := "go", desc := "()V" } : Jvm.MethodName)) ∈ lw_all := lw_g (lw_at lw_m4 151 rfl) rfl
theorem q976 : (Jvm.Cond.privateMethod ({ cls := "SableCrown$Reader", name := "go", desc := "()V" } : Jvm.MethodName)) ∈ lw_tbl := lw_at lw_m4 152 rfl
theorem q977 : (Jvm.Cond.instanceMethod ({ cls := "SableCrown$Reader", name := "go", desc := "()V" } : Jvm.MethodName)) ∈ lw_all := lw_g (lw_at lw_m4 153 rfl) rfl
theorem q978 : (Jvm.Cond.code ({ cls := "SableCrown$Reader", name := "go", desc := "()V" } : Jvm.MethodName) prog_10_method_6_code (3 : Nat) (Option.none : Option Jvm.ClassFile.FieldType)) ∈ lw_all := lw_g (lw_at lw_m4 154 rfl) rfl
theorem q979 : (Jvm.Cond.methodLink "SableCrown$Reader" (35 : Nat) ({ cls := "SableCrown$Reader", name := "byteAt", desc := "(I)I" } : Jvm.MethodName)) ∈ lw_all := lw_g (lw_at lw_m4 155 rfl) rfl
theorem q980 : (Jvm.Cond.privateMethod ({ cls := "SableCrown$Reader", name := "byteAt", desc := "(I)I" } : Jvm.MethodName)) ∈ lw_tbl := lw_at lw_m4 156 rfl
theorem q981 : (Jvm.Cond.instanceMethod ({ cls := "SableCrown$Reader", name := "byteAt", desc := "(I)I" } : Jvm.MethodName)) ∈ lw_all := lw_g (lw_at lw_m4 157 rfl) rfl
theorem q982 : (Jvm.Cond.code ({ cls := "SableCrown$Reader", name := "byteAt", desc := "(I)I" } : Jvm.MethodName) prog_10_method_2_code (2 : Nat) (Option.some Jvm.ClassFile.FieldType.int)) ∈ lw_all := lw_g (lw_at lw_m4 158 rfl) rfl
theorem q983 : (Jvm.Cond.fieldLink "SableCrown$Reader" (46 : Nat) "SableCrown$Sort" "END" "LSableCrown$Sort;") ∈ lw_all := lw_g (lw_at lw_m4 159 rfl) rfl
theorem q985 : (Jvm.Cond.methodLink "SableCrown$Reader" (55 : Nat) ({ cls := "SableCrown$Reader", name := "isLetter", desc := "(I)Z" } : Jvm.MethodName)) ∈ lw_all := lw_g (lw_at lw_m4 161 rfl) rfl
theorem q986 : (Jvm.Cond.static ({ cls := "SableCrown$Reader", name := "isLetter", desc := "(I)Z" } : Jvm.MethodName)) ∈ lw_all := lw_g (lw_at lw_m4 162 rfl) rfl
theorem q987 : (Jvm.Cond.code ({ cls := "SableCrown$Reader", name := "isLetter", desc := "(I)Z" } : Jvm.MethodName) prog_10_method_3_code (1 : Nat) (Option.some Jvm.ClassFile.FieldType.boolean)) ∈ lw_all := lw_g (lw_at lw_m4 163 rfl) rfl
theorem q988 : (Jvm.Cond.classLink "SableCrown$Reader" (59 : Nat) "java/lang/StringBuilder") ∈ lw_all := lw_g (lw_at lw_m4 164 rfl) rfl
theorem q989 : (Jvm.Cond.methodLink "SableCrown$Reader" (61 : Nat) ({ cls := "java/lang/StringBuilder", name := "<init>", desc := "(I)V" } : Jvm.MethodName)) ∈ lw_all := lw_g (lw_at lw_m4 165 rfl) rfl
theorem q992 : (Jvm.Cond.methodLink "SableCrown$Reader" (64 : Nat) ({ cls := "java/lang/StringBuilder", name := "length", desc := "()I" } : Jvm.MethodName)) ∈ lw_all := lw_g (lw_at lw_m4 168 rfl) rfl
theorem q993 : (Jvm.Cond.methodLink "SableCrown$Reader" (68 : Nat) ({ cls := "java/lang/StringBuilder", name := "append", desc := "(C)Ljava/lang/StringBuilder;" } : Jvm.MethodName)) ∈ lw_all := lw_g (lw_at lw_m4 169 rfl) rfl
theorem q1013 : (Jvm.Cond.methodLink "SableCrown$Reader" (72 : Nat) ({ cls := "java/lang/StringBuilder", name := "toString", desc := "()Ljava/lang/String;" } : Jvm.MethodName)) ∈ lw_all := lw_g (lw_at lw_m4 189 rfl) rfl
theorem q1014 : (Jvm.Cond.fieldLink "SableCrown$Reader" (76 : Nat) "SableCrown$Sort" "WORD" "LSableCrown$Sort;") ∈ lw_all := lw_g (lw_at lw_m4 190 rfl) rfl
theorem q1016 : (Jvm.Cond.methodLink "SableCrown$Reader" (79 : Nat) ({ cls := "SableCrown$Reader", name := "isDigit", desc := "(I)Z" } : Jvm.MethodName)) ∈ lw_all := lw_g (lw_at lw_m4 192 rfl) rfl
theorem q1017 : (Jvm.Cond.static ({ cls := "SableCrown$Reader", name := "isDigit", desc := "(I)Z" } : Jvm.MethodName)) ∈ lw_all := lw_g (lw_at lw_m4 193 rfl) rfl
theorem q1018 : (Jvm.Cond.code ({ cls := "SableCrown$Reader", name := "isDigit", desc := "(I)Z" } : Jvm.MethodName) prog_10_method_4_code (1 : Nat) (Option.some Jvm.ClassFile.FieldType.boolean)) ∈ lw_all := lw_g (lw_at lw_m4 194 rfl) rfl
theorem q1019 : (Jvm.Cond.fieldLink "SableCrown$Reader" (85 : Nat) "SableCrown$Sort" "NUMBER" "LSableCrown$Sort;") ∈ lw_all := lw_g (lw_at lw_m4 195 rfl) rfl
theorem q1021 : (Jvm.Cond.methodLink "SableCrown$Reader" (88 : Nat) ({ cls := "SableCrown$Reader", name := "isSign", desc := "(I)Z" } : Jvm.MethodName)) ∈ lw_all := lw_g (lw_at lw_m4 197 rfl) rfl
theorem q1022 : (Jvm.Cond.static ({ cls := "SableCrown$Reader", name := "isSign", desc := "(I)Z" } : Jvm.MethodName)) ∈ lw_all := lw_g (lw_at lw_m4 198 rfl) rfl
theorem q1023 : (Jvm.Cond.code ({ cls := "SableCrown$Reader", name := "isSign", desc := "(I)Z" } : Jvm.MethodName) prog_10_method_5_code (1 : Nat) (Option.some Jvm.ClassFile.FieldType.boolean)) ∈ lw_all := lw_g (lw_at lw_m4 199 rfl) rfl
theorem q1024 : (Jvm.Cond.fieldLink "SableCrown$Reader" (91 : Nat) "SableCrown$Sort" "SIGN" "LSableCrown$Sort;") ∈ lw_all := lw_g (lw_at lw_m4 200 rfl) rfl
theorem q1026 : (Jvm.Cond.fieldLink "SableCrown$Reader" (94 : Nat) "SableCrown$Sort" "BAD" "LSableCrown$Sort;") ∈ lw_all := lw_g (lw_at lw_m4 202 rfl) rfl
theorem q1028 : (Jvm.Cond.methodLink "SableCrown$Reader" (97 : Nat) ({ cls := "java/lang/String", name := "valueOf", desc := "(C)Ljava/lang/String;" } : Jvm.MethodName)) ∈ lw_all := lw_g (lw_at lw_m4 204 rfl) rfl
theorem q1042 : (Jvm.Cond.fieldLink "SableCrown$Reader" (21 : Nat) "SableCrown$Reader" "text" "[B") ∈ lw_all := lw_g (lw_at lw_m4 218 rfl) rfl
theorem q1043 : (Jvm.Cond.fieldLink "SableCrown$Reader" (25 : Nat) "SableCrown$Reader" "size" "I") ∈ lw_all := lw_g (lw_at lw_m4 219 rfl) rfl
theorem q1044 : (Jvm.Cond.fieldLink "SableCrown$Reader" (32 : Nat) "SableCrown$Reader" "next" "I") ∈ lw_all := lw_g (lw_at lw_m4 220 rfl) rfl
theorem q1045 : (Jvm.Cond.fieldLink "SableCrown$Reader" (39 : Nat) "SableCrown$Reader" "place" "I") ∈ lw_all := lw_g (lw_at lw_m4 221 rfl) rfl
theorem q1046 : (Jvm.Cond.fieldLink "SableCrown$Reader" (82 : Nat) "SableCrown$Reader" "value" "I") ∈ lw_all := lw_g (lw_at lw_m4 222 rfl) rfl
theorem q1047 : (Jvm.Cond.fieldLink "SableCrown$Reader" (42 : Nat) "SableCrown$Reader" "isLong" "Z") ∈ lw_all := lw_g (lw_at lw_m4 223 rfl) rfl
theorem q1048 : (Jvm.Cond.fieldLink "SableCrown$Reader" (52 : Nat) "SableCrown$Reader" "sort" "LSableCrown$Sort;") ∈ lw_all := lw_g (lw_at lw_m4 224 rfl) rfl
theorem q1049 : (Jvm.Cond.fieldLink "SableCrown$Reader" (11 : Nat) "SableCrown$Reader" "word" "Ljava/lang/String;") ∈ lw_all := lw_g (lw_at lw_m4 225 rfl) rfl
theorem q1050 : (Jvm.Cond.fieldLink "SableCrown$Reader" (17 : Nat) "SableCrown$Reader" "has" "[Z") ∈ lw_all := lw_g (lw_at lw_m4 226 rfl) rfl
theorem q1051 : (Jvm.Cond.laysFinal "SableCrown$Reader" "SableCrown$Reader" "text" "[B") ∈ lw_all := lw_g (lw_at lw_m4 227 rfl) rfl
theorem q1052 : (Jvm.Cond.soleField "SableCrown$Reader" "text") ∈ lw_all := lw_g (lw_at lw_m4 228 rfl) rfl
theorem q1053 : (Jvm.Cond.laysFinal "SableCrown$Reader" "SableCrown$Reader" "size" "I") ∈ lw_all := lw_g (lw_at lw_m4 229 rfl) rfl
theorem q1054 : (Jvm.Cond.soleField "SableCrown$Reader" "size") ∈ lw_all := lw_g (lw_at lw_m4 230 rfl) rfl
theorem q1055 : (Jvm.Cond.lays "SableCrown$Reader" "SableCrown$Reader" "next" "I") ∈ lw_all := lw_g (lw_at lw_m4 231 rfl) rfl
theorem q1056 : (Jvm.Cond.soleField "SableCrown$Reader" "next") ∈ lw_all := lw_g (lw_at lw_m4 232 rfl) rfl
theorem q1057 : (Jvm.Cond.lays "SableCrown$Reader" "SableCrown$Reader" "place" "I") ∈ lw_all := lw_g (lw_at lw_m4 233 rfl) rfl
theorem q1058 : (Jvm.Cond.soleField "SableCrown$Reader" "place") ∈ lw_all := lw_g (lw_at lw_m4 234 rfl) rfl
theorem q1059 : (Jvm.Cond.lays "SableCrown$Reader" "SableCrown$Reader" "value" "I") ∈ lw_all := lw_g (lw_at lw_m4 235 rfl) rfl
theorem q1060 : (Jvm.Cond.soleField "SableCrown$Reader" "value") ∈ lw_all := lw_g (lw_at lw_m4 236 rfl) rfl
theorem q1061 : (Jvm.Cond.lays "SableCrown$Reader" "SableCrown$Reader" "isLong" "Z") ∈ lw_all := lw_g (lw_at lw_m4 237 rfl) rfl
theorem q1062 : (Jvm.Cond.soleField "SableCrown$Reader" "isLong") ∈ lw_all := lw_g (lw_at lw_m4 238 rfl) rfl
theorem q1063 : (Jvm.Cond.lays "SableCrown$Reader" "SableCrown$Reader" "sort" "LSableCrown$Sort;") ∈ lw_all := lw_g (lw_at lw_m4 239 rfl) rfl
theorem q1064 : (Jvm.Cond.soleField "SableCrown$Reader" "sort") ∈ lw_all := lw_g (lw_at lw_m5 0 rfl) rfl
theorem q1065 : (Jvm.Cond.lays "SableCrown$Reader" "SableCrown$Reader" "word" "Ljava/lang/String;") ∈ lw_all := lw_g (lw_at lw_m5 1 rfl) rfl
theorem q1066 : (Jvm.Cond.soleField "SableCrown$Reader" "word") ∈ lw_all := lw_g (lw_at lw_m5 2 rfl) rfl
theorem q1067 : (Jvm.Cond.laysFinal "SableCrown$Reader" "SableCrown$Reader" "has" "[Z") ∈ lw_all := lw_g (lw_at lw_m5 3 rfl) rfl
theorem q1068 : (Jvm.Cond.soleField "SableCrown$Reader" "has") ∈ lw_all := lw_g (lw_at lw_m5 4 rfl) rfl
theorem q1069 : (Jvm.Cond.superclass "SableCrown$Reader" "java/lang/Object") ∈ lw_all := lw_g (lw_at lw_m5 5 rfl) rfl
theorem q1072 : (Jvm.Cond.instanceMethod ({ cls := "SableCrown$Reader", name := "land", desc := "()LSableCrown$Land;" } : Jvm.MethodName)) ∈ lw_all := lw_g (lw_at lw_m5 8 rfl) rfl
theorem q1073 : (Jvm.Cond.selects "SableCrown$Reader" ({ cls := "SableCrown$Reader", name := "land", desc := "()LSableCrown$Land;" } : Jvm.MethodName) ({ cls := "SableCrown$Reader", name := "land", desc := "()LSableCrown$Land;" } : Jvm.MethodName)) ∈ lw_all := lw_g (lw_at lw_m5 9 rfl) rfl
theorem q1074 : (Jvm.Cond.code ({ cls := "SableCrown$Reader", name := "land", desc := "()LSableCrown$Land;" } : Jvm.MethodName) prog_10_method_14_code (5 : Nat) (Option.some (Jvm.ClassFile.FieldType.object "SableCrown$Land"))) ∈ lw_all := lw_g (lw_at lw_m5 10 rfl) rfl
theorem q1075 : (Jvm.Cond.classLink "SableCrown$Reader" (123 : Nat) "SableCrown$Land") ∈ lw_all := lw_g (lw_at lw_m5 11 rfl) rfl
theorem q1076 : (Jvm.Cond.methodLinkNest "SableCrown$Reader" (125 : Nat) ({ cls := "SableCrown$Land", name := "<init>", desc := "()V" } : Jvm.MethodName) "SableCrown") ∈ lw_tbl := lw_at lw_m5 12 rfl
theorem q1077 : (Jvm.Cond.stringRef "SableCrown$Reader" (126 : Nat) "forest") ∈ lw_tbl := lw_at lw_m5 13 rfl
theorem q1078 : (Jvm.Cond.methodLink "SableCrown$Reader" (112 : Nat) ({ cls := "SableCrown$Reader", name := "is", desc := "(Ljava/lang/String;)Z" } : Jvm.MethodName)) ∈ lw_all := lw_g (lw_at lw_m5 14 rfl) rfl
theorem q1079 : (Jvm.Cond.privateMethod ({ cls := "SableCrown$Reader", name := "is", desc := "(Ljava/lang/String;)Z" } : Jvm.MethodName)) ∈ lw_tbl := lw_at lw_m5 15 rfl
theorem q1080 : (Jvm.Cond.instanceMethod ({ cls := "SableCrown$Reader", name := "is", desc := "(Ljava/lang/String;)Z" } : Jvm.MethodName)) ∈ lw_all := lw_g (lw_at lw_m5 16 rfl) rfl
theorem q1081 : (Jvm.Cond.code ({ cls := "SableCrown$Reader", name := "is", desc := "(Ljava/lang/String;)Z" } : Jvm.MethodName) prog_10_method_7_code (2 : Nat) (Option.some Jvm.ClassFile.FieldType.boolean)) ∈ lw_all := lw_g (lw_at lw_m5 17 rfl) rfl
theorem q1082 : (Jvm.Cond.methodLink "SableCrown$Reader" (103 : Nat) ({ cls := "java/lang/String", name := "equals", desc := "(Ljava/lang/Object;)Z" } : Jvm.MethodName)) ∈ lw_all := lw_g (lw_at lw_m5 18 rfl) rfl
theorem q1089 : (Jvm.Cond.methodLink "SableCrown$Reader" (132 : Nat) ({ cls := "java/util/ArrayList", name := "size", desc := "()I" } : Jvm.MethodName)) ∈ lw_all := lw_g (lw_at lw_m5 25 rfl) rfl
theorem q1090 : (Jvm.Cond.methodLink "SableCrown$Reader" (116 : Nat) ({ cls := "SableCrown$Reader", name := "check", desc := "(ZI)V" } : Jvm.MethodName)) ∈ lw_all := lw_g (lw_at lw_m5 26 rfl) rfl
theorem q1091 : (Jvm.Cond.privateMethod ({ cls := "SableCrown$Reader", name := "check", desc := "(ZI)V" } : Jvm.MethodName)) ∈ lw_tbl := lw_at lw_m5 27 rfl
theorem q1092 : (Jvm.Cond.instanceMethod ({ cls := "SableCrown$Reader", name := "check", desc := "(ZI)V" } : Jvm.MethodName)) ∈ lw_all := lw_g (lw_at lw_m5 28 rfl) rfl
theorem q1093 : (Jvm.Cond.code ({ cls := "SableCrown$Reader", name := "check", desc := "(ZI)V" } : Jvm.MethodName) prog_10_method_8_code (3 : Nat) (Option.none : Option Jvm.ClassFile.FieldType)) ∈ lw_all := lw_g (lw_at lw_m5 29 rfl) rfl
theorem q1094 : (Jvm.Cond.classLink "SableCrown$Reader" (107 : Nat) "SableCrown$Fault") ∈ lw_all := lw_g (lw_at lw_m5 30 rfl) rfl
theorem q1103 : (Jvm.Cond.methodLink "SableCrown$Reader" (109 : Nat) ({ cls := "SableCrown$Fault", name := "<init>", desc := "(II)V" } : Jvm.MethodName)) ∈ lw_all := lw_g (lw_at lw_m5 39 rfl) rfl
theorem q1117 : (Jvm.Cond.methodLink "SableCrown$Reader" (136 : Nat) ({ cls := "SableCrown$Reader", name := "number", desc := "(II)I" } : Jvm.MethodName)) ∈ lw_all := lw_g (lw_at lw_m5 53 rfl) rfl
theorem q1118 : (Jvm.Cond.privateMethod ({ cls := "SableCrown$Reader", name := "number", desc := "(II)I" } : Jvm.MethodName)) ∈ lw_tbl := lw_at lw_m5 54 rfl
theorem q1119 : (Jvm.Cond.instanceMethod ({ cls := "SableCrown$Reader", name := "number", desc := "(II)I" } : Jvm.MethodName)) ∈ lw_all := lw_g (lw_at lw_m5 55 rfl) rfl
theorem q1120 : (Jvm.Cond.code ({ cls := "SableCrown$Reader", name := "number", desc := "(II)I" } : Jvm.MethodName) prog_10_method_10_code (4 : Nat) (Option.some Jvm.ClassFile.FieldType.int)) ∈ lw_all := lw_g (lw_at lw_m5 56 rfl) rfl
theorem q1121 : (Jvm.Cond.classLink "SableCrown$Reader" (140 : Nat) "SableCrown$Forest") ∈ lw_all := lw_g (lw_at lw_m5 57 rfl) rfl
theorem q1123 : (Jvm.Cond.methodLink "SableCrown$Reader" (142 : Nat) ({ cls := "SableCrown$Forest", name := "<init>", desc := "(IIII)V" } : Jvm.MethodName)) ∈ lw_all := lw_g (lw_at lw_m5 59 rfl) rfl
theorem q1144 : (Jvm.Cond.methodLink "SableCrown$Reader" (145 : Nat) ({ cls := "java/util/ArrayList", name := "add", desc := "(Ljava/lang/Object;)Z" } : Jvm.MethodName)) ∈ lw_all := lw_g (lw_at lw_m5 80 rfl) rfl
theorem q1145 : (Jvm.Cond.stringRef "SableCrown$Reader" (148 : Nat) "river") ∈ lw_tbl := lw_at lw_m5 81 rfl
theorem q1146 : (Jvm.Cond.methodLink "SableCrown$Reader" (153 : Nat) ({ cls := "SableCrown$Reader", name := "river", desc := "(LSableCrown$Land;)V" } : Jvm.MethodName)) ∈ lw_all := lw_g (lw_at lw_m5 82 rfl) rfl
theorem q1147 : (Jvm.Cond.privateMethod ({ cls := "SableCrown$Reader", name := "river", desc := "(LSableCrown$Land;)V" } : Jvm.MethodName)) ∈ lw_tbl := lw_at lw_m5 83 rfl
theorem q1148 : (Jvm.Cond.instanceMethod ({ cls := "SableCrown$Reader", name := "river", desc := "(LSableCrown$Land;)V" } : Jvm.MethodName)) ∈ lw_all := lw_g (lw_at lw_m5 84 rfl) rfl
theorem q1149 : (Jvm.Cond.code ({ cls := "SableCrown$Reader", name := "river", desc := "(LSableCrown$Land;)V" } : Jvm.MethodName) prog_10_method_15_code (5 : Nat) (Option.none : Option Jvm.ClassFile.FieldType)) ∈ lw_all := lw_g (lw_at lw_m5 85 rfl) rfl
theorem q1150 : (Jvm.Cond.methodLink "SableCrown$Reader" (161 : Nat) ({ cls := "SableCrown$Reader", name := "among", desc := "(I)I" } : Jvm.MethodName)) ∈ lw_all := lw_g (lw_at lw_m5 86 rfl) rfl
theorem q1151 : (Jvm.Cond.privateMethod ({ cls := "SableCrown$Reader", name := "among", desc := "(I)I" } : Jvm.MethodName)) ∈ lw_tbl := lw_at lw_m5 87 rfl
theorem q1152 : (Jvm.Cond.instanceMethod ({ cls := "SableCrown$Reader", name := "among", desc := "(I)I" } : Jvm.MethodName)) ∈ lw_all := lw_g (lw_at lw_m5 88 rfl) rfl
theorem q1153 : (Jvm.Cond.code ({ cls := "SableCrown$Reader", name := "among", desc := "(I)I" } : Jvm.MethodName) prog_10_method_13_code (3 : Nat) (Option.some Jvm.ClassFile.FieldType.int)) ∈ lw_all := lw_g (lw_at lw_m5 89 rfl) rfl
theorem q1154 : (Jvm.Cond.methodLink "SableCrown$Reader" (120 : Nat) ({ cls := "SableCrown$Reader", name := "amongHere", desc := "(I)I" } : Jvm.MethodName)) ∈ lw_all := lw_g (lw_at lw_m5 90 rfl) rfl
theorem q1155 : (Jvm.Cond.privateMethod ({ cls := "SableCrown$Reader", name := "amongHere", desc := "(I)I" } : Jvm.MethodName)) ∈ lw_tbl := lw_at lw_m5 91 rfl
theorem q1156 : (Jvm.Cond.instanceMethod ({ cls := "SableCrown$Reader", name := "amongHere", desc := "(I)I" } : Jvm.MethodName)) ∈ lw_all := lw_g (lw_at lw_m5 92 rfl) rfl
theorem q1157 : (Jvm.Cond.code ({ cls := "SableCrown$Reader", name := "amongHere", desc := "(I)I" } : Jvm.MethodName) prog_10_method_12_code (2 : Nat) (Option.some Jvm.ClassFile.FieldType.int)) ∈ lw_all := lw_g (lw_at lw_m5 93 rfl) rfl
theorem q1158 : (Jvm.Cond.methodLink "SableCrown$Reader" (210 : Nat) ({ cls := "SableCrown$Land", name := "hasRiver", desc := "(II)Z" } : Jvm.MethodName)) ∈ lw_all := lw_g (lw_at lw_m5 94 rfl) rfl
theorem q1162 : (Jvm.Cond.stringRef "SableCrown$Reader" (156 : Nat) "band") ∈ lw_tbl := lw_at lw_m5 98 rfl
theorem q1163 : (Jvm.Cond.classLink "SableCrown$Reader" (164 : Nat) "SableCrown$Band") ∈ lw_all := lw_g (lw_at lw_m5 99 rfl) rfl
theorem q1165 : (Jvm.Cond.methodLink "SableCrown$Reader" (166 : Nat) ({ cls := "SableCrown$Band", name := "<init>", desc := "(III)V" } : Jvm.MethodName)) ∈ lw_all := lw_g (lw_at lw_m5 101 rfl) rfl
theorem q1182 : (Jvm.Cond.stringRef "SableCrown$Reader" (169 : Nat) "fort") ∈ lw_tbl := lw_at lw_m5 118 rfl
theorem q1183 : (Jvm.Cond.methodLink "SableCrown$Reader" (174 : Nat) ({ cls := "SableCrown$Reader", name := "fort", desc := "(LSableCrown$Land;)V" } : Jvm.MethodName)) ∈ lw_all := lw_g (lw_at lw_m5 119 rfl) rfl
theorem q1184 : (Jvm.Cond.privateMethod ({ cls := "SableCrown$Reader", name := "fort", desc := "(LSableCrown$Land;)V" } : Jvm.MethodName)) ∈ lw_tbl := lw_at lw_m5 120 rfl
theorem q1185 : (Jvm.Cond.instanceMethod ({ cls := "SableCrown$Reader", name := "fort", desc := "(LSableCrown$Land;)V" } : Jvm.MethodName)) ∈ lw_all := lw_g (lw_at lw_m5 121 rfl) rfl
theorem q1186 : (Jvm.Cond.code ({ cls := "SableCrown$Reader", name := "fort", desc := "(LSableCrown$Land;)V" } : Jvm.MethodName) prog_10_method_16_code (4 : Nat) (Option.none : Option Jvm.ClassFile.FieldType)) ∈ lw_all := lw_g (lw_at lw_m5 122 rfl) rfl
theorem q1187 : (Jvm.Cond.methodLink "SableCrown$Reader" (218 : Nat) ({ cls := "java/util/ArrayList", name := "get", desc := "(I)Ljava/lang/Object;" } : Jvm.MethodName)) ∈ lw_all := lw_g (lw_at lw_m5 123 rfl) rfl
theorem q1188 : (Jvm.Cond.classLink "SableCrown$Reader" (222 : Nat) "java/lang/Integer") ∈ lw_all := lw_g (lw_at lw_m5 124 rfl) rfl
theorem q1189 : (Jvm.Cond.methodLink "SableCrown$Reader" (224 : Nat) ({ cls := "java/lang/Integer", name := "intValue", desc := "()I" } : Jvm.MethodName)) ∈ lw_all := lw_g (lw_at lw_m5 125 rfl) rfl
theorem q1193 : (Jvm.Cond.methodLink "SableCrown$Reader" (227 : Nat) ({ cls := "java/lang/Integer", name := "valueOf", desc := "(I)Ljava/lang/Integer;" } : Jvm.MethodName)) ∈ lw_all := lw_g (lw_at lw_m5 129 rfl) rfl
theorem q1213 : (Jvm.Cond.stringRef "SableCrown$Reader" (176 : Nat) "tax") ∈ lw_tbl := lw_at lw_m5 149 rfl
theorem q1214 : (Jvm.Cond.methodLink "SableCrown$Reader" (178 : Nat) ({ cls := "SableCrown$Reader", name := "begins", desc := "(Ljava/lang/String;I)Z" } : Jvm.MethodName)) ∈ lw_all := lw_g (lw_at lw_m5 150 rfl) rfl
theorem q1215 : (Jvm.Cond.privateMethod ({ cls := "SableCrown$Reader", name := "begins", desc := "(Ljava/lang/String;I)Z" } : Jvm.MethodName)) ∈ lw_tbl := lw_at lw_m5 151 rfl
theorem q1216 : (Jvm.Cond.instanceMethod ({ cls := "SableCrown$Reader", name := "begins", desc := "(Ljava/lang/String;I)Z" } : Jvm.MethodName)) ∈ lw_all := lw_g (lw_at lw_m5 152 rfl) rfl
theorem q1217 : (Jvm.Cond.code ({ cls := "SableCrown$Reader", name := "begins", desc := "(Ljava/lang/String;I)Z" } : Jvm.MethodName) prog_10_method_11_code (3 : Nat) (Option.some Jvm.ClassFile.FieldType.boolean)) ∈ lw_all := lw_g (lw_at lw_m5 153 rfl) rfl
theorem q1218 : (Jvm.Cond.stringRef "SableCrown$Reader" (184 : Nat) "fox") ∈ lw_tbl := lw_at lw_m5 154 rfl
theorem q1219 : (Jvm.Cond.stringRef "SableCrown$Reader" (188 : Nat) "limit") ∈ lw_tbl := lw_at lw_m5 155 rfl
theorem q1220 : (Jvm.Cond.stringRef "SableCrown$Reader" (192 : Nat) "hunts") ∈ lw_tbl := lw_at lw_m5 156 rfl
theorem q1221 : (Jvm.Cond.methodLink "SableCrown$Reader" (194 : Nat) ({ cls := "SableCrown$Reader", name := "expr", desc := "(I)LSableCrown$Expr;" } : Jvm.MethodName)) ∈ lw_all := lw_g (lw_at lw_m5 157 rfl) rfl
theorem q1222 : (Jvm.Cond.privateMethod ({ cls := "SableCrown$Reader", name := "expr", desc := "(I)LSableCrown$Expr;" } : Jvm.MethodName)) ∈ lw_tbl := lw_at lw_m5 158 rfl
theorem q1223 : (Jvm.Cond.instanceMethod ({ cls := "SableCrown$Reader", name := "expr", desc := "(I)LSableCrown$Expr;" } : Jvm.MethodName)) ∈ lw_all := lw_g (lw_at lw_m5 159 rfl) rfl
theorem q1224 : (Jvm.Cond.code ({ cls := "SableCrown$Reader", name := "expr", desc := "(I)LSableCrown$Expr;" } : Jvm.MethodName) prog_10_method_17_code (3 : Nat) (Option.some (Jvm.ClassFile.FieldType.object "SableCrown$Expr"))) ∈ lw_all := lw_g (lw_at lw_m5 160 rfl) rfl
theorem q1225 : (Jvm.Cond.stringRef "SableCrown$Reader" (230 : Nat) "(") ∈ lw_tbl := lw_at lw_m5 161 rfl
theorem q1226 : (Jvm.Cond.methodLink "SableCrown$Reader" (232 : Nat) ({ cls := "SableCrown$Reader", name := "and", desc := "(I)LSableCrown$Expr;" } : Jvm.MethodName)) ∈ lw_all := lw_g (lw_at lw_m5 162 rfl) rfl
theorem q1227 : (Jvm.Cond.privateMethod ({ cls := "SableCrown$Reader", name := "and", desc := "(I)LSableCrown$Expr;" } : Jvm.MethodName)) ∈ lw_tbl := lw_at lw_m5 163 rfl
theorem q1228 : (Jvm.Cond.instanceMethod ({ cls := "SableCrown$Reader", name := "and", desc := "(I)LSableCrown$Expr;" } : Jvm.MethodName)) ∈ lw_all := lw_g (lw_at lw_m5 164 rfl) rfl
theorem q1229 : (Jvm.Cond.code ({ cls := "SableCrown$Reader", name := "and", desc := "(I)LSableCrown$Expr;" } : Jvm.MethodName) prog_10_method_18_code (3 : Nat) (Option.some (Jvm.ClassFile.FieldType.object "SableCrown$Expr"))) ∈ lw_all := lw_g (lw_at lw_m5 165 rfl) rfl
theorem q1230 : (Jvm.Cond.methodLink "SableCrown$Reader" (242 : Nat) ({ cls := "SableCrown$Reader", name := "not", desc := "(I)LSableCrown$Expr;" } : Jvm.MethodName)) ∈ lw_all := lw_g (lw_at lw_m5 166 rfl) rfl
theorem q1231 : (Jvm.Cond.privateMethod ({ cls := "SableCrown$Reader", name := "not", desc := "(I)LSableCrown$Expr;" } : Jvm.MethodName)) ∈ lw_tbl := lw_at lw_m5 167 rfl
theorem q1232 : (Jvm.Cond.instanceMethod ({ cls := "SableCrown$Reader", name := "not", desc := "(I)LSableCrown$Expr;" } : Jvm.MethodName)) ∈ lw_all := lw_g (lw_at lw_m5 168 rfl) rfl
theorem q1233 : (Jvm.Cond.code ({ cls := "SableCrown$Reader", name := "not", desc := "(I)LSableCrown$Expr;" } : Jvm.MethodName) prog_10_method_19_code (5 : Nat) (Option.some (Jvm.ClassFile.FieldType.object "SableCrown$Expr"))) ∈ lw_all := lw_g (lw_at lw_m5 169 rfl) rfl
theorem q1234 : (Jvm.Cond.stringRef "SableCrown$Reader" (246 : Nat) "not") ∈ lw_tbl := lw_at lw_m5 170 rfl
theorem q1235 : (Jvm.Cond.methodLink "SableCrown$Reader" (247 : Nat) ({ cls := "SableCrown$Reader", name := "sum", desc := "(I)LSableCrown$Expr;" } : Jvm.MethodName)) ∈ lw_all := lw_g (lw_at lw_m5 171 rfl) rfl
theorem q1236 : (Jvm.Cond.privateMethod ({ cls := "SableCrown$Reader", name := "sum", desc := "(I)LSableCrown$Expr;" } : Jvm.MethodName)) ∈ lw_tbl := lw_at lw_m5 172 rfl
theorem q1237 : (Jvm.Cond.instanceMethod ({ cls := "SableCrown$Reader", name := "sum", desc := "(I)LSableCrown$Expr;" } : Jvm.MethodName)) ∈ lw_all := lw_g (lw_at lw_m5 173 rfl) rfl
theorem q1238 : (Jvm.Cond.code ({ cls := "SableCrown$Reader", name := "sum", desc := "(I)LSableCrown$Expr;" } : Jvm.MethodName) prog_10_method_20_code (4 : Nat) (Option.some (Jvm.ClassFile.FieldType.object "SableCrown$Expr"))) ∈ lw_all := lw_g (lw_at lw_m5 174 rfl) rfl
theorem q1239 : (Jvm.Cond.methodLink "SableCrown$Reader" (263 : Nat) ({ cls := "SableCrown$Reader", name := "product", desc := "(I)LSableCrown$Expr;" } : Jvm.MethodName)) ∈ lw_all := lw_g (lw_at lw_m5 175 rfl) rfl
theorem q1240 : (Jvm.Cond.privateMethod ({ cls := "SableCrown$Reader", name := "product", desc := "(I)LSableCrown$Expr;" } : Jvm.MethodName)) ∈ lw_tbl := lw_at lw_m5 176 rfl
theorem q1241 : (Jvm.Cond.instanceMethod ({ cls := "SableCrown$Reader", name := "product", desc := "(I)LSableCrown$Expr;" } : Jvm.MethodName)) ∈ lw_all := lw_g (lw_at lw_m5 177 rfl) rfl
theorem q1242 : (Jvm.Cond.code ({ cls := "SableCrown$Reader", name := "product", desc := "(I)LSableCrown$Expr;" } : Jvm.MethodName) prog_10_method_21_code (4 : Nat) (Option.some (Jvm.ClassFile.FieldType.object "SableCrown$Expr"))) ∈ lw_all := lw_g (lw_at lw_m5 178 rfl) rfl
theorem q1243 : (Jvm.Cond.methodLink "SableCrown$Reader" (270 : Nat) ({ cls := "SableCrown$Reader", name := "part", desc := "(I)LSableCrown$Expr;" } : Jvm.MethodName)) ∈ lw_all := lw_g (lw_at lw_m5 179 rfl) rfl
theorem q1244 : (Jvm.Cond.privateMethod ({ cls := "SableCrown$Reader", name := "part", desc := "(I)LSableCrown$Expr;" } : Jvm.MethodName)) ∈ lw_tbl := lw_at lw_m5 180 rfl
theorem q1245 : (Jvm.Cond.instanceMethod ({ cls := "SableCrown$Reader", name := "part", desc := "(I)LSableCrown$Expr;" } : Jvm.MethodName)) ∈ lw_all := lw_g (lw_at lw_m5 181 rfl) rfl
theorem q1246 : (Jvm.Cond.code ({ cls := "SableCrown$Reader", name := "part", desc := "(I)LSableCrown$Expr;" } : Jvm.MethodName) prog_10_method_22_code (3 : Nat) (Option.some (Jvm.ClassFile.FieldType.object "SableCrown$Expr"))) ∈ lw_all := lw_g (lw_at lw_m5 182 rfl) rfl
theorem q1247 : (Jvm.Cond.classLink "SableCrown$Reader" (277 : Nat) "SableCrown$Told") ∈ lw_all := lw_g (lw_at lw_m5 183 rfl) rfl
theorem q1249 : (Jvm.Cond.methodLink "SableCrown$Reader" (279 : Nat) ({ cls := "SableCrown$Told", name := "<init>", desc := "(I)V" } : Jvm.MethodName)) ∈ lw_all := lw_g (lw_at lw_m5 185 rfl) rfl
theorem q1260 : (Jvm.Cond.stringRef "SableCrown$Reader" (280 : Nat) ")") ∈ lw_tbl := lw_at lw_m5 196 rfl
theorem q1261 : (Jvm.Cond.methodLink "SableCrown$Reader" (203 : Nat) ({ cls := "SableCrown$Reader", name := "need", desc := "(Ljava/lang/String;)V" } : Jvm.MethodName)) ∈ lw_all := lw_g (lw_at lw_m5 197 rfl) rfl
theorem q1262 : (Jvm.Cond.privateMethod ({ cls := "SableCrown$Reader", name := "need", desc := "(Ljava/lang/String;)V" } : Jvm.MethodName)) ∈ lw_tbl := lw_at lw_m5 198 rfl
theorem q1263 : (Jvm.Cond.instanceMethod ({ cls := "SableCrown$Reader", name := "need", desc := "(Ljava/lang/String;)V" } : Jvm.MethodName)) ∈ lw_all := lw_g (lw_at lw_m5 199 rfl) rfl
theorem q1264 : (Jvm.Cond.code ({ cls := "SableCrown$Reader", name := "need", desc := "(Ljava/lang/String;)V" } : Jvm.MethodName) prog_10_method_9_code (2 : Nat) (Option.none : Option Jvm.ClassFile.FieldType)) ∈ lw_all := lw_g (lw_at lw_m5 200 rfl) rfl
theorem q1265 : (Jvm.Cond.methodLink "SableCrown$Reader" (282 : Nat) ({ cls := "SableCrown$Reader", name := "valueOf", desc := "(Ljava/lang/String;)LSableCrown$Value;" } : Jvm.MethodName)) ∈ lw_all := lw_g (lw_at lw_m5 201 rfl) rfl
theorem q1266 : (Jvm.Cond.static ({ cls := "SableCrown$Reader", name := "valueOf", desc := "(Ljava/lang/String;)LSableCrown$Value;" } : Jvm.MethodName)) ∈ lw_all := lw_g (lw_at lw_m5 202 rfl) rfl
theorem q1267 : (Jvm.Cond.code ({ cls := "SableCrown$Reader", name := "valueOf", desc := "(Ljava/lang/String;)LSableCrown$Value;" } : Jvm.MethodName) prog_10_method_23_code (1 : Nat) (Option.some (Jvm.ClassFile.FieldType.object "SableCrown$Value"))) ∈ lw_all := lw_g (lw_at lw_m5 203 rfl) rfl
theorem q1268 : (Jvm.Cond.stringRef "SableCrown$Reader" (290 : Nat) "bows") ∈ lw_tbl := lw_at lw_m5 204 rfl
theorem q1269 : (Jvm.Cond.fieldLink "SableCrown$Reader" (292 : Nat) "SableCrown$Value" "BOWS" "LSableCrown$Value;") ∈ lw_all := lw_g (lw_at lw_m5 205 rfl) rfl
theorem q1270 : (Jvm.Cond.stringRef "SableCrown$Reader" (298 : Nat) "sables") ∈ lw_tbl := lw_at lw_m5 206 rfl
theorem q1271 : (Jvm.Cond.fieldLink "SableCrown$Reader" (300 : Nat) "SableCrown$Value" "SABLES" "LSableCrown$Value;") ∈ lw_all := lw_g (lw_at lw_m5 207 rfl) rfl
theorem q1272 : (Jvm.Cond.stringRef "SableCrown$Reader" (303 : Nat) "owes") ∈ lw_tbl := lw_at lw_m5 208 rfl
theorem q1273 : (Jvm.Cond.fieldLink "SableCrown$Reader" (305 : Nat) "SableCrown$Value" "OWES" "LSableCrown$Value;") ∈ lw_all := lw_g (lw_at lw_m5 209 rfl) rfl
theorem q1274 : (Jvm.Cond.stringRef "SableCrown$Reader" (308 : Nat) "due") ∈ lw_tbl := lw_at lw_m5 210 rfl
theorem q1275 : (Jvm.Cond.fieldLink "SableCrown$Reader" (310 : Nat) "SableCrown$Value" "DUE" "LSableCrown$Value;") ∈ lw_all := lw_g (lw_at lw_m5 211 rfl) rfl
theorem q1276 : (Jvm.Cond.stringRef "SableCrown$Reader" (313 : Nat) "year") ∈ lw_tbl := lw_at lw_m5 212 rfl
theorem q1277 : (Jvm.Cond.fieldLink "SableCrown$Reader" (315 : Nat) "SableCrown$Value" "YEAR" "LSableCrown$Value;") ∈ lw_all := lw_g (lw_at lw_m5 213 rfl) rfl
theorem q1278 : (Jvm.Cond.stringRef "SableCrown$Reader" (318 : Nat) "store") ∈ lw_tbl := lw_at lw_m5 214 rfl
theorem q1279 : (Jvm.Cond.fieldLink "SableCrown$Reader" (320 : Nat) "SableCrown$Value" "STORE" "LSableCrown$Value;") ∈ lw_all := lw_g (lw_at lw_m5 215 rfl) rfl
theorem q1280 : (Jvm.Cond.stringRef "SableCrown$Reader" (323 : Nat) "others") ∈ lw_tbl := lw_at lw_m5 216 rfl
theorem q1281 : (Jvm.Cond.fieldLink "SableCrown$Reader" (325 : Nat) "SableCrown$Value" "OTHERS" "LSableCrown$Value;") ∈ lw_all := lw_g (lw_at lw_m5 217 rfl) rfl
theorem q1282 : (Jvm.Cond.classLink "SableCrown$Reader" (285 : Nat) "SableCrown$Seen") ∈ lw_all := lw_g (lw_at lw_m5 218 rfl) rfl
theorem q1284 : (Jvm.Cond.methodLink "SableCrown$Reader" (287 : Nat) ({ cls := "SableCrown$Seen", name := "<init>", desc := "(LSableCrown$Value;)V" } : Jvm.MethodName)) ∈ lw_all := lw_g (lw_at lw_m5 220 rfl) rfl
theorem q1292 : (Jvm.Cond.stringRef "SableCrown$Reader" (273 : Nat) "*") ∈ lw_tbl := lw_at lw_m5 228 rfl
theorem q1293 : (Jvm.Cond.stringRef "SableCrown$Reader" (275 : Nat) "/") ∈ lw_tbl := lw_at lw_m5 229 rfl
theorem q1294 : (Jvm.Cond.methodLink "SableCrown$Reader" (254 : Nat) ({ cls := "java/lang/String", name := "charAt", desc := "(I)C" } : Jvm.MethodName)) ∈ lw_all := lw_g (lw_at lw_m5 230 rfl) rfl
theorem q1309 : (Jvm.Cond.classLink "SableCrown$Reader" (237 : Nat) "SableCrown$Both") ∈ lw_all := lw_g (lw_at lw_m6 5 rfl) rfl
theorem q1311 : (Jvm.Cond.methodLink "SableCrown$Reader" (239 : Nat) ({ cls := "SableCrown$Both", name := "<init>", desc := "(CLSableCrown$Expr;LSableCrown$Expr;)V" } : Jvm.MethodName)) ∈ lw_all := lw_g (lw_at lw_m6 7 rfl) rfl
theorem q1325 : (Jvm.Cond.stringRef "SableCrown$Reader" (266 : Nat) "+") ∈ lw_tbl := lw_at lw_m6 21 rfl
theorem q1326 : (Jvm.Cond.stringRef "SableCrown$Reader" (268 : Nat) "-") ∈ lw_tbl := lw_at lw_m6 22 rfl
theorem q1327 : (Jvm.Cond.stringRef "SableCrown$Reader" (250 : Nat) "<") ∈ lw_tbl := lw_at lw_m6 23 rfl
theorem q1328 : (Jvm.Cond.stringRef "SableCrown$Reader" (252 : Nat) "=") ∈ lw_tbl := lw_at lw_m6 24 rfl
theorem q1329 : (Jvm.Cond.classLink "SableCrown$Reader" (258 : Nat) "SableCrown$Not") ∈ lw_all := lw_g (lw_at lw_m6 25 rfl) rfl
theorem q1331 : (Jvm.Cond.methodLink "SableCrown$Reader" (260 : Nat) ({ cls := "SableCrown$Not", name := "<init>", desc := "(LSableCrown$Expr;)V" } : Jvm.MethodName)) ∈ lw_all := lw_g (lw_at lw_m6 27 rfl) rfl
theorem q1339 : (Jvm.Cond.stringRef "SableCrown$Reader" (245 : Nat) "and") ∈ lw_tbl := lw_at lw_m6 35 rfl
theorem q1340 : (Jvm.Cond.stringRef "SableCrown$Reader" (235 : Nat) "or") ∈ lw_tbl := lw_at lw_m6 36 rfl
theorem q1341 : (Jvm.Cond.stringRef "SableCrown$Reader" (201 : Nat) ";") ∈ lw_tbl := lw_at lw_m6 37 rfl
theorem q1342 : (Jvm.Cond.methodLink "SableCrown$Reader" (207 : Nat) ({ cls := "SableCrown$Land", name := "measures", desc := "()V" } : Jvm.MethodName)) ∈ lw_all := lw_g (lw_at lw_m6 38 rfl) rfl
theorem q2314 : (Jvm.Cond.castable "SableCrown$Reader" "java/lang/Object") ∈ lw_tbl := lw_at lw_m10 50 rfl
theorem in_X8 : ∀ w ∈ wsX80, w ∈ lw_all := lw_in wsX80 [1051, 1053, 1055, 1057, 1059, 1061, 1063, 1065, 1067] (by decide +kernel) (by decide +kernel)
