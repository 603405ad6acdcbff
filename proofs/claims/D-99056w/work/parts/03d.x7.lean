/-! SableCrownModel -/
set_option maxRecDepth 100000
def RX7 : String := "SableCrownModel"
def TX7 : u_T := fun k => match k with
  | 0 => ("SableCrownModel", "values", "[Ljava/lang/String;", true)
  | 1 => ("SableCrownModel", "code", "I", false)
  | 2 => ("SableCrownModel", "told", "[I", true)
  | 3 => ("SableCrownModel", "sablesTold", "[I", true)
  | 4 => ("SableCrownModel", "blackTold", "[I", true)
  | 5 => ("SableCrownModel", "room", "[I", true)
  | 6 => ("SableCrownModel", "grows", "[I", true)
  | 7 => ("SableCrownModel", "river", "[I", true)
  | 8 => ("SableCrownModel", "bows", "[I", true)
  | 9 => ("SableCrownModel", "whereTold", "[I", true)
  | 10 => ("SableCrownModel", "seenTold", "[I", true)
  | 11 => ("SableCrownModel", "fort", "[I", true)
  | 12 => ("SableCrownModel", "signs", "[I", true)
  | 13 => ("SableCrownModel", "status", "[I", true)
  | 14 => ("SableCrownModel", "tape", "[I", true)
  | 15 => ("SableCrownModel", "taped", "I", false)
  | 16 => ("SableCrownModel", "at", "I", false)
  | 17 => ("SableCrownModel", "size", "I", false)
  | 18 => ("SableCrownModel", "token", "I", false)
  | 19 => ("SableCrownModel", "number", "I", false)
  | 20 => ("SableCrownModel", "begins", "I", false)
  | 21 => ("SableCrownModel", "stops", "I", false)
  | 22 => ("SableCrownModel", "bad", "I", false)
  | 23 => ("SableCrownModel", "badPlace", "I", false)
  | 24 => ("SableCrownModel", "faultPlace", "I", false)
  | 25 => ("SableCrownModel", "sables", "[I", true)
  | 26 => ("SableCrownModel", "black", "[I", true)
  | 27 => ("SableCrownModel", "rest", "[I", true)
  | 28 => ("SableCrownModel", "where", "[I", true)
  | 29 => ("SableCrownModel", "seen", "[I", true)
  | 30 => ("SableCrownModel", "store", "[I", true)
  | 31 => ("SableCrownModel", "owes", "[I", true)
  | 32 => ("SableCrownModel", "dead", "[I", true)
  | 33 => ("SableCrownModel", "past", "[I", true)
  | 34 => ("SableCrownModel", "year", "I", false)
  | 35 => ("SableCrownModel", "paid", "I", false)
  | 36 => ("SableCrownModel", "foxes", "I", false)
  | 37 => ("SableCrownModel", "acts", "I", false)
  | 38 => ("SableCrownModel", "spied", "I", false)
  | 39 => ("SableCrownModel", "asked", "[I", true)
  | 40 => ("SableCrownModel", "stack", "[I", true)
  | 41 => ("SableCrownModel", "blackIn", "I", false)
  | 42 => ("SableCrownModel", "rowThen", "[I", true)
  | 43 => ("SableCrownModel", "days", "[I", true)
  | 44 => ("SableCrownModel", "rounds", "[I", true)
  | 45 => ("SableCrownModel", "fars", "[I", true)
  | 46 => ("SableCrownModel", "spiedBand", "[I", true)
  | 47 => ("SableCrownModel", "spiedIn", "[I", true)
  | 48 => ("SableCrownModel", "spiedStore", "[I", true)
  | 49 => ("SableCrownModel", "rowSpied", "[I", true)
  | 50 => ("SableCrownModel", "fits", "[I", true)
  | 51 => ("SableCrownModel", "storesThen", "[I", true)
  | 52 => ("SableCrownModel", "fitMany", "I", false)
  | 53 => ("SableCrownModel", "seedNow", "I", false)
  | 54 => ("SableCrownModel", "hasImage", "Z", false)
  | 55 => ("SableCrownModel", "actsThen", "I", false)
  | 56 => ("SableCrownModel", "spiedThen", "I", false)
  | 57 => ("SableCrownModel", "imageRow", "[I", true)
  | 58 => ("SableCrownModel", "pastThen", "[I", true)
  | 59 => ("SableCrownModel", "spiedBandThen", "[I", true)
  | 60 => ("SableCrownModel", "spiedInThen", "[I", true)
  | 61 => ("SableCrownModel", "spiedStoreThen", "[I", true)
  | _ => ("SableCrownModel", "statusThen", "[I", true)
def tyX7 : Nat → FieldType := fun k => match k with
  | 0 => .array (.object "java/lang/String")
  | 1 => .int
  | 2 => .array .int
  | 3 => .array .int
  | 4 => .array .int
  | 5 => .array .int
  | 6 => .array .int
  | 7 => .array .int
  | 8 => .array .int
  | 9 => .array .int
  | 10 => .array .int
  | 11 => .array .int
  | 12 => .array .int
  | 13 => .array .int
  | 14 => .array .int
  | 15 => .int
  | 16 => .int
  | 17 => .int
  | 18 => .int
  | 19 => .int
  | 20 => .int
  | 21 => .int
  | 22 => .int
  | 23 => .int
  | 24 => .int
  | 25 => .array .int
  | 26 => .array .int
  | 27 => .array .int
  | 28 => .array .int
  | 29 => .array .int
  | 30 => .array .int
  | 31 => .array .int
  | 32 => .array .int
  | 33 => .array .int
  | 34 => .int
  | 35 => .int
  | 36 => .int
  | 37 => .int
  | 38 => .int
  | 39 => .array .int
  | 40 => .array .int
  | 41 => .int
  | 42 => .array .int
  | 43 => .array .int
  | 44 => .array .int
  | 45 => .array .int
  | 46 => .array .int
  | 47 => .array .int
  | 48 => .array .int
  | 49 => .array .int
  | 50 => .array .int
  | 51 => .array .int
  | 52 => .int
  | 53 => .int
  | 54 => .boolean
  | 55 => .int
  | 56 => .int
  | 57 => .array .int
  | 58 => .array .int
  | 59 => .array .int
  | 60 => .array .int
  | 61 => .array .int
  | _ => .array .int
abbrev wsX70 : List Cond := u_ws RX7 TX7 63
set_option maxRecDepth 100000 in
theorem nmX7 : ∀ a, a < 63 → ∀ b, b < 63 → a ≠ b → (TX7 a).2.1 ≠ (TX7 b).2.1 := by decide +kernel
set_option maxRecDepth 100000 in
theorem tyX7_ok : ∀ k, k < 63 → parseFieldDescriptor (TX7 k).2.2.1 = some (tyX7 k) := by decide +kernel
abbrev cX7_init : ByteArray := prog_18_method_1_code
def yX7_init : MethodName := ⟨RX7, "<init>", "()V"⟩
def dkwX7_init_17 : List UInt8 := [16, 6, 16, 20, 79, 177]
abbrev dktX7_init_17 : List UInt8 := dkwX7_init_17 ++ []
def dkwX7_init_16 : List UInt8 := [188, 10, 181, 0, 147, 42, 180, 0, 29, 7, 5, 79, 42, 180, 0, 29, 8, 6, 79, 42, 180, 0, 29]
abbrev dktX7_init_16 : List UInt8 := dkwX7_init_16 ++ dktX7_init_17
def dkwX7_init_15 : List UInt8 := [188, 10, 181, 0, 138, 42, 16, 8, 188, 10, 181, 0, 141, 42, 16, 8, 188, 10, 181, 0, 144, 42, 6]
abbrev dktX7_init_15 : List UInt8 := dkwX7_init_15 ++ dktX7_init_16
def dkwX7_init_14 : List UInt8 := [181, 0, 129, 42, 16, 57, 188, 10, 181, 0, 132, 42, 17, 8, 232, 188, 10, 181, 0, 135, 42, 16, 8]
abbrev dktX7_init_14 : List UInt8 := dkwX7_init_14 ++ dktX7_init_15
def dkwX7_init_13 : List UInt8 := [16, 57, 188, 10, 181, 0, 123, 42, 17, 0, 180, 188, 10, 181, 0, 126, 42, 17, 4, 56, 188, 10]
abbrev dktX7_init_13 : List UInt8 := dkwX7_init_13 ++ dktX7_init_14
def dkwX7_init_12 : List UInt8 := [16, 8, 188, 10, 181, 0, 114, 42, 16, 8, 188, 10, 181, 0, 117, 42, 16, 8, 188, 10, 181, 0, 120, 42]
abbrev dktX7_init_12 : List UInt8 := dkwX7_init_12 ++ dktX7_init_13
def dkwX7_init_11 : List UInt8 := [188, 10, 181, 0, 105, 42, 17, 8, 0, 188, 10, 181, 0, 108, 42, 16, 64, 188, 10, 181, 0, 111, 42]
abbrev dktX7_init_11 : List UInt8 := dkwX7_init_11 ++ dktX7_init_12
def dkwX7_init_10 : List UInt8 := [188, 10, 181, 0, 96, 42, 16, 64, 188, 10, 181, 0, 99, 42, 16, 57, 188, 10, 181, 0, 102, 42, 16, 8]
abbrev dktX7_init_10 : List UInt8 := dkwX7_init_10 ++ dktX7_init_11
def dkwX7_init_9 : List UInt8 := [181, 0, 88, 42, 16, 6, 188, 10, 181, 0, 90, 42, 17, 8, 232, 188, 10, 181, 0, 93, 42, 16, 7]
abbrev dktX7_init_9 : List UInt8 := dkwX7_init_9 ++ dktX7_init_10
def dkwX7_init_8 : List UInt8 := [181, 0, 80, 42, 16, 6, 188, 10, 181, 0, 83, 42, 16, 6, 188, 10, 181, 0, 86, 42, 16, 6, 188, 10]
abbrev dktX7_init_8 : List UInt8 := dkwX7_init_8 ++ dktX7_init_9
def dkwX7_init_7 : List UInt8 := [181, 0, 72, 42, 16, 8, 188, 10, 181, 0, 74, 42, 16, 8, 188, 10, 181, 0, 77, 42, 16, 6, 188, 10]
abbrev dktX7_init_7 : List UInt8 := dkwX7_init_7 ++ dktX7_init_8
def dkwX7_init_6 : List UInt8 := [188, 10, 181, 0, 62, 42, 17, 2, 188, 188, 10, 181, 0, 65, 42, 2, 181, 0, 68, 42, 16, 8, 188, 10]
abbrev dktX7_init_6 : List UInt8 := dkwX7_init_6 ++ dktX7_init_7
def dkwX7_init_5 : List UInt8 := [188, 10, 181, 0, 53, 42, 16, 6, 188, 10, 181, 0, 56, 42, 17, 5, 120, 188, 10, 181, 0, 59, 42, 6]
abbrev dktX7_init_5 : List UInt8 := dkwX7_init_5 ++ dktX7_init_6
def dkwX7_init_4 : List UInt8 := [188, 10, 181, 0, 45, 42, 16, 12, 188, 10, 181, 0, 48, 42, 16, 12, 188, 10, 181, 0, 50, 42, 16, 12]
abbrev dktX7_init_4 : List UInt8 := dkwX7_init_4 ++ dktX7_init_5
def dkwX7_init_3 : List UInt8 := [181, 0, 36, 42, 16, 16, 188, 10, 181, 0, 39, 42, 16, 16, 188, 10, 181, 0, 42, 42, 17, 0, 128]
abbrev dktX7_init_3 : List UInt8 := dkwX7_init_3 ++ dktX7_init_4
def dkwX7_init_2 : List UInt8 := [181, 0, 25, 42, 16, 16, 188, 10, 181, 0, 29, 42, 16, 16, 188, 10, 181, 0, 33, 42, 16, 16, 188, 10]
abbrev dktX7_init_2 : List UInt8 := dkwX7_init_2 ++ dktX7_init_3
def dkwX7_init_1 : List UInt8 := [83, 89, 6, 18, 17, 83, 89, 7, 18, 19, 83, 89, 8, 18, 21, 83, 89, 16, 6, 18, 23, 83]
abbrev dktX7_init_1 : List UInt8 := dkwX7_init_1 ++ dktX7_init_2
def dkwX7_init_0 : List UInt8 := [42, 183, 0, 3, 42, 16, 7, 189, 0, 9, 89, 3, 18, 11, 83, 89, 4, 18, 13, 83, 89, 5, 18, 15]
abbrev dktX7_init_0 : List UInt8 := dkwX7_init_0 ++ dktX7_init_1
theorem dksX7_init_0 : cX7_init.data.toList.drop 0 = dktX7_init_0 := by decide +kernel
theorem dksX7_init_1 : cX7_init.data.toList.drop 24 = dktX7_init_1 := dk_seg dksX7_init_0 24 rfl rfl
theorem dksX7_init_2 : cX7_init.data.toList.drop 46 = dktX7_init_2 := dk_seg dksX7_init_1 22 rfl rfl
theorem dksX7_init_3 : cX7_init.data.toList.drop 70 = dktX7_init_3 := dk_seg dksX7_init_2 24 rfl rfl
theorem dksX7_init_4 : cX7_init.data.toList.drop 93 = dktX7_init_4 := dk_seg dksX7_init_3 23 rfl rfl
theorem dksX7_init_5 : cX7_init.data.toList.drop 117 = dktX7_init_5 := dk_seg dksX7_init_4 24 rfl rfl
theorem dksX7_init_6 : cX7_init.data.toList.drop 141 = dktX7_init_6 := dk_seg dksX7_init_5 24 rfl rfl
theorem dksX7_init_7 : cX7_init.data.toList.drop 165 = dktX7_init_7 := dk_seg dksX7_init_6 24 rfl rfl
theorem dksX7_init_8 : cX7_init.data.toList.drop 189 = dktX7_init_8 := dk_seg dksX7_init_7 24 rfl rfl
theorem dksX7_init_9 : cX7_init.data.toList.drop 213 = dktX7_init_9 := dk_seg dksX7_init_8 24 rfl rfl
theorem dksX7_init_10 : cX7_init.data.toList.drop 236 = dktX7_init_10 := dk_seg dksX7_init_9 23 rfl rfl
theorem dksX7_init_11 : cX7_init.data.toList.drop 260 = dktX7_init_11 := dk_seg dksX7_init_10 24 rfl rfl
theorem dksX7_init_12 : cX7_init.data.toList.drop 283 = dktX7_init_12 := dk_seg dksX7_init_11 23 rfl rfl
theorem dksX7_init_13 : cX7_init.data.toList.drop 307 = dktX7_init_13 := dk_seg dksX7_init_12 24 rfl rfl
theorem dksX7_init_14 : cX7_init.data.toList.drop 329 = dktX7_init_14 := dk_seg dksX7_init_13 22 rfl rfl
theorem dksX7_init_15 : cX7_init.data.toList.drop 352 = dktX7_init_15 := dk_seg dksX7_init_14 23 rfl rfl
theorem dksX7_init_16 : cX7_init.data.toList.drop 375 = dktX7_init_16 := dk_seg dksX7_init_15 23 rfl rfl
theorem dksX7_init_17 : cX7_init.data.toList.drop 398 = dktX7_init_17 := dk_seg dksX7_init_16 23 rfl rfl
theorem dX7_init_0 : decode cX7_init 0 = .ok (.aload_n 0, 1) := dk_42 (dk_at dksX7_init_0 0 rfl rfl)
theorem dX7_init_1 : decode cX7_init 1 = .ok (.invokespecial 3, 3) := dk_183 0 3 (dk_at dksX7_init_0 1 rfl rfl)
theorem dX7_init_4 : decode cX7_init 4 = .ok (.aload_n 0, 1) := dk_42 (dk_at dksX7_init_0 4 rfl rfl)
theorem dX7_init_5 : decode cX7_init 5 = .ok (.bipush 7, 2) := dk_16 7 (dk_at dksX7_init_0 5 rfl rfl)
theorem dX7_init_7 : decode cX7_init 7 = .ok (.anewarray 9, 3) := dk_189 0 9 (dk_at dksX7_init_0 7 rfl rfl)
theorem dX7_init_10 : decode cX7_init 10 = .ok (.dup, 1) := dk_89 (dk_at dksX7_init_0 10 rfl rfl)
theorem dX7_init_11 : decode cX7_init 11 = .ok (.iconst 0, 1) := dk_3 (dk_at dksX7_init_0 11 rfl rfl)
theorem dX7_init_12 : decode cX7_init 12 = .ok (.ldc 11, 2) := dk_18 11 (dk_at dksX7_init_0 12 rfl rfl)
theorem dX7_init_14 : decode cX7_init 14 = .ok (.aastore, 1) := dk_83 (dk_at dksX7_init_0 14 rfl rfl)
theorem dX7_init_15 : decode cX7_init 15 = .ok (.dup, 1) := dk_89 (dk_at dksX7_init_0 15 rfl rfl)
theorem dX7_init_16 : decode cX7_init 16 = .ok (.iconst 1, 1) := dk_4 (dk_at dksX7_init_0 16 rfl rfl)
theorem dX7_init_17 : decode cX7_init 17 = .ok (.ldc 13, 2) := dk_18 13 (dk_at dksX7_init_0 17 rfl rfl)
theorem dX7_init_19 : decode cX7_init 19 = .ok (.aastore, 1) := dk_83 (dk_at dksX7_init_0 19 rfl rfl)
theorem dX7_init_20 : decode cX7_init 20 = .ok (.dup, 1) := dk_89 (dk_at dksX7_init_0 20 rfl rfl)
theorem dX7_init_21 : decode cX7_init 21 = .ok (.iconst 2, 1) := dk_5 (dk_at dksX7_init_0 21 rfl rfl)
theorem dX7_init_22 : decode cX7_init 22 = .ok (.ldc 15, 2) := dk_18 15 (dk_at dksX7_init_0 22 rfl rfl)
theorem dX7_init_24 : decode cX7_init 24 = .ok (.aastore, 1) := dk_83 (dk_at dksX7_init_1 0 rfl rfl)
theorem dX7_init_25 : decode cX7_init 25 = .ok (.dup, 1) := dk_89 (dk_at dksX7_init_1 1 rfl rfl)
theorem dX7_init_26 : decode cX7_init 26 = .ok (.iconst 3, 1) := dk_6 (dk_at dksX7_init_1 2 rfl rfl)
theorem dX7_init_27 : decode cX7_init 27 = .ok (.ldc 17, 2) := dk_18 17 (dk_at dksX7_init_1 3 rfl rfl)
theorem dX7_init_29 : decode cX7_init 29 = .ok (.aastore, 1) := dk_83 (dk_at dksX7_init_1 5 rfl rfl)
theorem dX7_init_30 : decode cX7_init 30 = .ok (.dup, 1) := dk_89 (dk_at dksX7_init_1 6 rfl rfl)
theorem dX7_init_31 : decode cX7_init 31 = .ok (.iconst 4, 1) := dk_7 (dk_at dksX7_init_1 7 rfl rfl)
theorem dX7_init_32 : decode cX7_init 32 = .ok (.ldc 19, 2) := dk_18 19 (dk_at dksX7_init_1 8 rfl rfl)
theorem dX7_init_34 : decode cX7_init 34 = .ok (.aastore, 1) := dk_83 (dk_at dksX7_init_1 10 rfl rfl)
theorem dX7_init_35 : decode cX7_init 35 = .ok (.dup, 1) := dk_89 (dk_at dksX7_init_1 11 rfl rfl)
theorem dX7_init_36 : decode cX7_init 36 = .ok (.iconst 5, 1) := dk_8 (dk_at dksX7_init_1 12 rfl rfl)
theorem dX7_init_37 : decode cX7_init 37 = .ok (.ldc 21, 2) := dk_18 21 (dk_at dksX7_init_1 13 rfl rfl)
theorem dX7_init_39 : decode cX7_init 39 = .ok (.aastore, 1) := dk_83 (dk_at dksX7_init_1 15 rfl rfl)
theorem dX7_init_40 : decode cX7_init 40 = .ok (.dup, 1) := dk_89 (dk_at dksX7_init_1 16 rfl rfl)
theorem dX7_init_41 : decode cX7_init 41 = .ok (.bipush 6, 2) := dk_16 6 (dk_at dksX7_init_1 17 rfl rfl)
theorem dX7_init_43 : decode cX7_init 43 = .ok (.ldc 23, 2) := dk_18 23 (dk_at dksX7_init_1 19 rfl rfl)
theorem dX7_init_45 : decode cX7_init 45 = .ok (.aastore, 1) := dk_83 (dk_at dksX7_init_1 21 rfl rfl)
theorem dX7_init_46 : decode cX7_init 46 = .ok (.putfield 25, 3) := dk_181 0 25 (dk_at dksX7_init_2 0 rfl rfl)
theorem dX7_init_49 : decode cX7_init 49 = .ok (.aload_n 0, 1) := dk_42 (dk_at dksX7_init_2 3 rfl rfl)
theorem dX7_init_50 : decode cX7_init 50 = .ok (.bipush 16, 2) := dk_16 16 (dk_at dksX7_init_2 4 rfl rfl)
theorem dX7_init_52 : decode cX7_init 52 = .ok (.newarray .int, 2) := dk_188_10 (dk_at dksX7_init_2 6 rfl rfl)
theorem dX7_init_54 : decode cX7_init 54 = .ok (.putfield 29, 3) := dk_181 0 29 (dk_at dksX7_init_2 8 rfl rfl)
theorem dX7_init_57 : decode cX7_init 57 = .ok (.aload_n 0, 1) := dk_42 (dk_at dksX7_init_2 11 rfl rfl)
theorem dX7_init_58 : decode cX7_init 58 = .ok (.bipush 16, 2) := dk_16 16 (dk_at dksX7_init_2 12 rfl rfl)
theorem dX7_init_60 : decode cX7_init 60 = .ok (.newarray .int, 2) := dk_188_10 (dk_at dksX7_init_2 14 rfl rfl)
theorem dX7_init_62 : decode cX7_init 62 = .ok (.putfield 33, 3) := dk_181 0 33 (dk_at dksX7_init_2 16 rfl rfl)
theorem dX7_init_65 : decode cX7_init 65 = .ok (.aload_n 0, 1) := dk_42 (dk_at dksX7_init_2 19 rfl rfl)
theorem dX7_init_66 : decode cX7_init 66 = .ok (.bipush 16, 2) := dk_16 16 (dk_at dksX7_init_2 20 rfl rfl)
theorem dX7_init_68 : decode cX7_init 68 = .ok (.newarray .int, 2) := dk_188_10 (dk_at dksX7_init_2 22 rfl rfl)
theorem dX7_init_70 : decode cX7_init 70 = .ok (.putfield 36, 3) := dk_181 0 36 (dk_at dksX7_init_3 0 rfl rfl)
theorem dX7_init_73 : decode cX7_init 73 = .ok (.aload_n 0, 1) := dk_42 (dk_at dksX7_init_3 3 rfl rfl)
theorem dX7_init_74 : decode cX7_init 74 = .ok (.bipush 16, 2) := dk_16 16 (dk_at dksX7_init_3 4 rfl rfl)
theorem dX7_init_76 : decode cX7_init 76 = .ok (.newarray .int, 2) := dk_188_10 (dk_at dksX7_init_3 6 rfl rfl)
theorem dX7_init_78 : decode cX7_init 78 = .ok (.putfield 39, 3) := dk_181 0 39 (dk_at dksX7_init_3 8 rfl rfl)
theorem dX7_init_81 : decode cX7_init 81 = .ok (.aload_n 0, 1) := dk_42 (dk_at dksX7_init_3 11 rfl rfl)
theorem dX7_init_82 : decode cX7_init 82 = .ok (.bipush 16, 2) := dk_16 16 (dk_at dksX7_init_3 12 rfl rfl)
theorem dX7_init_84 : decode cX7_init 84 = .ok (.newarray .int, 2) := dk_188_10 (dk_at dksX7_init_3 14 rfl rfl)
theorem dX7_init_86 : decode cX7_init 86 = .ok (.putfield 42, 3) := dk_181 0 42 (dk_at dksX7_init_3 16 rfl rfl)
theorem dX7_init_89 : decode cX7_init 89 = .ok (.aload_n 0, 1) := dk_42 (dk_at dksX7_init_3 19 rfl rfl)
theorem dX7_init_90 : decode cX7_init 90 = .ok (.sipush 128, 3) := dk_17 0 128 (dk_at dksX7_init_3 20 rfl rfl)
theorem dX7_init_93 : decode cX7_init 93 = .ok (.newarray .int, 2) := dk_188_10 (dk_at dksX7_init_4 0 rfl rfl)
theorem dX7_init_95 : decode cX7_init 95 = .ok (.putfield 45, 3) := dk_181 0 45 (dk_at dksX7_init_4 2 rfl rfl)
theorem dX7_init_98 : decode cX7_init 98 = .ok (.aload_n 0, 1) := dk_42 (dk_at dksX7_init_4 5 rfl rfl)
theorem dX7_init_99 : decode cX7_init 99 = .ok (.bipush 12, 2) := dk_16 12 (dk_at dksX7_init_4 6 rfl rfl)
theorem dX7_init_101 : decode cX7_init 101 = .ok (.newarray .int, 2) := dk_188_10 (dk_at dksX7_init_4 8 rfl rfl)
theorem dX7_init_103 : decode cX7_init 103 = .ok (.putfield 48, 3) := dk_181 0 48 (dk_at dksX7_init_4 10 rfl rfl)
theorem dX7_init_106 : decode cX7_init 106 = .ok (.aload_n 0, 1) := dk_42 (dk_at dksX7_init_4 13 rfl rfl)
theorem dX7_init_107 : decode cX7_init 107 = .ok (.bipush 12, 2) := dk_16 12 (dk_at dksX7_init_4 14 rfl rfl)
theorem dX7_init_109 : decode cX7_init 109 = .ok (.newarray .int, 2) := dk_188_10 (dk_at dksX7_init_4 16 rfl rfl)
theorem dX7_init_111 : decode cX7_init 111 = .ok (.putfield 50, 3) := dk_181 0 50 (dk_at dksX7_init_4 18 rfl rfl)
theorem dX7_init_114 : decode cX7_init 114 = .ok (.aload_n 0, 1) := dk_42 (dk_at dksX7_init_4 21 rfl rfl)
theorem dX7_init_115 : decode cX7_init 115 = .ok (.bipush 12, 2) := dk_16 12 (dk_at dksX7_init_4 22 rfl rfl)
theorem dX7_init_117 : decode cX7_init 117 = .ok (.newarray .int, 2) := dk_188_10 (dk_at dksX7_init_5 0 rfl rfl)
theorem dX7_init_119 : decode cX7_init 119 = .ok (.putfield 53, 3) := dk_181 0 53 (dk_at dksX7_init_5 2 rfl rfl)
theorem dX7_init_122 : decode cX7_init 122 = .ok (.aload_n 0, 1) := dk_42 (dk_at dksX7_init_5 5 rfl rfl)
theorem dX7_init_123 : decode cX7_init 123 = .ok (.bipush 6, 2) := dk_16 6 (dk_at dksX7_init_5 6 rfl rfl)
theorem dX7_init_125 : decode cX7_init 125 = .ok (.newarray .int, 2) := dk_188_10 (dk_at dksX7_init_5 8 rfl rfl)
theorem dX7_init_127 : decode cX7_init 127 = .ok (.putfield 56, 3) := dk_181 0 56 (dk_at dksX7_init_5 10 rfl rfl)
theorem dX7_init_130 : decode cX7_init 130 = .ok (.aload_n 0, 1) := dk_42 (dk_at dksX7_init_5 13 rfl rfl)
theorem dX7_init_131 : decode cX7_init 131 = .ok (.sipush 1400, 3) := dk_17 5 120 (dk_at dksX7_init_5 14 rfl rfl)
theorem dX7_init_134 : decode cX7_init 134 = .ok (.newarray .int, 2) := dk_188_10 (dk_at dksX7_init_5 17 rfl rfl)
theorem dX7_init_136 : decode cX7_init 136 = .ok (.putfield 59, 3) := dk_181 0 59 (dk_at dksX7_init_5 19 rfl rfl)
theorem dX7_init_139 : decode cX7_init 139 = .ok (.aload_n 0, 1) := dk_42 (dk_at dksX7_init_5 22 rfl rfl)
theorem dX7_init_140 : decode cX7_init 140 = .ok (.iconst 3, 1) := dk_6 (dk_at dksX7_init_5 23 rfl rfl)
theorem dX7_init_141 : decode cX7_init 141 = .ok (.newarray .int, 2) := dk_188_10 (dk_at dksX7_init_6 0 rfl rfl)
theorem dX7_init_143 : decode cX7_init 143 = .ok (.putfield 62, 3) := dk_181 0 62 (dk_at dksX7_init_6 2 rfl rfl)
theorem dX7_init_146 : decode cX7_init 146 = .ok (.aload_n 0, 1) := dk_42 (dk_at dksX7_init_6 5 rfl rfl)
theorem dX7_init_147 : decode cX7_init 147 = .ok (.sipush 700, 3) := dk_17 2 188 (dk_at dksX7_init_6 6 rfl rfl)
theorem dX7_init_150 : decode cX7_init 150 = .ok (.newarray .int, 2) := dk_188_10 (dk_at dksX7_init_6 9 rfl rfl)
theorem dX7_init_152 : decode cX7_init 152 = .ok (.putfield 65, 3) := dk_181 0 65 (dk_at dksX7_init_6 11 rfl rfl)
theorem dX7_init_155 : decode cX7_init 155 = .ok (.aload_n 0, 1) := dk_42 (dk_at dksX7_init_6 14 rfl rfl)
theorem dX7_init_156 : decode cX7_init 156 = .ok (.iconst (-1), 1) := dk_2 (dk_at dksX7_init_6 15 rfl rfl)
theorem dX7_init_157 : decode cX7_init 157 = .ok (.putfield 68, 3) := dk_181 0 68 (dk_at dksX7_init_6 16 rfl rfl)
theorem dX7_init_160 : decode cX7_init 160 = .ok (.aload_n 0, 1) := dk_42 (dk_at dksX7_init_6 19 rfl rfl)
theorem dX7_init_161 : decode cX7_init 161 = .ok (.bipush 8, 2) := dk_16 8 (dk_at dksX7_init_6 20 rfl rfl)
theorem dX7_init_163 : decode cX7_init 163 = .ok (.newarray .int, 2) := dk_188_10 (dk_at dksX7_init_6 22 rfl rfl)
theorem dX7_init_165 : decode cX7_init 165 = .ok (.putfield 72, 3) := dk_181 0 72 (dk_at dksX7_init_7 0 rfl rfl)
theorem dX7_init_168 : decode cX7_init 168 = .ok (.aload_n 0, 1) := dk_42 (dk_at dksX7_init_7 3 rfl rfl)
theorem dX7_init_169 : decode cX7_init 169 = .ok (.bipush 8, 2) := dk_16 8 (dk_at dksX7_init_7 4 rfl rfl)
theorem dX7_init_171 : decode cX7_init 171 = .ok (.newarray .int, 2) := dk_188_10 (dk_at dksX7_init_7 6 rfl rfl)
theorem dX7_init_173 : decode cX7_init 173 = .ok (.putfield 74, 3) := dk_181 0 74 (dk_at dksX7_init_7 8 rfl rfl)
theorem dX7_init_176 : decode cX7_init 176 = .ok (.aload_n 0, 1) := dk_42 (dk_at dksX7_init_7 11 rfl rfl)
theorem dX7_init_177 : decode cX7_init 177 = .ok (.bipush 8, 2) := dk_16 8 (dk_at dksX7_init_7 12 rfl rfl)
theorem dX7_init_179 : decode cX7_init 179 = .ok (.newarray .int, 2) := dk_188_10 (dk_at dksX7_init_7 14 rfl rfl)
theorem dX7_init_181 : decode cX7_init 181 = .ok (.putfield 77, 3) := dk_181 0 77 (dk_at dksX7_init_7 16 rfl rfl)
theorem dX7_init_184 : decode cX7_init 184 = .ok (.aload_n 0, 1) := dk_42 (dk_at dksX7_init_7 19 rfl rfl)
theorem dX7_init_185 : decode cX7_init 185 = .ok (.bipush 6, 2) := dk_16 6 (dk_at dksX7_init_7 20 rfl rfl)
theorem dX7_init_187 : decode cX7_init 187 = .ok (.newarray .int, 2) := dk_188_10 (dk_at dksX7_init_7 22 rfl rfl)
theorem dX7_init_189 : decode cX7_init 189 = .ok (.putfield 80, 3) := dk_181 0 80 (dk_at dksX7_init_8 0 rfl rfl)
theorem dX7_init_192 : decode cX7_init 192 = .ok (.aload_n 0, 1) := dk_42 (dk_at dksX7_init_8 3 rfl rfl)
theorem dX7_init_193 : decode cX7_init 193 = .ok (.bipush 6, 2) := dk_16 6 (dk_at dksX7_init_8 4 rfl rfl)
theorem dX7_init_195 : decode cX7_init 195 = .ok (.newarray .int, 2) := dk_188_10 (dk_at dksX7_init_8 6 rfl rfl)
theorem dX7_init_197 : decode cX7_init 197 = .ok (.putfield 83, 3) := dk_181 0 83 (dk_at dksX7_init_8 8 rfl rfl)
theorem dX7_init_200 : decode cX7_init 200 = .ok (.aload_n 0, 1) := dk_42 (dk_at dksX7_init_8 11 rfl rfl)
theorem dX7_init_201 : decode cX7_init 201 = .ok (.bipush 6, 2) := dk_16 6 (dk_at dksX7_init_8 12 rfl rfl)
theorem dX7_init_203 : decode cX7_init 203 = .ok (.newarray .int, 2) := dk_188_10 (dk_at dksX7_init_8 14 rfl rfl)
theorem dX7_init_205 : decode cX7_init 205 = .ok (.putfield 86, 3) := dk_181 0 86 (dk_at dksX7_init_8 16 rfl rfl)
theorem dX7_init_208 : decode cX7_init 208 = .ok (.aload_n 0, 1) := dk_42 (dk_at dksX7_init_8 19 rfl rfl)
theorem dX7_init_209 : decode cX7_init 209 = .ok (.bipush 6, 2) := dk_16 6 (dk_at dksX7_init_8 20 rfl rfl)
theorem dX7_init_211 : decode cX7_init 211 = .ok (.newarray .int, 2) := dk_188_10 (dk_at dksX7_init_8 22 rfl rfl)
theorem dX7_init_213 : decode cX7_init 213 = .ok (.putfield 88, 3) := dk_181 0 88 (dk_at dksX7_init_9 0 rfl rfl)
theorem dX7_init_216 : decode cX7_init 216 = .ok (.aload_n 0, 1) := dk_42 (dk_at dksX7_init_9 3 rfl rfl)
theorem dX7_init_217 : decode cX7_init 217 = .ok (.bipush 6, 2) := dk_16 6 (dk_at dksX7_init_9 4 rfl rfl)
theorem dX7_init_219 : decode cX7_init 219 = .ok (.newarray .int, 2) := dk_188_10 (dk_at dksX7_init_9 6 rfl rfl)
theorem dX7_init_221 : decode cX7_init 221 = .ok (.putfield 90, 3) := dk_181 0 90 (dk_at dksX7_init_9 8 rfl rfl)
theorem dX7_init_224 : decode cX7_init 224 = .ok (.aload_n 0, 1) := dk_42 (dk_at dksX7_init_9 11 rfl rfl)
theorem dX7_init_225 : decode cX7_init 225 = .ok (.sipush 2280, 3) := dk_17 8 232 (dk_at dksX7_init_9 12 rfl rfl)
theorem dX7_init_228 : decode cX7_init 228 = .ok (.newarray .int, 2) := dk_188_10 (dk_at dksX7_init_9 15 rfl rfl)
theorem dX7_init_230 : decode cX7_init 230 = .ok (.putfield 93, 3) := dk_181 0 93 (dk_at dksX7_init_9 17 rfl rfl)
theorem dX7_init_233 : decode cX7_init 233 = .ok (.aload_n 0, 1) := dk_42 (dk_at dksX7_init_9 20 rfl rfl)
theorem dX7_init_234 : decode cX7_init 234 = .ok (.bipush 7, 2) := dk_16 7 (dk_at dksX7_init_9 21 rfl rfl)
theorem dX7_init_236 : decode cX7_init 236 = .ok (.newarray .int, 2) := dk_188_10 (dk_at dksX7_init_10 0 rfl rfl)
theorem dX7_init_238 : decode cX7_init 238 = .ok (.putfield 96, 3) := dk_181 0 96 (dk_at dksX7_init_10 2 rfl rfl)
theorem dX7_init_241 : decode cX7_init 241 = .ok (.aload_n 0, 1) := dk_42 (dk_at dksX7_init_10 5 rfl rfl)
theorem dX7_init_242 : decode cX7_init 242 = .ok (.bipush 64, 2) := dk_16 64 (dk_at dksX7_init_10 6 rfl rfl)
theorem dX7_init_244 : decode cX7_init 244 = .ok (.newarray .int, 2) := dk_188_10 (dk_at dksX7_init_10 8 rfl rfl)
theorem dX7_init_246 : decode cX7_init 246 = .ok (.putfield 99, 3) := dk_181 0 99 (dk_at dksX7_init_10 10 rfl rfl)
theorem dX7_init_249 : decode cX7_init 249 = .ok (.aload_n 0, 1) := dk_42 (dk_at dksX7_init_10 13 rfl rfl)
theorem dX7_init_250 : decode cX7_init 250 = .ok (.bipush 57, 2) := dk_16 57 (dk_at dksX7_init_10 14 rfl rfl)
theorem dX7_init_252 : decode cX7_init 252 = .ok (.newarray .int, 2) := dk_188_10 (dk_at dksX7_init_10 16 rfl rfl)
theorem dX7_init_254 : decode cX7_init 254 = .ok (.putfield 102, 3) := dk_181 0 102 (dk_at dksX7_init_10 18 rfl rfl)
theorem dX7_init_257 : decode cX7_init 257 = .ok (.aload_n 0, 1) := dk_42 (dk_at dksX7_init_10 21 rfl rfl)
theorem dX7_init_258 : decode cX7_init 258 = .ok (.bipush 8, 2) := dk_16 8 (dk_at dksX7_init_10 22 rfl rfl)
theorem dX7_init_260 : decode cX7_init 260 = .ok (.newarray .int, 2) := dk_188_10 (dk_at dksX7_init_11 0 rfl rfl)
theorem dX7_init_262 : decode cX7_init 262 = .ok (.putfield 105, 3) := dk_181 0 105 (dk_at dksX7_init_11 2 rfl rfl)
theorem dX7_init_265 : decode cX7_init 265 = .ok (.aload_n 0, 1) := dk_42 (dk_at dksX7_init_11 5 rfl rfl)
theorem dX7_init_266 : decode cX7_init 266 = .ok (.sipush 2048, 3) := dk_17 8 0 (dk_at dksX7_init_11 6 rfl rfl)
theorem dX7_init_269 : decode cX7_init 269 = .ok (.newarray .int, 2) := dk_188_10 (dk_at dksX7_init_11 9 rfl rfl)
theorem dX7_init_271 : decode cX7_init 271 = .ok (.putfield 108, 3) := dk_181 0 108 (dk_at dksX7_init_11 11 rfl rfl)
theorem dX7_init_274 : decode cX7_init 274 = .ok (.aload_n 0, 1) := dk_42 (dk_at dksX7_init_11 14 rfl rfl)
theorem dX7_init_275 : decode cX7_init 275 = .ok (.bipush 64, 2) := dk_16 64 (dk_at dksX7_init_11 15 rfl rfl)
theorem dX7_init_277 : decode cX7_init 277 = .ok (.newarray .int, 2) := dk_188_10 (dk_at dksX7_init_11 17 rfl rfl)
theorem dX7_init_279 : decode cX7_init 279 = .ok (.putfield 111, 3) := dk_181 0 111 (dk_at dksX7_init_11 19 rfl rfl)
theorem dX7_init_282 : decode cX7_init 282 = .ok (.aload_n 0, 1) := dk_42 (dk_at dksX7_init_11 22 rfl rfl)
theorem dX7_init_283 : decode cX7_init 283 = .ok (.bipush 8, 2) := dk_16 8 (dk_at dksX7_init_12 0 rfl rfl)
theorem dX7_init_285 : decode cX7_init 285 = .ok (.newarray .int, 2) := dk_188_10 (dk_at dksX7_init_12 2 rfl rfl)
theorem dX7_init_287 : decode cX7_init 287 = .ok (.putfield 114, 3) := dk_181 0 114 (dk_at dksX7_init_12 4 rfl rfl)
theorem dX7_init_290 : decode cX7_init 290 = .ok (.aload_n 0, 1) := dk_42 (dk_at dksX7_init_12 7 rfl rfl)
theorem dX7_init_291 : decode cX7_init 291 = .ok (.bipush 8, 2) := dk_16 8 (dk_at dksX7_init_12 8 rfl rfl)
theorem dX7_init_293 : decode cX7_init 293 = .ok (.newarray .int, 2) := dk_188_10 (dk_at dksX7_init_12 10 rfl rfl)
theorem dX7_init_295 : decode cX7_init 295 = .ok (.putfield 117, 3) := dk_181 0 117 (dk_at dksX7_init_12 12 rfl rfl)
theorem dX7_init_298 : decode cX7_init 298 = .ok (.aload_n 0, 1) := dk_42 (dk_at dksX7_init_12 15 rfl rfl)
theorem dX7_init_299 : decode cX7_init 299 = .ok (.bipush 8, 2) := dk_16 8 (dk_at dksX7_init_12 16 rfl rfl)
theorem dX7_init_301 : decode cX7_init 301 = .ok (.newarray .int, 2) := dk_188_10 (dk_at dksX7_init_12 18 rfl rfl)
theorem dX7_init_303 : decode cX7_init 303 = .ok (.putfield 120, 3) := dk_181 0 120 (dk_at dksX7_init_12 20 rfl rfl)
theorem dX7_init_306 : decode cX7_init 306 = .ok (.aload_n 0, 1) := dk_42 (dk_at dksX7_init_12 23 rfl rfl)
theorem dX7_init_307 : decode cX7_init 307 = .ok (.bipush 57, 2) := dk_16 57 (dk_at dksX7_init_13 0 rfl rfl)
theorem dX7_init_309 : decode cX7_init 309 = .ok (.newarray .int, 2) := dk_188_10 (dk_at dksX7_init_13 2 rfl rfl)
theorem dX7_init_311 : decode cX7_init 311 = .ok (.putfield 123, 3) := dk_181 0 123 (dk_at dksX7_init_13 4 rfl rfl)
theorem dX7_init_314 : decode cX7_init 314 = .ok (.aload_n 0, 1) := dk_42 (dk_at dksX7_init_13 7 rfl rfl)
theorem dX7_init_315 : decode cX7_init 315 = .ok (.sipush 180, 3) := dk_17 0 180 (dk_at dksX7_init_13 8 rfl rfl)
theorem dX7_init_318 : decode cX7_init 318 = .ok (.newarray .int, 2) := dk_188_10 (dk_at dksX7_init_13 11 rfl rfl)
theorem dX7_init_320 : decode cX7_init 320 = .ok (.putfield 126, 3) := dk_181 0 126 (dk_at dksX7_init_13 13 rfl rfl)
theorem dX7_init_323 : decode cX7_init 323 = .ok (.aload_n 0, 1) := dk_42 (dk_at dksX7_init_13 16 rfl rfl)
theorem dX7_init_324 : decode cX7_init 324 = .ok (.sipush 1080, 3) := dk_17 4 56 (dk_at dksX7_init_13 17 rfl rfl)
theorem dX7_init_327 : decode cX7_init 327 = .ok (.newarray .int, 2) := dk_188_10 (dk_at dksX7_init_13 20 rfl rfl)
theorem dX7_init_329 : decode cX7_init 329 = .ok (.putfield 129, 3) := dk_181 0 129 (dk_at dksX7_init_14 0 rfl rfl)
theorem dX7_init_332 : decode cX7_init 332 = .ok (.aload_n 0, 1) := dk_42 (dk_at dksX7_init_14 3 rfl rfl)
theorem dX7_init_333 : decode cX7_init 333 = .ok (.bipush 57, 2) := dk_16 57 (dk_at dksX7_init_14 4 rfl rfl)
theorem dX7_init_335 : decode cX7_init 335 = .ok (.newarray .int, 2) := dk_188_10 (dk_at dksX7_init_14 6 rfl rfl)
theorem dX7_init_337 : decode cX7_init 337 = .ok (.putfield 132, 3) := dk_181 0 132 (dk_at dksX7_init_14 8 rfl rfl)
theorem dX7_init_340 : decode cX7_init 340 = .ok (.aload_n 0, 1) := dk_42 (dk_at dksX7_init_14 11 rfl rfl)
theorem dX7_init_341 : decode cX7_init 341 = .ok (.sipush 2280, 3) := dk_17 8 232 (dk_at dksX7_init_14 12 rfl rfl)
theorem dX7_init_344 : decode cX7_init 344 = .ok (.newarray .int, 2) := dk_188_10 (dk_at dksX7_init_14 15 rfl rfl)
theorem dX7_init_346 : decode cX7_init 346 = .ok (.putfield 135, 3) := dk_181 0 135 (dk_at dksX7_init_14 17 rfl rfl)
theorem dX7_init_349 : decode cX7_init 349 = .ok (.aload_n 0, 1) := dk_42 (dk_at dksX7_init_14 20 rfl rfl)
theorem dX7_init_350 : decode cX7_init 350 = .ok (.bipush 8, 2) := dk_16 8 (dk_at dksX7_init_14 21 rfl rfl)
theorem dX7_init_352 : decode cX7_init 352 = .ok (.newarray .int, 2) := dk_188_10 (dk_at dksX7_init_15 0 rfl rfl)
theorem dX7_init_354 : decode cX7_init 354 = .ok (.putfield 138, 3) := dk_181 0 138 (dk_at dksX7_init_15 2 rfl rfl)
theorem dX7_init_357 : decode cX7_init 357 = .ok (.aload_n 0, 1) := dk_42 (dk_at dksX7_init_15 5 rfl rfl)
theorem dX7_init_358 : decode cX7_init 358 = .ok (.bipush 8, 2) := dk_16 8 (dk_at dksX7_init_15 6 rfl rfl)
theorem dX7_init_360 : decode cX7_init 360 = .ok (.newarray .int, 2) := dk_188_10 (dk_at dksX7_init_15 8 rfl rfl)
theorem dX7_init_362 : decode cX7_init 362 = .ok (.putfield 141, 3) := dk_181 0 141 (dk_at dksX7_init_15 10 rfl rfl)
theorem dX7_init_365 : decode cX7_init 365 = .ok (.aload_n 0, 1) := dk_42 (dk_at dksX7_init_15 13 rfl rfl)
theorem dX7_init_366 : decode cX7_init 366 = .ok (.bipush 8, 2) := dk_16 8 (dk_at dksX7_init_15 14 rfl rfl)
theorem dX7_init_368 : decode cX7_init 368 = .ok (.newarray .int, 2) := dk_188_10 (dk_at dksX7_init_15 16 rfl rfl)
theorem dX7_init_370 : decode cX7_init 370 = .ok (.putfield 144, 3) := dk_181 0 144 (dk_at dksX7_init_15 18 rfl rfl)
theorem dX7_init_373 : decode cX7_init 373 = .ok (.aload_n 0, 1) := dk_42 (dk_at dksX7_init_15 21 rfl rfl)
theorem dX7_init_374 : decode cX7_init 374 = .ok (.iconst 3, 1) := dk_6 (dk_at dksX7_init_15 22 rfl rfl)
theorem dX7_init_375 : decode cX7_init 375 = .ok (.newarray .int, 2) := dk_188_10 (dk_at dksX7_init_16 0 rfl rfl)
theorem dX7_init_377 : decode cX7_init 377 = .ok (.putfield 147, 3) := dk_181 0 147 (dk_at dksX7_init_16 2 rfl rfl)
theorem dX7_init_380 : decode cX7_init 380 = .ok (.aload_n 0, 1) := dk_42 (dk_at dksX7_init_16 5 rfl rfl)
theorem dX7_init_381 : decode cX7_init 381 = .ok (.getfield 29, 3) := dk_180 0 29 (dk_at dksX7_init_16 6 rfl rfl)
theorem dX7_init_384 : decode cX7_init 384 = .ok (.iconst 4, 1) := dk_7 (dk_at dksX7_init_16 9 rfl rfl)
theorem dX7_init_385 : decode cX7_init 385 = .ok (.iconst 2, 1) := dk_5 (dk_at dksX7_init_16 10 rfl rfl)
theorem dX7_init_386 : decode cX7_init 386 = .ok (.iastore, 1) := dk_79 (dk_at dksX7_init_16 11 rfl rfl)
theorem dX7_init_387 : decode cX7_init 387 = .ok (.aload_n 0, 1) := dk_42 (dk_at dksX7_init_16 12 rfl rfl)
theorem dX7_init_388 : decode cX7_init 388 = .ok (.getfield 29, 3) := dk_180 0 29 (dk_at dksX7_init_16 13 rfl rfl)
theorem dX7_init_391 : decode cX7_init 391 = .ok (.iconst 5, 1) := dk_8 (dk_at dksX7_init_16 16 rfl rfl)
theorem dX7_init_392 : decode cX7_init 392 = .ok (.iconst 3, 1) := dk_6 (dk_at dksX7_init_16 17 rfl rfl)
theorem dX7_init_393 : decode cX7_init 393 = .ok (.iastore, 1) := dk_79 (dk_at dksX7_init_16 18 rfl rfl)
theorem dX7_init_394 : decode cX7_init 394 = .ok (.aload_n 0, 1) := dk_42 (dk_at dksX7_init_16 19 rfl rfl)
theorem dX7_init_395 : decode cX7_init 395 = .ok (.getfield 29, 3) := dk_180 0 29 (dk_at dksX7_init_16 20 rfl rfl)
theorem dX7_init_398 : decode cX7_init 398 = .ok (.bipush 6, 2) := dk_16 6 (dk_at dksX7_init_17 0 rfl rfl)
theorem dX7_init_400 : decode cX7_init 400 = .ok (.bipush 20, 2) := dk_16 20 (dk_at dksX7_init_17 2 rfl rfl)
theorem dX7_init_402 : decode cX7_init 402 = .ok (.iastore, 1) := dk_79 (dk_at dksX7_init_17 4 rfl rfl)
theorem dX7_init_403 : decode cX7_init 403 = .ok (.return_, 1) := dk_177 (dk_at dksX7_init_17 5 rfl rfl)
abbrev cX7_thrown : ByteArray := prog_18_method_2_code
def yX7_thrown : MethodName := ⟨RX7, "thrown", "()I"⟩
theorem dX7_thrown_0 : decode cX7_thrown 0 = .ok (.aload_n 0, 1) := by decide +kernel
theorem dX7_thrown_1 : decode cX7_thrown 1 = .ok (.getfield 150, 3) := by decide +kernel
theorem dX7_thrown_4 : decode cX7_thrown 4 = .ok (.ireturn, 1) := by decide +kernel
abbrev cX7_feed : ByteArray := prog_18_method_9_code
def yX7_feed : MethodName := ⟨RX7, "feed", "(IIIII)I"⟩
def dkwX7_feed_5 : List UInt8 := [167, 255, 162, 42, 180, 0, 157, 172]
abbrev dktX7_feed_5 : List UInt8 := dkwX7_feed_5 ++ []
def dkwX7_feed_4 : List UInt8 := [112, 104, 100, 122, 17, 0, 255, 126, 79, 42, 89, 180, 0, 157, 4, 96, 181, 0, 157, 132, 6, 1]
abbrev dktX7_feed_4 : List UInt8 := dkwX7_feed_4 ++ dktX7_feed_5
def dkwX7_feed_3 : List UInt8 := [167, 0, 5, 21, 5, 54, 7, 42, 180, 0, 65, 42, 180, 0, 157, 21, 7, 16, 24, 16, 8, 21, 6, 7]
abbrev dktX7_feed_3 : List UInt8 := dkwX7_feed_3 ++ dktX7_feed_4
def dkwX7_feed_2 : List UInt8 := [28, 167, 0, 28, 21, 6, 16, 12, 162, 0, 7, 29, 167, 0, 17, 21, 6, 16, 16, 162, 0, 8, 21, 4]
abbrev dktX7_feed_2 : List UInt8 := dkwX7_feed_2 ++ dktX7_feed_3
def dkwX7_feed_1 : List UInt8 := [21, 6, 16, 20, 162, 0, 93, 21, 6, 7, 162, 0, 7, 27, 167, 0, 39, 21, 6, 16, 8, 162, 0, 7]
abbrev dktX7_feed_1 : List UInt8 := dkwX7_feed_1 ++ dktX7_feed_2
def dkwX7_feed_0 : List UInt8 := [42, 3, 181, 0, 150, 42, 180, 0, 157, 16, 20, 96, 17, 2, 188, 164, 0, 5, 2, 172, 3, 54, 6]
abbrev dktX7_feed_0 : List UInt8 := dkwX7_feed_0 ++ dktX7_feed_1
theorem dksX7_feed_0 : cX7_feed.data.toList.drop 0 = dktX7_feed_0 := by decide +kernel
theorem dksX7_feed_1 : cX7_feed.data.toList.drop 23 = dktX7_feed_1 := dk_seg dksX7_feed_0 23 rfl rfl
theorem dksX7_feed_2 : cX7_feed.data.toList.drop 47 = dktX7_feed_2 := dk_seg dksX7_feed_1 24 rfl rfl
theorem dksX7_feed_3 : cX7_feed.data.toList.drop 71 = dktX7_feed_3 := dk_seg dksX7_feed_2 24 rfl rfl
theorem dksX7_feed_4 : cX7_feed.data.toList.drop 95 = dktX7_feed_4 := dk_seg dksX7_feed_3 24 rfl rfl
theorem dksX7_feed_5 : cX7_feed.data.toList.drop 117 = dktX7_feed_5 := dk_seg dksX7_feed_4 22 rfl rfl
theorem dX7_feed_0 : decode cX7_feed 0 = .ok (.aload_n 0, 1) := dk_42 (dk_at dksX7_feed_0 0 rfl rfl)
theorem dX7_feed_1 : decode cX7_feed 1 = .ok (.iconst 0, 1) := dk_3 (dk_at dksX7_feed_0 1 rfl rfl)
theorem dX7_feed_2 : decode cX7_feed 2 = .ok (.putfield 150, 3) := dk_181 0 150 (dk_at dksX7_feed_0 2 rfl rfl)
theorem dX7_feed_5 : decode cX7_feed 5 = .ok (.aload_n 0, 1) := dk_42 (dk_at dksX7_feed_0 5 rfl rfl)
theorem dX7_feed_6 : decode cX7_feed 6 = .ok (.getfield 157, 3) := dk_180 0 157 (dk_at dksX7_feed_0 6 rfl rfl)
theorem dX7_feed_9 : decode cX7_feed 9 = .ok (.bipush 20, 2) := dk_16 20 (dk_at dksX7_feed_0 9 rfl rfl)
theorem dX7_feed_11 : decode cX7_feed 11 = .ok (.iadd, 1) := dk_96 (dk_at dksX7_feed_0 11 rfl rfl)
theorem dX7_feed_12 : decode cX7_feed 12 = .ok (.sipush 700, 3) := dk_17 2 188 (dk_at dksX7_feed_0 12 rfl rfl)
theorem dX7_feed_15 : decode cX7_feed 15 = .ok (.if_icmp .le 5, 3) := dk_164 0 5 (dk_at dksX7_feed_0 15 rfl rfl)
theorem dX7_feed_18 : decode cX7_feed 18 = .ok (.iconst (-1), 1) := dk_2 (dk_at dksX7_feed_0 18 rfl rfl)
theorem dX7_feed_19 : decode cX7_feed 19 = .ok (.ireturn, 1) := dk_172 (dk_at dksX7_feed_0 19 rfl rfl)
theorem dX7_feed_20 : decode cX7_feed 20 = .ok (.iconst 0, 1) := dk_3 (dk_at dksX7_feed_0 20 rfl rfl)
theorem dX7_feed_21 : decode cX7_feed 21 = .ok (.istore 6, 2) := dk_54 6 (dk_at dksX7_feed_0 21 rfl rfl)
theorem dX7_feed_23 : decode cX7_feed 23 = .ok (.iload 6, 2) := dk_21 6 (dk_at dksX7_feed_1 0 rfl rfl)
theorem dX7_feed_25 : decode cX7_feed 25 = .ok (.bipush 20, 2) := dk_16 20 (dk_at dksX7_feed_1 2 rfl rfl)
theorem dX7_feed_27 : decode cX7_feed 27 = .ok (.if_icmp .ge 93, 3) := dk_162 0 93 (dk_at dksX7_feed_1 4 rfl rfl)
theorem dX7_feed_30 : decode cX7_feed 30 = .ok (.iload 6, 2) := dk_21 6 (dk_at dksX7_feed_1 7 rfl rfl)
theorem dX7_feed_32 : decode cX7_feed 32 = .ok (.iconst 4, 1) := dk_7 (dk_at dksX7_feed_1 9 rfl rfl)
theorem dX7_feed_33 : decode cX7_feed 33 = .ok (.if_icmp .ge 7, 3) := dk_162 0 7 (dk_at dksX7_feed_1 10 rfl rfl)
theorem dX7_feed_36 : decode cX7_feed 36 = .ok (.iload_n 1, 1) := dk_27 (dk_at dksX7_feed_1 13 rfl rfl)
theorem dX7_feed_37 : decode cX7_feed 37 = .ok (.goto 39, 3) := dk_167 0 39 (dk_at dksX7_feed_1 14 rfl rfl)
theorem dX7_feed_40 : decode cX7_feed 40 = .ok (.iload 6, 2) := dk_21 6 (dk_at dksX7_feed_1 17 rfl rfl)
theorem dX7_feed_42 : decode cX7_feed 42 = .ok (.bipush 8, 2) := dk_16 8 (dk_at dksX7_feed_1 19 rfl rfl)
theorem dX7_feed_44 : decode cX7_feed 44 = .ok (.if_icmp .ge 7, 3) := dk_162 0 7 (dk_at dksX7_feed_1 21 rfl rfl)
theorem dX7_feed_47 : decode cX7_feed 47 = .ok (.iload_n 2, 1) := dk_28 (dk_at dksX7_feed_2 0 rfl rfl)
theorem dX7_feed_48 : decode cX7_feed 48 = .ok (.goto 28, 3) := dk_167 0 28 (dk_at dksX7_feed_2 1 rfl rfl)
theorem dX7_feed_51 : decode cX7_feed 51 = .ok (.iload 6, 2) := dk_21 6 (dk_at dksX7_feed_2 4 rfl rfl)
theorem dX7_feed_53 : decode cX7_feed 53 = .ok (.bipush 12, 2) := dk_16 12 (dk_at dksX7_feed_2 6 rfl rfl)
theorem dX7_feed_55 : decode cX7_feed 55 = .ok (.if_icmp .ge 7, 3) := dk_162 0 7 (dk_at dksX7_feed_2 8 rfl rfl)
theorem dX7_feed_58 : decode cX7_feed 58 = .ok (.iload_n 3, 1) := dk_29 (dk_at dksX7_feed_2 11 rfl rfl)
theorem dX7_feed_59 : decode cX7_feed 59 = .ok (.goto 17, 3) := dk_167 0 17 (dk_at dksX7_feed_2 12 rfl rfl)
theorem dX7_feed_62 : decode cX7_feed 62 = .ok (.iload 6, 2) := dk_21 6 (dk_at dksX7_feed_2 15 rfl rfl)
theorem dX7_feed_64 : decode cX7_feed 64 = .ok (.bipush 16, 2) := dk_16 16 (dk_at dksX7_feed_2 17 rfl rfl)
theorem dX7_feed_66 : decode cX7_feed 66 = .ok (.if_icmp .ge 8, 3) := dk_162 0 8 (dk_at dksX7_feed_2 19 rfl rfl)
theorem dX7_feed_69 : decode cX7_feed 69 = .ok (.iload 4, 2) := dk_21 4 (dk_at dksX7_feed_2 22 rfl rfl)
theorem dX7_feed_71 : decode cX7_feed 71 = .ok (.goto 5, 3) := dk_167 0 5 (dk_at dksX7_feed_3 0 rfl rfl)
theorem dX7_feed_74 : decode cX7_feed 74 = .ok (.iload 5, 2) := dk_21 5 (dk_at dksX7_feed_3 3 rfl rfl)
theorem dX7_feed_76 : decode cX7_feed 76 = .ok (.istore 7, 2) := dk_54 7 (dk_at dksX7_feed_3 5 rfl rfl)
theorem dX7_feed_78 : decode cX7_feed 78 = .ok (.aload_n 0, 1) := dk_42 (dk_at dksX7_feed_3 7 rfl rfl)
theorem dX7_feed_79 : decode cX7_feed 79 = .ok (.getfield 65, 3) := dk_180 0 65 (dk_at dksX7_feed_3 8 rfl rfl)
theorem dX7_feed_82 : decode cX7_feed 82 = .ok (.aload_n 0, 1) := dk_42 (dk_at dksX7_feed_3 11 rfl rfl)
theorem dX7_feed_83 : decode cX7_feed 83 = .ok (.getfield 157, 3) := dk_180 0 157 (dk_at dksX7_feed_3 12 rfl rfl)
theorem dX7_feed_86 : decode cX7_feed 86 = .ok (.iload 7, 2) := dk_21 7 (dk_at dksX7_feed_3 15 rfl rfl)
theorem dX7_feed_88 : decode cX7_feed 88 = .ok (.bipush 24, 2) := dk_16 24 (dk_at dksX7_feed_3 17 rfl rfl)
theorem dX7_feed_90 : decode cX7_feed 90 = .ok (.bipush 8, 2) := dk_16 8 (dk_at dksX7_feed_3 19 rfl rfl)
theorem dX7_feed_92 : decode cX7_feed 92 = .ok (.iload 6, 2) := dk_21 6 (dk_at dksX7_feed_3 21 rfl rfl)
theorem dX7_feed_94 : decode cX7_feed 94 = .ok (.iconst 4, 1) := dk_7 (dk_at dksX7_feed_3 23 rfl rfl)
theorem dX7_feed_95 : decode cX7_feed 95 = .ok (.irem, 1) := dk_112 (dk_at dksX7_feed_4 0 rfl rfl)
theorem dX7_feed_96 : decode cX7_feed 96 = .ok (.imul, 1) := dk_104 (dk_at dksX7_feed_4 1 rfl rfl)
theorem dX7_feed_97 : decode cX7_feed 97 = .ok (.isub, 1) := dk_100 (dk_at dksX7_feed_4 2 rfl rfl)
theorem dX7_feed_98 : decode cX7_feed 98 = .ok (.ishr, 1) := dk_122 (dk_at dksX7_feed_4 3 rfl rfl)
theorem dX7_feed_99 : decode cX7_feed 99 = .ok (.sipush 255, 3) := dk_17 0 255 (dk_at dksX7_feed_4 4 rfl rfl)
theorem dX7_feed_102 : decode cX7_feed 102 = .ok (.iand, 1) := dk_126 (dk_at dksX7_feed_4 7 rfl rfl)
theorem dX7_feed_103 : decode cX7_feed 103 = .ok (.iastore, 1) := dk_79 (dk_at dksX7_feed_4 8 rfl rfl)
theorem dX7_feed_104 : decode cX7_feed 104 = .ok (.aload_n 0, 1) := dk_42 (dk_at dksX7_feed_4 9 rfl rfl)
theorem dX7_feed_105 : decode cX7_feed 105 = .ok (.dup, 1) := dk_89 (dk_at dksX7_feed_4 10 rfl rfl)
theorem dX7_feed_106 : decode cX7_feed 106 = .ok (.getfield 157, 3) := dk_180 0 157 (dk_at dksX7_feed_4 11 rfl rfl)
theorem dX7_feed_109 : decode cX7_feed 109 = .ok (.iconst 1, 1) := dk_4 (dk_at dksX7_feed_4 14 rfl rfl)
theorem dX7_feed_110 : decode cX7_feed 110 = .ok (.iadd, 1) := dk_96 (dk_at dksX7_feed_4 15 rfl rfl)
theorem dX7_feed_111 : decode cX7_feed 111 = .ok (.putfield 157, 3) := dk_181 0 157 (dk_at dksX7_feed_4 16 rfl rfl)
theorem dX7_feed_114 : decode cX7_feed 114 = .ok (.iinc 6 1, 3) := dk_132 6 1 (dk_at dksX7_feed_4 19 rfl rfl)
theorem dX7_feed_117 : decode cX7_feed 117 = .ok (.goto (-94), 3) := dk_167 255 162 (dk_at dksX7_feed_5 0 rfl rfl)
theorem dX7_feed_120 : decode cX7_feed 120 = .ok (.aload_n 0, 1) := dk_42 (dk_at dksX7_feed_5 3 rfl rfl)
theorem dX7_feed_121 : decode cX7_feed 121 = .ok (.getfield 157, 3) := dk_180 0 157 (dk_at dksX7_feed_5 4 rfl rfl)
theorem dX7_feed_124 : decode cX7_feed 124 = .ok (.ireturn, 1) := dk_172 (dk_at dksX7_feed_5 7 rfl rfl)
abbrev cX7_land : ByteArray := prog_18_method_37_code
def yX7_land : MethodName := ⟨RX7, "land", "(I)I"⟩
def dkwX7_land_7 : List UInt8 := [181, 0, 68, 42, 180, 0, 62, 3, 92, 46, 4, 96, 79, 42, 180, 0, 199, 172, 42, 182, 1, 53, 3, 172]
abbrev dktX7_land_7 : List UInt8 := dkwX7_land_7 ++ []
def dkwX7_land_6 : List UInt8 := [153, 0, 12, 42, 28, 182, 1, 50, 61, 167, 255, 236, 42, 180, 0, 199, 153, 0, 26, 42, 42, 180, 0, 202]
abbrev dktX7_land_6 : List UInt8 := dkwX7_land_6 ++ dktX7_land_7
def dkwX7_land_5 : List UInt8 := [79, 132, 2, 1, 167, 255, 237, 42, 182, 0, 224, 3, 61, 42, 180, 0, 199, 154, 0, 19, 42, 180, 0, 173]
abbrev dktX7_land_5 : List UInt8 := dkwX7_land_5 ++ dktX7_land_6
def dkwX7_land_4 : List UInt8 := [79, 132, 2, 1, 167, 255, 208, 3, 61, 28, 16, 64, 162, 0, 19, 42, 180, 0, 45, 16, 64, 28, 96, 3]
abbrev dktX7_land_4 : List UInt8 := dkwX7_land_4 ++ dktX7_land_5
def dkwX7_land_3 : List UInt8 := [167, 0, 24, 28, 8, 160, 0, 7, 6, 167, 0, 15, 28, 16, 6, 160, 0, 8, 16, 20, 167, 0, 4, 3]
abbrev dktX7_land_3 : List UInt8 := dkwX7_land_3 ++ dktX7_land_4
def dkwX7_land_2 : List UInt8 := [3, 61, 28, 16, 8, 162, 0, 48, 42, 180, 0, 29, 16, 8, 28, 96, 28, 7, 160, 0, 7, 5]
abbrev dktX7_land_2 : List UInt8 := dkwX7_land_2 ++ dktX7_land_3
def dkwX7_land_1 : List UInt8 := [3, 181, 0, 157, 42, 27, 181, 0, 160, 42, 3, 181, 0, 163, 42, 3, 181, 0, 199, 42, 2, 181, 0, 68]
abbrev dktX7_land_1 : List UInt8 := dkwX7_land_1 ++ dktX7_land_2
def dkwX7_land_0 : List UInt8 := [42, 3, 181, 0, 150, 27, 155, 0, 11, 27, 42, 180, 0, 157, 164, 0, 9, 42, 4, 182, 1, 47, 172, 42]
abbrev dktX7_land_0 : List UInt8 := dkwX7_land_0 ++ dktX7_land_1
theorem dksX7_land_0 : cX7_land.data.toList.drop 0 = dktX7_land_0 := by decide +kernel
theorem dksX7_land_1 : cX7_land.data.toList.drop 24 = dktX7_land_1 := dk_seg dksX7_land_0 24 rfl rfl
theorem dksX7_land_2 : cX7_land.data.toList.drop 48 = dktX7_land_2 := dk_seg dksX7_land_1 24 rfl rfl
theorem dksX7_land_3 : cX7_land.data.toList.drop 70 = dktX7_land_3 := dk_seg dksX7_land_2 22 rfl rfl
theorem dksX7_land_4 : cX7_land.data.toList.drop 94 = dktX7_land_4 := dk_seg dksX7_land_3 24 rfl rfl
theorem dksX7_land_5 : cX7_land.data.toList.drop 118 = dktX7_land_5 := dk_seg dksX7_land_4 24 rfl rfl
theorem dksX7_land_6 : cX7_land.data.toList.drop 142 = dktX7_land_6 := dk_seg dksX7_land_5 24 rfl rfl
theorem dksX7_land_7 : cX7_land.data.toList.drop 166 = dktX7_land_7 := dk_seg dksX7_land_6 24 rfl rfl
theorem dX7_land_0 : decode cX7_land 0 = .ok (.aload_n 0, 1) := dk_42 (dk_at dksX7_land_0 0 rfl rfl)
theorem dX7_land_1 : decode cX7_land 1 = .ok (.iconst 0, 1) := dk_3 (dk_at dksX7_land_0 1 rfl rfl)
theorem dX7_land_2 : decode cX7_land 2 = .ok (.putfield 150, 3) := dk_181 0 150 (dk_at dksX7_land_0 2 rfl rfl)
theorem dX7_land_5 : decode cX7_land 5 = .ok (.iload_n 1, 1) := dk_27 (dk_at dksX7_land_0 5 rfl rfl)
theorem dX7_land_6 : decode cX7_land 6 = .ok (.ifCond .lt 11, 3) := dk_155 0 11 (dk_at dksX7_land_0 6 rfl rfl)
theorem dX7_land_9 : decode cX7_land 9 = .ok (.iload_n 1, 1) := dk_27 (dk_at dksX7_land_0 9 rfl rfl)
theorem dX7_land_10 : decode cX7_land 10 = .ok (.aload_n 0, 1) := dk_42 (dk_at dksX7_land_0 10 rfl rfl)
theorem dX7_land_11 : decode cX7_land 11 = .ok (.getfield 157, 3) := dk_180 0 157 (dk_at dksX7_land_0 11 rfl rfl)
theorem dX7_land_14 : decode cX7_land 14 = .ok (.if_icmp .le 9, 3) := dk_164 0 9 (dk_at dksX7_land_0 14 rfl rfl)
theorem dX7_land_17 : decode cX7_land 17 = .ok (.aload_n 0, 1) := dk_42 (dk_at dksX7_land_0 17 rfl rfl)
theorem dX7_land_18 : decode cX7_land 18 = .ok (.iconst 1, 1) := dk_4 (dk_at dksX7_land_0 18 rfl rfl)
theorem dX7_land_19 : decode cX7_land 19 = .ok (.invokevirtual 303, 3) := dk_182 1 47 (dk_at dksX7_land_0 19 rfl rfl)
theorem dX7_land_22 : decode cX7_land 22 = .ok (.ireturn, 1) := dk_172 (dk_at dksX7_land_0 22 rfl rfl)
theorem dX7_land_23 : decode cX7_land 23 = .ok (.aload_n 0, 1) := dk_42 (dk_at dksX7_land_0 23 rfl rfl)
theorem dX7_land_24 : decode cX7_land 24 = .ok (.iconst 0, 1) := dk_3 (dk_at dksX7_land_1 0 rfl rfl)
theorem dX7_land_25 : decode cX7_land 25 = .ok (.putfield 157, 3) := dk_181 0 157 (dk_at dksX7_land_1 1 rfl rfl)
theorem dX7_land_28 : decode cX7_land 28 = .ok (.aload_n 0, 1) := dk_42 (dk_at dksX7_land_1 4 rfl rfl)
theorem dX7_land_29 : decode cX7_land 29 = .ok (.iload_n 1, 1) := dk_27 (dk_at dksX7_land_1 5 rfl rfl)
theorem dX7_land_30 : decode cX7_land 30 = .ok (.putfield 160, 3) := dk_181 0 160 (dk_at dksX7_land_1 6 rfl rfl)
theorem dX7_land_33 : decode cX7_land 33 = .ok (.aload_n 0, 1) := dk_42 (dk_at dksX7_land_1 9 rfl rfl)
theorem dX7_land_34 : decode cX7_land 34 = .ok (.iconst 0, 1) := dk_3 (dk_at dksX7_land_1 10 rfl rfl)
theorem dX7_land_35 : decode cX7_land 35 = .ok (.putfield 163, 3) := dk_181 0 163 (dk_at dksX7_land_1 11 rfl rfl)
theorem dX7_land_38 : decode cX7_land 38 = .ok (.aload_n 0, 1) := dk_42 (dk_at dksX7_land_1 14 rfl rfl)
theorem dX7_land_39 : decode cX7_land 39 = .ok (.iconst 0, 1) := dk_3 (dk_at dksX7_land_1 15 rfl rfl)
theorem dX7_land_40 : decode cX7_land 40 = .ok (.putfield 199, 3) := dk_181 0 199 (dk_at dksX7_land_1 16 rfl rfl)
theorem dX7_land_43 : decode cX7_land 43 = .ok (.aload_n 0, 1) := dk_42 (dk_at dksX7_land_1 19 rfl rfl)
theorem dX7_land_44 : decode cX7_land 44 = .ok (.iconst (-1), 1) := dk_2 (dk_at dksX7_land_1 20 rfl rfl)
theorem dX7_land_45 : decode cX7_land 45 = .ok (.putfield 68, 3) := dk_181 0 68 (dk_at dksX7_land_1 21 rfl rfl)
theorem dX7_land_48 : decode cX7_land 48 = .ok (.iconst 0, 1) := dk_3 (dk_at dksX7_land_2 0 rfl rfl)
theorem dX7_land_49 : decode cX7_land 49 = .ok (.istore_n 2, 1) := dk_61 (dk_at dksX7_land_2 1 rfl rfl)
theorem dX7_land_50 : decode cX7_land 50 = .ok (.iload_n 2, 1) := dk_28 (dk_at dksX7_land_2 2 rfl rfl)
theorem dX7_land_51 : decode cX7_land 51 = .ok (.bipush 8, 2) := dk_16 8 (dk_at dksX7_land_2 3 rfl rfl)
theorem dX7_land_53 : decode cX7_land 53 = .ok (.if_icmp .ge 48, 3) := dk_162 0 48 (dk_at dksX7_land_2 5 rfl rfl)
theorem dX7_land_56 : decode cX7_land 56 = .ok (.aload_n 0, 1) := dk_42 (dk_at dksX7_land_2 8 rfl rfl)
theorem dX7_land_57 : decode cX7_land 57 = .ok (.getfield 29, 3) := dk_180 0 29 (dk_at dksX7_land_2 9 rfl rfl)
theorem dX7_land_60 : decode cX7_land 60 = .ok (.bipush 8, 2) := dk_16 8 (dk_at dksX7_land_2 12 rfl rfl)
theorem dX7_land_62 : decode cX7_land 62 = .ok (.iload_n 2, 1) := dk_28 (dk_at dksX7_land_2 14 rfl rfl)
theorem dX7_land_63 : decode cX7_land 63 = .ok (.iadd, 1) := dk_96 (dk_at dksX7_land_2 15 rfl rfl)
theorem dX7_land_64 : decode cX7_land 64 = .ok (.iload_n 2, 1) := dk_28 (dk_at dksX7_land_2 16 rfl rfl)
theorem dX7_land_65 : decode cX7_land 65 = .ok (.iconst 4, 1) := dk_7 (dk_at dksX7_land_2 17 rfl rfl)
theorem dX7_land_66 : decode cX7_land 66 = .ok (.if_icmp .ne 7, 3) := dk_160 0 7 (dk_at dksX7_land_2 18 rfl rfl)
theorem dX7_land_69 : decode cX7_land 69 = .ok (.iconst 2, 1) := dk_5 (dk_at dksX7_land_2 21 rfl rfl)
theorem dX7_land_70 : decode cX7_land 70 = .ok (.goto 24, 3) := dk_167 0 24 (dk_at dksX7_land_3 0 rfl rfl)
theorem dX7_land_73 : decode cX7_land 73 = .ok (.iload_n 2, 1) := dk_28 (dk_at dksX7_land_3 3 rfl rfl)
theorem dX7_land_74 : decode cX7_land 74 = .ok (.iconst 5, 1) := dk_8 (dk_at dksX7_land_3 4 rfl rfl)
theorem dX7_land_75 : decode cX7_land 75 = .ok (.if_icmp .ne 7, 3) := dk_160 0 7 (dk_at dksX7_land_3 5 rfl rfl)
theorem dX7_land_78 : decode cX7_land 78 = .ok (.iconst 3, 1) := dk_6 (dk_at dksX7_land_3 8 rfl rfl)
theorem dX7_land_79 : decode cX7_land 79 = .ok (.goto 15, 3) := dk_167 0 15 (dk_at dksX7_land_3 9 rfl rfl)
theorem dX7_land_82 : decode cX7_land 82 = .ok (.iload_n 2, 1) := dk_28 (dk_at dksX7_land_3 12 rfl rfl)
theorem dX7_land_83 : decode cX7_land 83 = .ok (.bipush 6, 2) := dk_16 6 (dk_at dksX7_land_3 13 rfl rfl)
theorem dX7_land_85 : decode cX7_land 85 = .ok (.if_icmp .ne 8, 3) := dk_160 0 8 (dk_at dksX7_land_3 15 rfl rfl)
theorem dX7_land_88 : decode cX7_land 88 = .ok (.bipush 20, 2) := dk_16 20 (dk_at dksX7_land_3 18 rfl rfl)
theorem dX7_land_90 : decode cX7_land 90 = .ok (.goto 4, 3) := dk_167 0 4 (dk_at dksX7_land_3 20 rfl rfl)
theorem dX7_land_93 : decode cX7_land 93 = .ok (.iconst 0, 1) := dk_3 (dk_at dksX7_land_3 23 rfl rfl)
theorem dX7_land_94 : decode cX7_land 94 = .ok (.iastore, 1) := dk_79 (dk_at dksX7_land_4 0 rfl rfl)
theorem dX7_land_95 : decode cX7_land 95 = .ok (.iinc 2 1, 3) := dk_132 2 1 (dk_at dksX7_land_4 1 rfl rfl)
theorem dX7_land_98 : decode cX7_land 98 = .ok (.goto (-48), 3) := dk_167 255 208 (dk_at dksX7_land_4 4 rfl rfl)
theorem dX7_land_101 : decode cX7_land 101 = .ok (.iconst 0, 1) := dk_3 (dk_at dksX7_land_4 7 rfl rfl)
theorem dX7_land_102 : decode cX7_land 102 = .ok (.istore_n 2, 1) := dk_61 (dk_at dksX7_land_4 8 rfl rfl)
theorem dX7_land_103 : decode cX7_land 103 = .ok (.iload_n 2, 1) := dk_28 (dk_at dksX7_land_4 9 rfl rfl)
theorem dX7_land_104 : decode cX7_land 104 = .ok (.bipush 64, 2) := dk_16 64 (dk_at dksX7_land_4 10 rfl rfl)
theorem dX7_land_106 : decode cX7_land 106 = .ok (.if_icmp .ge 19, 3) := dk_162 0 19 (dk_at dksX7_land_4 12 rfl rfl)
theorem dX7_land_109 : decode cX7_land 109 = .ok (.aload_n 0, 1) := dk_42 (dk_at dksX7_land_4 15 rfl rfl)
theorem dX7_land_110 : decode cX7_land 110 = .ok (.getfield 45, 3) := dk_180 0 45 (dk_at dksX7_land_4 16 rfl rfl)
theorem dX7_land_113 : decode cX7_land 113 = .ok (.bipush 64, 2) := dk_16 64 (dk_at dksX7_land_4 19 rfl rfl)
theorem dX7_land_115 : decode cX7_land 115 = .ok (.iload_n 2, 1) := dk_28 (dk_at dksX7_land_4 21 rfl rfl)
theorem dX7_land_116 : decode cX7_land 116 = .ok (.iadd, 1) := dk_96 (dk_at dksX7_land_4 22 rfl rfl)
theorem dX7_land_117 : decode cX7_land 117 = .ok (.iconst 0, 1) := dk_3 (dk_at dksX7_land_4 23 rfl rfl)
theorem dX7_land_118 : decode cX7_land 118 = .ok (.iastore, 1) := dk_79 (dk_at dksX7_land_5 0 rfl rfl)
theorem dX7_land_119 : decode cX7_land 119 = .ok (.iinc 2 1, 3) := dk_132 2 1 (dk_at dksX7_land_5 1 rfl rfl)
theorem dX7_land_122 : decode cX7_land 122 = .ok (.goto (-19), 3) := dk_167 255 237 (dk_at dksX7_land_5 4 rfl rfl)
theorem dX7_land_125 : decode cX7_land 125 = .ok (.aload_n 0, 1) := dk_42 (dk_at dksX7_land_5 7 rfl rfl)
theorem dX7_land_126 : decode cX7_land 126 = .ok (.invokevirtual 224, 3) := dk_182 0 224 (dk_at dksX7_land_5 8 rfl rfl)
theorem dX7_land_129 : decode cX7_land 129 = .ok (.iconst 0, 1) := dk_3 (dk_at dksX7_land_5 11 rfl rfl)
theorem dX7_land_130 : decode cX7_land 130 = .ok (.istore_n 2, 1) := dk_61 (dk_at dksX7_land_5 12 rfl rfl)
theorem dX7_land_131 : decode cX7_land 131 = .ok (.aload_n 0, 1) := dk_42 (dk_at dksX7_land_5 13 rfl rfl)
theorem dX7_land_132 : decode cX7_land 132 = .ok (.getfield 199, 3) := dk_180 0 199 (dk_at dksX7_land_5 14 rfl rfl)
theorem dX7_land_135 : decode cX7_land 135 = .ok (.ifCond .ne 19, 3) := dk_154 0 19 (dk_at dksX7_land_5 17 rfl rfl)
theorem dX7_land_138 : decode cX7_land 138 = .ok (.aload_n 0, 1) := dk_42 (dk_at dksX7_land_5 20 rfl rfl)
theorem dX7_land_139 : decode cX7_land 139 = .ok (.getfield 173, 3) := dk_180 0 173 (dk_at dksX7_land_5 21 rfl rfl)
theorem dX7_land_142 : decode cX7_land 142 = .ok (.ifCond .eq 12, 3) := dk_153 0 12 (dk_at dksX7_land_6 0 rfl rfl)
theorem dX7_land_145 : decode cX7_land 145 = .ok (.aload_n 0, 1) := dk_42 (dk_at dksX7_land_6 3 rfl rfl)
theorem dX7_land_146 : decode cX7_land 146 = .ok (.iload_n 2, 1) := dk_28 (dk_at dksX7_land_6 4 rfl rfl)
theorem dX7_land_147 : decode cX7_land 147 = .ok (.invokevirtual 306, 3) := dk_182 1 50 (dk_at dksX7_land_6 5 rfl rfl)
theorem dX7_land_150 : decode cX7_land 150 = .ok (.istore_n 2, 1) := dk_61 (dk_at dksX7_land_6 8 rfl rfl)
theorem dX7_land_151 : decode cX7_land 151 = .ok (.goto (-20), 3) := dk_167 255 236 (dk_at dksX7_land_6 9 rfl rfl)
theorem dX7_land_154 : decode cX7_land 154 = .ok (.aload_n 0, 1) := dk_42 (dk_at dksX7_land_6 12 rfl rfl)
theorem dX7_land_155 : decode cX7_land 155 = .ok (.getfield 199, 3) := dk_180 0 199 (dk_at dksX7_land_6 13 rfl rfl)
theorem dX7_land_158 : decode cX7_land 158 = .ok (.ifCond .eq 26, 3) := dk_153 0 26 (dk_at dksX7_land_6 16 rfl rfl)
theorem dX7_land_161 : decode cX7_land 161 = .ok (.aload_n 0, 1) := dk_42 (dk_at dksX7_land_6 19 rfl rfl)
theorem dX7_land_162 : decode cX7_land 162 = .ok (.aload_n 0, 1) := dk_42 (dk_at dksX7_land_6 20 rfl rfl)
theorem dX7_land_163 : decode cX7_land 163 = .ok (.getfield 202, 3) := dk_180 0 202 (dk_at dksX7_land_6 21 rfl rfl)
theorem dX7_land_166 : decode cX7_land 166 = .ok (.putfield 68, 3) := dk_181 0 68 (dk_at dksX7_land_7 0 rfl rfl)
theorem dX7_land_169 : decode cX7_land 169 = .ok (.aload_n 0, 1) := dk_42 (dk_at dksX7_land_7 3 rfl rfl)
theorem dX7_land_170 : decode cX7_land 170 = .ok (.getfield 62, 3) := dk_180 0 62 (dk_at dksX7_land_7 4 rfl rfl)
theorem dX7_land_173 : decode cX7_land 173 = .ok (.iconst 0, 1) := dk_3 (dk_at dksX7_land_7 7 rfl rfl)
theorem dX7_land_174 : decode cX7_land 174 = .ok (.dup2, 1) := dk_92 (dk_at dksX7_land_7 8 rfl rfl)
theorem dX7_land_175 : decode cX7_land 175 = .ok (.iaload, 1) := dk_46 (dk_at dksX7_land_7 9 rfl rfl)
theorem dX7_land_176 : decode cX7_land 176 = .ok (.iconst 1, 1) := dk_4 (dk_at dksX7_land_7 10 rfl rfl)
theorem dX7_land_177 : decode cX7_land 177 = .ok (.iadd, 1) := dk_96 (dk_at dksX7_land_7 11 rfl rfl)
theorem dX7_land_178 : decode cX7_land 178 = .ok (.iastore, 1) := dk_79 (dk_at dksX7_land_7 12 rfl rfl)
theorem dX7_land_179 : decode cX7_land 179 = .ok (.aload_n 0, 1) := dk_42 (dk_at dksX7_land_7 13 rfl rfl)
theorem dX7_land_180 : decode cX7_land 180 = .ok (.getfield 199, 3) := dk_180 0 199 (dk_at dksX7_land_7 14 rfl rfl)
theorem dX7_land_183 : decode cX7_land 183 = .ok (.ireturn, 1) := dk_172 (dk_at dksX7_land_7 17 rfl rfl)
theorem dX7_land_184 : decode cX7_land 184 = .ok (.aload_n 0, 1) := dk_42 (dk_at dksX7_land_7 18 rfl rfl)
theorem dX7_land_185 : decode cX7_land 185 = .ok (.invokevirtual 309, 3) := dk_182 1 53 (dk_at dksX7_land_7 19 rfl rfl)
theorem dX7_land_188 : decode cX7_land 188 = .ok (.iconst 0, 1) := dk_3 (dk_at dksX7_land_7 22 rfl rfl)
theorem dX7_land_189 : decode cX7_land 189 = .ok (.ireturn, 1) := dk_172 (dk_at dksX7_land_7 23 rfl rfl)
abbrev cX7_fail : ByteArray := prog_18_method_3_code
def yX7_fail : MethodName := ⟨RX7, "fail", "(I)I"⟩
def dkwX7_fail_0 : List UInt8 := [42, 27, 181, 0, 150, 3, 172]
abbrev dktX7_fail_0 : List UInt8 := dkwX7_fail_0 ++ []
theorem dksX7_fail_0 : cX7_fail.data.toList.drop 0 = dktX7_fail_0 := by decide +kernel
theorem dX7_fail_0 : decode cX7_fail 0 = .ok (.aload_n 0, 1) := dk_42 (dk_at dksX7_fail_0 0 rfl rfl)
theorem dX7_fail_1 : decode cX7_fail 1 = .ok (.iload_n 1, 1) := dk_27 (dk_at dksX7_fail_0 1 rfl rfl)
theorem dX7_fail_2 : decode cX7_fail 2 = .ok (.putfield 150, 3) := dk_181 0 150 (dk_at dksX7_fail_0 2 rfl rfl)
theorem dX7_fail_5 : decode cX7_fail 5 = .ok (.iconst 0, 1) := dk_3 (dk_at dksX7_fail_0 5 rfl rfl)
theorem dX7_fail_6 : decode cX7_fail 6 = .ok (.ireturn, 1) := dk_172 (dk_at dksX7_fail_0 6 rfl rfl)
abbrev cX7_stepOn : ByteArray := prog_18_method_14_code
def yX7_stepOn : MethodName := ⟨RX7, "stepOn", "()V"⟩
def dkwX7_stepOn_9 : List UInt8 := [181, 0, 173, 42, 42, 180, 0, 163, 181, 0, 196, 177]
abbrev dktX7_stepOn_9 : List UInt8 := dkwX7_stepOn_9 ++ []
def dkwX7_stepOn_8 : List UInt8 := [42, 89, 180, 0, 163, 4, 96, 181, 0, 163, 42, 27, 184, 0, 193, 153, 0, 7, 6, 167, 0, 4, 7]
abbrev dktX7_stepOn_8 : List UInt8 := dkwX7_stepOn_8 ++ dktX7_stepOn_9
def dkwX7_stepOn_7 : List UInt8 := [181, 0, 183, 42, 89, 180, 0, 163, 4, 96, 181, 0, 163, 167, 255, 204, 42, 5, 181, 0, 173, 167, 0, 29]
abbrev dktX7_stepOn_7 : List UInt8 := dkwX7_stepOn_7 ++ dktX7_stepOn_8
def dkwX7_stepOn_6 : List UInt8 := [18, 186, 16, 10, 42, 180, 0, 183, 104, 42, 42, 180, 0, 163, 182, 0, 166, 96, 16, 48, 100, 184, 0, 187]
abbrev dktX7_stepOn_6 : List UInt8 := dkwX7_stepOn_6 ++ dktX7_stepOn_7
def dkwX7_stepOn_5 : List UInt8 := [153, 0, 71, 42, 3, 181, 0, 183, 42, 42, 180, 0, 163, 182, 0, 166, 184, 0, 180, 153, 0, 44, 42]
abbrev dktX7_stepOn_5 : List UInt8 := dkwX7_stepOn_5 ++ dktX7_stepOn_6
def dkwX7_stepOn_4 : List UInt8 := [180, 0, 163, 4, 96, 181, 0, 163, 167, 255, 232, 42, 4, 181, 0, 173, 167, 0, 104, 27, 184, 0, 180]
abbrev dktX7_stepOn_4 : List UInt8 := dkwX7_stepOn_4 ++ dktX7_stepOn_5
def dkwX7_stepOn_3 : List UInt8 := [184, 0, 176, 153, 0, 38, 42, 42, 180, 0, 163, 182, 0, 166, 184, 0, 176, 153, 0, 16, 42, 89]
abbrev dktX7_stepOn_3 : List UInt8 := dkwX7_stepOn_3 ++ dktX7_stepOn_4
def dkwX7_stepOn_2 : List UInt8 := [42, 42, 180, 0, 163, 182, 0, 166, 60, 27, 2, 160, 0, 11, 42, 3, 181, 0, 173, 167, 0, 146, 27]
abbrev dktX7_stepOn_2 : List UInt8 := dkwX7_stepOn_2 ++ dktX7_stepOn_3
def dkwX7_stepOn_1 : List UInt8 := [160, 0, 16, 42, 89, 180, 0, 163, 4, 96, 181, 0, 163, 167, 255, 220, 42, 42, 180, 0, 163, 181, 0, 170]
abbrev dktX7_stepOn_1 : List UInt8 := dkwX7_stepOn_1 ++ dktX7_stepOn_2
def dkwX7_stepOn_0 : List UInt8 := [42, 42, 180, 0, 163, 182, 0, 166, 16, 32, 159, 0, 16, 42, 42, 180, 0, 163, 182, 0, 166, 16, 10]
abbrev dktX7_stepOn_0 : List UInt8 := dkwX7_stepOn_0 ++ dktX7_stepOn_1
theorem dksX7_stepOn_0 : cX7_stepOn.data.toList.drop 0 = dktX7_stepOn_0 := by decide +kernel
theorem dksX7_stepOn_1 : cX7_stepOn.data.toList.drop 23 = dktX7_stepOn_1 := dk_seg dksX7_stepOn_0 23 rfl rfl
theorem dksX7_stepOn_2 : cX7_stepOn.data.toList.drop 47 = dktX7_stepOn_2 := dk_seg dksX7_stepOn_1 24 rfl rfl
theorem dksX7_stepOn_3 : cX7_stepOn.data.toList.drop 70 = dktX7_stepOn_3 := dk_seg dksX7_stepOn_2 23 rfl rfl
theorem dksX7_stepOn_4 : cX7_stepOn.data.toList.drop 92 = dktX7_stepOn_4 := dk_seg dksX7_stepOn_3 22 rfl rfl
theorem dksX7_stepOn_5 : cX7_stepOn.data.toList.drop 115 = dktX7_stepOn_5 := dk_seg dksX7_stepOn_4 23 rfl rfl
theorem dksX7_stepOn_6 : cX7_stepOn.data.toList.drop 138 = dktX7_stepOn_6 := dk_seg dksX7_stepOn_5 23 rfl rfl
theorem dksX7_stepOn_7 : cX7_stepOn.data.toList.drop 162 = dktX7_stepOn_7 := dk_seg dksX7_stepOn_6 24 rfl rfl
theorem dksX7_stepOn_8 : cX7_stepOn.data.toList.drop 186 = dktX7_stepOn_8 := dk_seg dksX7_stepOn_7 24 rfl rfl
theorem dksX7_stepOn_9 : cX7_stepOn.data.toList.drop 209 = dktX7_stepOn_9 := dk_seg dksX7_stepOn_8 23 rfl rfl
theorem dX7_stepOn_0 : decode cX7_stepOn 0 = .ok (.aload_n 0, 1) := dk_42 (dk_at dksX7_stepOn_0 0 rfl rfl)
theorem dX7_stepOn_1 : decode cX7_stepOn 1 = .ok (.aload_n 0, 1) := dk_42 (dk_at dksX7_stepOn_0 1 rfl rfl)
theorem dX7_stepOn_2 : decode cX7_stepOn 2 = .ok (.getfield 163, 3) := dk_180 0 163 (dk_at dksX7_stepOn_0 2 rfl rfl)
theorem dX7_stepOn_5 : decode cX7_stepOn 5 = .ok (.invokevirtual 166, 3) := dk_182 0 166 (dk_at dksX7_stepOn_0 5 rfl rfl)
theorem dX7_stepOn_8 : decode cX7_stepOn 8 = .ok (.bipush 32, 2) := dk_16 32 (dk_at dksX7_stepOn_0 8 rfl rfl)
theorem dX7_stepOn_10 : decode cX7_stepOn 10 = .ok (.if_icmp .eq 16, 3) := dk_159 0 16 (dk_at dksX7_stepOn_0 10 rfl rfl)
theorem dX7_stepOn_13 : decode cX7_stepOn 13 = .ok (.aload_n 0, 1) := dk_42 (dk_at dksX7_stepOn_0 13 rfl rfl)
theorem dX7_stepOn_14 : decode cX7_stepOn 14 = .ok (.aload_n 0, 1) := dk_42 (dk_at dksX7_stepOn_0 14 rfl rfl)
theorem dX7_stepOn_15 : decode cX7_stepOn 15 = .ok (.getfield 163, 3) := dk_180 0 163 (dk_at dksX7_stepOn_0 15 rfl rfl)
theorem dX7_stepOn_18 : decode cX7_stepOn 18 = .ok (.invokevirtual 166, 3) := dk_182 0 166 (dk_at dksX7_stepOn_0 18 rfl rfl)
theorem dX7_stepOn_21 : decode cX7_stepOn 21 = .ok (.bipush 10, 2) := dk_16 10 (dk_at dksX7_stepOn_0 21 rfl rfl)
theorem dX7_stepOn_23 : decode cX7_stepOn 23 = .ok (.if_icmp .ne 16, 3) := dk_160 0 16 (dk_at dksX7_stepOn_1 0 rfl rfl)
theorem dX7_stepOn_26 : decode cX7_stepOn 26 = .ok (.aload_n 0, 1) := dk_42 (dk_at dksX7_stepOn_1 3 rfl rfl)
theorem dX7_stepOn_27 : decode cX7_stepOn 27 = .ok (.dup, 1) := dk_89 (dk_at dksX7_stepOn_1 4 rfl rfl)
theorem dX7_stepOn_28 : decode cX7_stepOn 28 = .ok (.getfield 163, 3) := dk_180 0 163 (dk_at dksX7_stepOn_1 5 rfl rfl)
theorem dX7_stepOn_31 : decode cX7_stepOn 31 = .ok (.iconst 1, 1) := dk_4 (dk_at dksX7_stepOn_1 8 rfl rfl)
theorem dX7_stepOn_32 : decode cX7_stepOn 32 = .ok (.iadd, 1) := dk_96 (dk_at dksX7_stepOn_1 9 rfl rfl)
theorem dX7_stepOn_33 : decode cX7_stepOn 33 = .ok (.putfield 163, 3) := dk_181 0 163 (dk_at dksX7_stepOn_1 10 rfl rfl)
theorem dX7_stepOn_36 : decode cX7_stepOn 36 = .ok (.goto (-36), 3) := dk_167 255 220 (dk_at dksX7_stepOn_1 13 rfl rfl)
theorem dX7_stepOn_39 : decode cX7_stepOn 39 = .ok (.aload_n 0, 1) := dk_42 (dk_at dksX7_stepOn_1 16 rfl rfl)
theorem dX7_stepOn_40 : decode cX7_stepOn 40 = .ok (.aload_n 0, 1) := dk_42 (dk_at dksX7_stepOn_1 17 rfl rfl)
theorem dX7_stepOn_41 : decode cX7_stepOn 41 = .ok (.getfield 163, 3) := dk_180 0 163 (dk_at dksX7_stepOn_1 18 rfl rfl)
theorem dX7_stepOn_44 : decode cX7_stepOn 44 = .ok (.putfield 170, 3) := dk_181 0 170 (dk_at dksX7_stepOn_1 21 rfl rfl)
theorem dX7_stepOn_47 : decode cX7_stepOn 47 = .ok (.aload_n 0, 1) := dk_42 (dk_at dksX7_stepOn_2 0 rfl rfl)
theorem dX7_stepOn_48 : decode cX7_stepOn 48 = .ok (.aload_n 0, 1) := dk_42 (dk_at dksX7_stepOn_2 1 rfl rfl)
theorem dX7_stepOn_49 : decode cX7_stepOn 49 = .ok (.getfield 163, 3) := dk_180 0 163 (dk_at dksX7_stepOn_2 2 rfl rfl)
theorem dX7_stepOn_52 : decode cX7_stepOn 52 = .ok (.invokevirtual 166, 3) := dk_182 0 166 (dk_at dksX7_stepOn_2 5 rfl rfl)
theorem dX7_stepOn_55 : decode cX7_stepOn 55 = .ok (.istore_n 1, 1) := dk_60 (dk_at dksX7_stepOn_2 8 rfl rfl)
theorem dX7_stepOn_56 : decode cX7_stepOn 56 = .ok (.iload_n 1, 1) := dk_27 (dk_at dksX7_stepOn_2 9 rfl rfl)
theorem dX7_stepOn_57 : decode cX7_stepOn 57 = .ok (.iconst (-1), 1) := dk_2 (dk_at dksX7_stepOn_2 10 rfl rfl)
theorem dX7_stepOn_58 : decode cX7_stepOn 58 = .ok (.if_icmp .ne 11, 3) := dk_160 0 11 (dk_at dksX7_stepOn_2 11 rfl rfl)
theorem dX7_stepOn_61 : decode cX7_stepOn 61 = .ok (.aload_n 0, 1) := dk_42 (dk_at dksX7_stepOn_2 14 rfl rfl)
theorem dX7_stepOn_62 : decode cX7_stepOn 62 = .ok (.iconst 0, 1) := dk_3 (dk_at dksX7_stepOn_2 15 rfl rfl)
theorem dX7_stepOn_63 : decode cX7_stepOn 63 = .ok (.putfield 173, 3) := dk_181 0 173 (dk_at dksX7_stepOn_2 16 rfl rfl)
theorem dX7_stepOn_66 : decode cX7_stepOn 66 = .ok (.goto 146, 3) := dk_167 0 146 (dk_at dksX7_stepOn_2 19 rfl rfl)
theorem dX7_stepOn_69 : decode cX7_stepOn 69 = .ok (.iload_n 1, 1) := dk_27 (dk_at dksX7_stepOn_2 22 rfl rfl)
theorem dX7_stepOn_70 : decode cX7_stepOn 70 = .ok (.invokestatic 176, 3) := dk_184 0 176 (dk_at dksX7_stepOn_3 0 rfl rfl)
theorem dX7_stepOn_73 : decode cX7_stepOn 73 = .ok (.ifCond .eq 38, 3) := dk_153 0 38 (dk_at dksX7_stepOn_3 3 rfl rfl)
theorem dX7_stepOn_76 : decode cX7_stepOn 76 = .ok (.aload_n 0, 1) := dk_42 (dk_at dksX7_stepOn_3 6 rfl rfl)
theorem dX7_stepOn_77 : decode cX7_stepOn 77 = .ok (.aload_n 0, 1) := dk_42 (dk_at dksX7_stepOn_3 7 rfl rfl)
theorem dX7_stepOn_78 : decode cX7_stepOn 78 = .ok (.getfield 163, 3) := dk_180 0 163 (dk_at dksX7_stepOn_3 8 rfl rfl)
theorem dX7_stepOn_81 : decode cX7_stepOn 81 = .ok (.invokevirtual 166, 3) := dk_182 0 166 (dk_at dksX7_stepOn_3 11 rfl rfl)
theorem dX7_stepOn_84 : decode cX7_stepOn 84 = .ok (.invokestatic 176, 3) := dk_184 0 176 (dk_at dksX7_stepOn_3 14 rfl rfl)
theorem dX7_stepOn_87 : decode cX7_stepOn 87 = .ok (.ifCond .eq 16, 3) := dk_153 0 16 (dk_at dksX7_stepOn_3 17 rfl rfl)
theorem dX7_stepOn_90 : decode cX7_stepOn 90 = .ok (.aload_n 0, 1) := dk_42 (dk_at dksX7_stepOn_3 20 rfl rfl)
theorem dX7_stepOn_91 : decode cX7_stepOn 91 = .ok (.dup, 1) := dk_89 (dk_at dksX7_stepOn_3 21 rfl rfl)
theorem dX7_stepOn_92 : decode cX7_stepOn 92 = .ok (.getfield 163, 3) := dk_180 0 163 (dk_at dksX7_stepOn_4 0 rfl rfl)
theorem dX7_stepOn_95 : decode cX7_stepOn 95 = .ok (.iconst 1, 1) := dk_4 (dk_at dksX7_stepOn_4 3 rfl rfl)
theorem dX7_stepOn_96 : decode cX7_stepOn 96 = .ok (.iadd, 1) := dk_96 (dk_at dksX7_stepOn_4 4 rfl rfl)
theorem dX7_stepOn_97 : decode cX7_stepOn 97 = .ok (.putfield 163, 3) := dk_181 0 163 (dk_at dksX7_stepOn_4 5 rfl rfl)
theorem dX7_stepOn_100 : decode cX7_stepOn 100 = .ok (.goto (-24), 3) := dk_167 255 232 (dk_at dksX7_stepOn_4 8 rfl rfl)
theorem dX7_stepOn_103 : decode cX7_stepOn 103 = .ok (.aload_n 0, 1) := dk_42 (dk_at dksX7_stepOn_4 11 rfl rfl)
theorem dX7_stepOn_104 : decode cX7_stepOn 104 = .ok (.iconst 1, 1) := dk_4 (dk_at dksX7_stepOn_4 12 rfl rfl)
theorem dX7_stepOn_105 : decode cX7_stepOn 105 = .ok (.putfield 173, 3) := dk_181 0 173 (dk_at dksX7_stepOn_4 13 rfl rfl)
theorem dX7_stepOn_108 : decode cX7_stepOn 108 = .ok (.goto 104, 3) := dk_167 0 104 (dk_at dksX7_stepOn_4 16 rfl rfl)
theorem dX7_stepOn_111 : decode cX7_stepOn 111 = .ok (.iload_n 1, 1) := dk_27 (dk_at dksX7_stepOn_4 19 rfl rfl)
theorem dX7_stepOn_112 : decode cX7_stepOn 112 = .ok (.invokestatic 180, 3) := dk_184 0 180 (dk_at dksX7_stepOn_4 20 rfl rfl)
theorem dX7_stepOn_115 : decode cX7_stepOn 115 = .ok (.ifCond .eq 71, 3) := dk_153 0 71 (dk_at dksX7_stepOn_5 0 rfl rfl)
theorem dX7_stepOn_118 : decode cX7_stepOn 118 = .ok (.aload_n 0, 1) := dk_42 (dk_at dksX7_stepOn_5 3 rfl rfl)
theorem dX7_stepOn_119 : decode cX7_stepOn 119 = .ok (.iconst 0, 1) := dk_3 (dk_at dksX7_stepOn_5 4 rfl rfl)
theorem dX7_stepOn_120 : decode cX7_stepOn 120 = .ok (.putfield 183, 3) := dk_181 0 183 (dk_at dksX7_stepOn_5 5 rfl rfl)
theorem dX7_stepOn_123 : decode cX7_stepOn 123 = .ok (.aload_n 0, 1) := dk_42 (dk_at dksX7_stepOn_5 8 rfl rfl)
theorem dX7_stepOn_124 : decode cX7_stepOn 124 = .ok (.aload_n 0, 1) := dk_42 (dk_at dksX7_stepOn_5 9 rfl rfl)
theorem dX7_stepOn_125 : decode cX7_stepOn 125 = .ok (.getfield 163, 3) := dk_180 0 163 (dk_at dksX7_stepOn_5 10 rfl rfl)
theorem dX7_stepOn_128 : decode cX7_stepOn 128 = .ok (.invokevirtual 166, 3) := dk_182 0 166 (dk_at dksX7_stepOn_5 13 rfl rfl)
theorem dX7_stepOn_131 : decode cX7_stepOn 131 = .ok (.invokestatic 180, 3) := dk_184 0 180 (dk_at dksX7_stepOn_5 16 rfl rfl)
theorem dX7_stepOn_134 : decode cX7_stepOn 134 = .ok (.ifCond .eq 44, 3) := dk_153 0 44 (dk_at dksX7_stepOn_5 19 rfl rfl)
theorem dX7_stepOn_137 : decode cX7_stepOn 137 = .ok (.aload_n 0, 1) := dk_42 (dk_at dksX7_stepOn_5 22 rfl rfl)
theorem dX7_stepOn_138 : decode cX7_stepOn 138 = .ok (.ldc 186, 2) := dk_18 186 (dk_at dksX7_stepOn_6 0 rfl rfl)
theorem dX7_stepOn_140 : decode cX7_stepOn 140 = .ok (.bipush 10, 2) := dk_16 10 (dk_at dksX7_stepOn_6 2 rfl rfl)
theorem dX7_stepOn_142 : decode cX7_stepOn 142 = .ok (.aload_n 0, 1) := dk_42 (dk_at dksX7_stepOn_6 4 rfl rfl)
theorem dX7_stepOn_143 : decode cX7_stepOn 143 = .ok (.getfield 183, 3) := dk_180 0 183 (dk_at dksX7_stepOn_6 5 rfl rfl)
theorem dX7_stepOn_146 : decode cX7_stepOn 146 = .ok (.imul, 1) := dk_104 (dk_at dksX7_stepOn_6 8 rfl rfl)
theorem dX7_stepOn_147 : decode cX7_stepOn 147 = .ok (.aload_n 0, 1) := dk_42 (dk_at dksX7_stepOn_6 9 rfl rfl)
theorem dX7_stepOn_148 : decode cX7_stepOn 148 = .ok (.aload_n 0, 1) := dk_42 (dk_at dksX7_stepOn_6 10 rfl rfl)
theorem dX7_stepOn_149 : decode cX7_stepOn 149 = .ok (.getfield 163, 3) := dk_180 0 163 (dk_at dksX7_stepOn_6 11 rfl rfl)
theorem dX7_stepOn_152 : decode cX7_stepOn 152 = .ok (.invokevirtual 166, 3) := dk_182 0 166 (dk_at dksX7_stepOn_6 14 rfl rfl)
theorem dX7_stepOn_155 : decode cX7_stepOn 155 = .ok (.iadd, 1) := dk_96 (dk_at dksX7_stepOn_6 17 rfl rfl)
theorem dX7_stepOn_156 : decode cX7_stepOn 156 = .ok (.bipush 48, 2) := dk_16 48 (dk_at dksX7_stepOn_6 18 rfl rfl)
theorem dX7_stepOn_158 : decode cX7_stepOn 158 = .ok (.isub, 1) := dk_100 (dk_at dksX7_stepOn_6 20 rfl rfl)
theorem dX7_stepOn_159 : decode cX7_stepOn 159 = .ok (.invokestatic 187, 3) := dk_184 0 187 (dk_at dksX7_stepOn_6 21 rfl rfl)
theorem dX7_stepOn_162 : decode cX7_stepOn 162 = .ok (.putfield 183, 3) := dk_181 0 183 (dk_at dksX7_stepOn_7 0 rfl rfl)
theorem dX7_stepOn_165 : decode cX7_stepOn 165 = .ok (.aload_n 0, 1) := dk_42 (dk_at dksX7_stepOn_7 3 rfl rfl)
theorem dX7_stepOn_166 : decode cX7_stepOn 166 = .ok (.dup, 1) := dk_89 (dk_at dksX7_stepOn_7 4 rfl rfl)
theorem dX7_stepOn_167 : decode cX7_stepOn 167 = .ok (.getfield 163, 3) := dk_180 0 163 (dk_at dksX7_stepOn_7 5 rfl rfl)
theorem dX7_stepOn_170 : decode cX7_stepOn 170 = .ok (.iconst 1, 1) := dk_4 (dk_at dksX7_stepOn_7 8 rfl rfl)
theorem dX7_stepOn_171 : decode cX7_stepOn 171 = .ok (.iadd, 1) := dk_96 (dk_at dksX7_stepOn_7 9 rfl rfl)
theorem dX7_stepOn_172 : decode cX7_stepOn 172 = .ok (.putfield 163, 3) := dk_181 0 163 (dk_at dksX7_stepOn_7 10 rfl rfl)
theorem dX7_stepOn_175 : decode cX7_stepOn 175 = .ok (.goto (-52), 3) := dk_167 255 204 (dk_at dksX7_stepOn_7 13 rfl rfl)
theorem dX7_stepOn_178 : decode cX7_stepOn 178 = .ok (.aload_n 0, 1) := dk_42 (dk_at dksX7_stepOn_7 16 rfl rfl)
theorem dX7_stepOn_179 : decode cX7_stepOn 179 = .ok (.iconst 2, 1) := dk_5 (dk_at dksX7_stepOn_7 17 rfl rfl)
theorem dX7_stepOn_180 : decode cX7_stepOn 180 = .ok (.putfield 173, 3) := dk_181 0 173 (dk_at dksX7_stepOn_7 18 rfl rfl)
theorem dX7_stepOn_183 : decode cX7_stepOn 183 = .ok (.goto 29, 3) := dk_167 0 29 (dk_at dksX7_stepOn_7 21 rfl rfl)
theorem dX7_stepOn_186 : decode cX7_stepOn 186 = .ok (.aload_n 0, 1) := dk_42 (dk_at dksX7_stepOn_8 0 rfl rfl)
theorem dX7_stepOn_187 : decode cX7_stepOn 187 = .ok (.dup, 1) := dk_89 (dk_at dksX7_stepOn_8 1 rfl rfl)
theorem dX7_stepOn_188 : decode cX7_stepOn 188 = .ok (.getfield 163, 3) := dk_180 0 163 (dk_at dksX7_stepOn_8 2 rfl rfl)
theorem dX7_stepOn_191 : decode cX7_stepOn 191 = .ok (.iconst 1, 1) := dk_4 (dk_at dksX7_stepOn_8 5 rfl rfl)
theorem dX7_stepOn_192 : decode cX7_stepOn 192 = .ok (.iadd, 1) := dk_96 (dk_at dksX7_stepOn_8 6 rfl rfl)
theorem dX7_stepOn_193 : decode cX7_stepOn 193 = .ok (.putfield 163, 3) := dk_181 0 163 (dk_at dksX7_stepOn_8 7 rfl rfl)
theorem dX7_stepOn_196 : decode cX7_stepOn 196 = .ok (.aload_n 0, 1) := dk_42 (dk_at dksX7_stepOn_8 10 rfl rfl)
theorem dX7_stepOn_197 : decode cX7_stepOn 197 = .ok (.iload_n 1, 1) := dk_27 (dk_at dksX7_stepOn_8 11 rfl rfl)
theorem dX7_stepOn_198 : decode cX7_stepOn 198 = .ok (.invokestatic 193, 3) := dk_184 0 193 (dk_at dksX7_stepOn_8 12 rfl rfl)
theorem dX7_stepOn_201 : decode cX7_stepOn 201 = .ok (.ifCond .eq 7, 3) := dk_153 0 7 (dk_at dksX7_stepOn_8 15 rfl rfl)
theorem dX7_stepOn_204 : decode cX7_stepOn 204 = .ok (.iconst 3, 1) := dk_6 (dk_at dksX7_stepOn_8 18 rfl rfl)
theorem dX7_stepOn_205 : decode cX7_stepOn 205 = .ok (.goto 4, 3) := dk_167 0 4 (dk_at dksX7_stepOn_8 19 rfl rfl)
theorem dX7_stepOn_208 : decode cX7_stepOn 208 = .ok (.iconst 4, 1) := dk_7 (dk_at dksX7_stepOn_8 22 rfl rfl)
theorem dX7_stepOn_209 : decode cX7_stepOn 209 = .ok (.putfield 173, 3) := dk_181 0 173 (dk_at dksX7_stepOn_9 0 rfl rfl)
theorem dX7_stepOn_212 : decode cX7_stepOn 212 = .ok (.aload_n 0, 1) := dk_42 (dk_at dksX7_stepOn_9 3 rfl rfl)
theorem dX7_stepOn_213 : decode cX7_stepOn 213 = .ok (.aload_n 0, 1) := dk_42 (dk_at dksX7_stepOn_9 4 rfl rfl)
theorem dX7_stepOn_214 : decode cX7_stepOn 214 = .ok (.getfield 163, 3) := dk_180 0 163 (dk_at dksX7_stepOn_9 5 rfl rfl)
theorem dX7_stepOn_217 : decode cX7_stepOn 217 = .ok (.putfield 196, 3) := dk_181 0 196 (dk_at dksX7_stepOn_9 8 rfl rfl)
theorem dX7_stepOn_220 : decode cX7_stepOn 220 = .ok (.return_, 1) := dk_177 (dk_at dksX7_stepOn_9 11 rfl rfl)
abbrev cX7_byteAt : ByteArray := prog_18_method_10_code
def yX7_byteAt : MethodName := ⟨RX7, "byteAt", "(I)I"⟩
def dkwX7_byteAt_0 : List UInt8 := [27, 42, 180, 0, 160, 162, 0, 12, 42, 180, 0, 65, 27, 46, 167, 0, 4, 2, 172]
abbrev dktX7_byteAt_0 : List UInt8 := dkwX7_byteAt_0 ++ []
theorem dksX7_byteAt_0 : cX7_byteAt.data.toList.drop 0 = dktX7_byteAt_0 := by decide +kernel
theorem dX7_byteAt_0 : decode cX7_byteAt 0 = .ok (.iload_n 1, 1) := dk_27 (dk_at dksX7_byteAt_0 0 rfl rfl)
theorem dX7_byteAt_1 : decode cX7_byteAt 1 = .ok (.aload_n 0, 1) := dk_42 (dk_at dksX7_byteAt_0 1 rfl rfl)
theorem dX7_byteAt_2 : decode cX7_byteAt 2 = .ok (.getfield 160, 3) := dk_180 0 160 (dk_at dksX7_byteAt_0 2 rfl rfl)
theorem dX7_byteAt_5 : decode cX7_byteAt 5 = .ok (.if_icmp .ge 12, 3) := dk_162 0 12 (dk_at dksX7_byteAt_0 5 rfl rfl)
theorem dX7_byteAt_8 : decode cX7_byteAt 8 = .ok (.aload_n 0, 1) := dk_42 (dk_at dksX7_byteAt_0 8 rfl rfl)
theorem dX7_byteAt_9 : decode cX7_byteAt 9 = .ok (.getfield 65, 3) := dk_180 0 65 (dk_at dksX7_byteAt_0 9 rfl rfl)
theorem dX7_byteAt_12 : decode cX7_byteAt 12 = .ok (.iload_n 1, 1) := dk_27 (dk_at dksX7_byteAt_0 12 rfl rfl)
theorem dX7_byteAt_13 : decode cX7_byteAt 13 = .ok (.iaload, 1) := dk_46 (dk_at dksX7_byteAt_0 13 rfl rfl)
theorem dX7_byteAt_14 : decode cX7_byteAt 14 = .ok (.goto 4, 3) := dk_167 0 4 (dk_at dksX7_byteAt_0 14 rfl rfl)
theorem dX7_byteAt_17 : decode cX7_byteAt 17 = .ok (.iconst (-1), 1) := dk_2 (dk_at dksX7_byteAt_0 17 rfl rfl)
theorem dX7_byteAt_18 : decode cX7_byteAt 18 = .ok (.ireturn, 1) := dk_172 (dk_at dksX7_byteAt_0 18 rfl rfl)
abbrev cX7_isLetter : ByteArray := prog_18_method_11_code
def yX7_isLetter : MethodName := ⟨RX7, "isLetter", "(I)Z"⟩
def dkwX7_isLetter_0 : List UInt8 := [26, 16, 97, 161, 0, 13, 26, 16, 122, 163, 0, 7, 4, 167, 0, 4, 3, 172]
abbrev dktX7_isLetter_0 : List UInt8 := dkwX7_isLetter_0 ++ []
theorem dksX7_isLetter_0 : cX7_isLetter.data.toList.drop 0 = dktX7_isLetter_0 := by decide +kernel
theorem dX7_isLetter_0 : decode cX7_isLetter 0 = .ok (.iload_n 0, 1) := dk_26 (dk_at dksX7_isLetter_0 0 rfl rfl)
theorem dX7_isLetter_1 : decode cX7_isLetter 1 = .ok (.bipush 97, 2) := dk_16 97 (dk_at dksX7_isLetter_0 1 rfl rfl)
theorem dX7_isLetter_3 : decode cX7_isLetter 3 = .ok (.if_icmp .lt 13, 3) := dk_161 0 13 (dk_at dksX7_isLetter_0 3 rfl rfl)
theorem dX7_isLetter_6 : decode cX7_isLetter 6 = .ok (.iload_n 0, 1) := dk_26 (dk_at dksX7_isLetter_0 6 rfl rfl)
theorem dX7_isLetter_7 : decode cX7_isLetter 7 = .ok (.bipush 122, 2) := dk_16 122 (dk_at dksX7_isLetter_0 7 rfl rfl)
theorem dX7_isLetter_9 : decode cX7_isLetter 9 = .ok (.if_icmp .gt 7, 3) := dk_163 0 7 (dk_at dksX7_isLetter_0 9 rfl rfl)
theorem dX7_isLetter_12 : decode cX7_isLetter 12 = .ok (.iconst 1, 1) := dk_4 (dk_at dksX7_isLetter_0 12 rfl rfl)
theorem dX7_isLetter_13 : decode cX7_isLetter 13 = .ok (.goto 4, 3) := dk_167 0 4 (dk_at dksX7_isLetter_0 13 rfl rfl)
theorem dX7_isLetter_16 : decode cX7_isLetter 16 = .ok (.iconst 0, 1) := dk_3 (dk_at dksX7_isLetter_0 16 rfl rfl)
theorem dX7_isLetter_17 : decode cX7_isLetter 17 = .ok (.ireturn, 1) := dk_172 (dk_at dksX7_isLetter_0 17 rfl rfl)
abbrev cX7_isDigit : ByteArray := prog_18_method_12_code
def yX7_isDigit : MethodName := ⟨RX7, "isDigit", "(I)Z"⟩
def dkwX7_isDigit_0 : List UInt8 := [26, 16, 48, 161, 0, 13, 26, 16, 57, 163, 0, 7, 4, 167, 0, 4, 3, 172]
abbrev dktX7_isDigit_0 : List UInt8 := dkwX7_isDigit_0 ++ []
theorem dksX7_isDigit_0 : cX7_isDigit.data.toList.drop 0 = dktX7_isDigit_0 := by decide +kernel
theorem dX7_isDigit_0 : decode cX7_isDigit 0 = .ok (.iload_n 0, 1) := dk_26 (dk_at dksX7_isDigit_0 0 rfl rfl)
theorem dX7_isDigit_1 : decode cX7_isDigit 1 = .ok (.bipush 48, 2) := dk_16 48 (dk_at dksX7_isDigit_0 1 rfl rfl)
theorem dX7_isDigit_3 : decode cX7_isDigit 3 = .ok (.if_icmp .lt 13, 3) := dk_161 0 13 (dk_at dksX7_isDigit_0 3 rfl rfl)
theorem dX7_isDigit_6 : decode cX7_isDigit 6 = .ok (.iload_n 0, 1) := dk_26 (dk_at dksX7_isDigit_0 6 rfl rfl)
theorem dX7_isDigit_7 : decode cX7_isDigit 7 = .ok (.bipush 57, 2) := dk_16 57 (dk_at dksX7_isDigit_0 7 rfl rfl)
theorem dX7_isDigit_9 : decode cX7_isDigit 9 = .ok (.if_icmp .gt 7, 3) := dk_163 0 7 (dk_at dksX7_isDigit_0 9 rfl rfl)
theorem dX7_isDigit_12 : decode cX7_isDigit 12 = .ok (.iconst 1, 1) := dk_4 (dk_at dksX7_isDigit_0 12 rfl rfl)
theorem dX7_isDigit_13 : decode cX7_isDigit 13 = .ok (.goto 4, 3) := dk_167 0 4 (dk_at dksX7_isDigit_0 13 rfl rfl)
theorem dX7_isDigit_16 : decode cX7_isDigit 16 = .ok (.iconst 0, 1) := dk_3 (dk_at dksX7_isDigit_0 16 rfl rfl)
theorem dX7_isDigit_17 : decode cX7_isDigit 17 = .ok (.ireturn, 1) := dk_172 (dk_at dksX7_isDigit_0 17 rfl rfl)
abbrev cX7_isMark : ByteArray := prog_18_method_13_code
def yX7_isMark : MethodName := ⟨RX7, "isMark", "(I)Z"⟩
def dkwX7_isMark_2 : List UInt8 := [26, 16, 61, 160, 0, 7, 4, 167, 0, 4, 3, 172]
abbrev dktX7_isMark_2 : List UInt8 := dkwX7_isMark_2 ++ []
def dkwX7_isMark_1 : List UInt8 := [26, 16, 45, 159, 0, 27, 26, 16, 42, 159, 0, 21, 26, 16, 47, 159, 0, 15, 26, 16, 60, 159, 0, 9]
abbrev dktX7_isMark_1 : List UInt8 := dkwX7_isMark_1 ++ dktX7_isMark_2
def dkwX7_isMark_0 : List UInt8 := [26, 16, 59, 159, 0, 51, 26, 16, 40, 159, 0, 45, 26, 16, 41, 159, 0, 39, 26, 16, 43, 159, 0, 33]
abbrev dktX7_isMark_0 : List UInt8 := dkwX7_isMark_0 ++ dktX7_isMark_1
theorem dksX7_isMark_0 : cX7_isMark.data.toList.drop 0 = dktX7_isMark_0 := by decide +kernel
theorem dksX7_isMark_1 : cX7_isMark.data.toList.drop 24 = dktX7_isMark_1 := dk_seg dksX7_isMark_0 24 rfl rfl
theorem dksX7_isMark_2 : cX7_isMark.data.toList.drop 48 = dktX7_isMark_2 := dk_seg dksX7_isMark_1 24 rfl rfl
theorem dX7_isMark_0 : decode cX7_isMark 0 = .ok (.iload_n 0, 1) := dk_26 (dk_at dksX7_isMark_0 0 rfl rfl)
theorem dX7_isMark_1 : decode cX7_isMark 1 = .ok (.bipush 59, 2) := dk_16 59 (dk_at dksX7_isMark_0 1 rfl rfl)
theorem dX7_isMark_3 : decode cX7_isMark 3 = .ok (.if_icmp .eq 51, 3) := dk_159 0 51 (dk_at dksX7_isMark_0 3 rfl rfl)
theorem dX7_isMark_6 : decode cX7_isMark 6 = .ok (.iload_n 0, 1) := dk_26 (dk_at dksX7_isMark_0 6 rfl rfl)
theorem dX7_isMark_7 : decode cX7_isMark 7 = .ok (.bipush 40, 2) := dk_16 40 (dk_at dksX7_isMark_0 7 rfl rfl)
theorem dX7_isMark_9 : decode cX7_isMark 9 = .ok (.if_icmp .eq 45, 3) := dk_159 0 45 (dk_at dksX7_isMark_0 9 rfl rfl)
theorem dX7_isMark_12 : decode cX7_isMark 12 = .ok (.iload_n 0, 1) := dk_26 (dk_at dksX7_isMark_0 12 rfl rfl)
theorem dX7_isMark_13 : decode cX7_isMark 13 = .ok (.bipush 41, 2) := dk_16 41 (dk_at dksX7_isMark_0 13 rfl rfl)
theorem dX7_isMark_15 : decode cX7_isMark 15 = .ok (.if_icmp .eq 39, 3) := dk_159 0 39 (dk_at dksX7_isMark_0 15 rfl rfl)
theorem dX7_isMark_18 : decode cX7_isMark 18 = .ok (.iload_n 0, 1) := dk_26 (dk_at dksX7_isMark_0 18 rfl rfl)
theorem dX7_isMark_19 : decode cX7_isMark 19 = .ok (.bipush 43, 2) := dk_16 43 (dk_at dksX7_isMark_0 19 rfl rfl)
theorem dX7_isMark_21 : decode cX7_isMark 21 = .ok (.if_icmp .eq 33, 3) := dk_159 0 33 (dk_at dksX7_isMark_0 21 rfl rfl)
theorem dX7_isMark_24 : decode cX7_isMark 24 = .ok (.iload_n 0, 1) := dk_26 (dk_at dksX7_isMark_1 0 rfl rfl)
theorem dX7_isMark_25 : decode cX7_isMark 25 = .ok (.bipush 45, 2) := dk_16 45 (dk_at dksX7_isMark_1 1 rfl rfl)
theorem dX7_isMark_27 : decode cX7_isMark 27 = .ok (.if_icmp .eq 27, 3) := dk_159 0 27 (dk_at dksX7_isMark_1 3 rfl rfl)
theorem dX7_isMark_30 : decode cX7_isMark 30 = .ok (.iload_n 0, 1) := dk_26 (dk_at dksX7_isMark_1 6 rfl rfl)
theorem dX7_isMark_31 : decode cX7_isMark 31 = .ok (.bipush 42, 2) := dk_16 42 (dk_at dksX7_isMark_1 7 rfl rfl)
theorem dX7_isMark_33 : decode cX7_isMark 33 = .ok (.if_icmp .eq 21, 3) := dk_159 0 21 (dk_at dksX7_isMark_1 9 rfl rfl)
theorem dX7_isMark_36 : decode cX7_isMark 36 = .ok (.iload_n 0, 1) := dk_26 (dk_at dksX7_isMark_1 12 rfl rfl)
theorem dX7_isMark_37 : decode cX7_isMark 37 = .ok (.bipush 47, 2) := dk_16 47 (dk_at dksX7_isMark_1 13 rfl rfl)
theorem dX7_isMark_39 : decode cX7_isMark 39 = .ok (.if_icmp .eq 15, 3) := dk_159 0 15 (dk_at dksX7_isMark_1 15 rfl rfl)
theorem dX7_isMark_42 : decode cX7_isMark 42 = .ok (.iload_n 0, 1) := dk_26 (dk_at dksX7_isMark_1 18 rfl rfl)
theorem dX7_isMark_43 : decode cX7_isMark 43 = .ok (.bipush 60, 2) := dk_16 60 (dk_at dksX7_isMark_1 19 rfl rfl)
theorem dX7_isMark_45 : decode cX7_isMark 45 = .ok (.if_icmp .eq 9, 3) := dk_159 0 9 (dk_at dksX7_isMark_1 21 rfl rfl)
theorem dX7_isMark_48 : decode cX7_isMark 48 = .ok (.iload_n 0, 1) := dk_26 (dk_at dksX7_isMark_2 0 rfl rfl)
theorem dX7_isMark_49 : decode cX7_isMark 49 = .ok (.bipush 61, 2) := dk_16 61 (dk_at dksX7_isMark_2 1 rfl rfl)
theorem dX7_isMark_51 : decode cX7_isMark 51 = .ok (.if_icmp .ne 7, 3) := dk_160 0 7 (dk_at dksX7_isMark_2 3 rfl rfl)
theorem dX7_isMark_54 : decode cX7_isMark 54 = .ok (.iconst 1, 1) := dk_4 (dk_at dksX7_isMark_2 6 rfl rfl)
theorem dX7_isMark_55 : decode cX7_isMark 55 = .ok (.goto 4, 3) := dk_167 0 4 (dk_at dksX7_isMark_2 7 rfl rfl)
theorem dX7_isMark_58 : decode cX7_isMark 58 = .ok (.iconst 0, 1) := dk_3 (dk_at dksX7_isMark_2 10 rfl rfl)
theorem dX7_isMark_59 : decode cX7_isMark 59 = .ok (.ireturn, 1) := dk_172 (dk_at dksX7_isMark_2 11 rfl rfl)
abbrev cX7_readLine : ByteArray := prog_18_method_36_code
def yX7_readLine : MethodName := ⟨RX7, "readLine", "(I)I"⟩
def dkwX7_readLine_10 : List UInt8 := [27, 28, 128, 172]
abbrev dktX7_readLine_10 : List UInt8 := dkwX7_readLine_10 ++ []
def dkwX7_readLine_9 : List UInt8 := [182, 0, 213, 153, 0, 10, 42, 182, 1, 44, 167, 0, 8, 42, 4, 182, 0, 220, 42, 16, 59, 182, 0, 243]
abbrev dktX7_readLine_9 : List UInt8 := dkwX7_readLine_9 ++ dktX7_readLine_10
def dkwX7_readLine_8 : List UInt8 := [167, 0, 42, 42, 19, 1, 38, 182, 0, 213, 153, 0, 10, 42, 182, 1, 40, 167, 0, 25, 42, 19, 1, 43]
abbrev dktX7_readLine_8 : List UInt8 := dkwX7_readLine_8 ++ dktX7_readLine_9
def dkwX7_readLine_7 : List UInt8 := [153, 0, 10, 42, 182, 1, 31, 167, 0, 59, 42, 19, 1, 34, 182, 0, 213, 153, 0, 10, 42, 182, 1, 35]
abbrev dktX7_readLine_7 : List UInt8 := dkwX7_readLine_7 ++ dktX7_readLine_8
def dkwX7_readLine_6 : List UInt8 := [16, 99, 182, 0, 233, 79, 167, 0, 84, 42, 3, 182, 0, 246, 167, 0, 76, 42, 19, 1, 29, 182, 0, 213]
abbrev dktX7_readLine_6 : List UInt8 := dkwX7_readLine_6 ++ dktX7_readLine_7
def dkwX7_readLine_5 : List UInt8 := [42, 4, 16, 9, 182, 0, 233, 79, 167, 0, 106, 28, 7, 160, 0, 20, 42, 180, 0, 29, 16, 14, 42, 3]
abbrev dktX7_readLine_5 : List UInt8 := dkwX7_readLine_5 ++ dktX7_readLine_6
def dkwX7_readLine_4 : List UInt8 := [16, 12, 42, 3, 16, 9, 182, 0, 233, 79, 167, 0, 128, 28, 5, 160, 0, 20, 42, 180, 0, 29, 16, 13]
abbrev dktX7_readLine_4 : List UInt8 := dkwX7_readLine_4 ++ dktX7_readLine_5
def dkwX7_readLine_3 : List UInt8 := [28, 158, 0, 88, 42, 180, 0, 199, 154, 0, 7, 42, 182, 0, 224, 28, 4, 160, 0, 20, 42, 180, 0, 29]
abbrev dktX7_readLine_3 : List UInt8 := dkwX7_readLine_3 ++ dktX7_readLine_4
def dkwX7_readLine_2 : List UInt8 := [182, 0, 213, 153, 0, 8, 16, 8, 167, 0, 4, 3, 61, 28, 27, 126, 153, 0, 8, 42, 8, 182, 0, 220]
abbrev dktX7_readLine_2 : List UInt8 := dkwX7_readLine_2 ++ dktX7_readLine_3
def dkwX7_readLine_1 : List UInt8 := [5, 167, 0, 33, 42, 19, 1, 25, 182, 0, 213, 153, 0, 7, 7, 167, 0, 19, 42, 19, 1, 27]
abbrev dktX7_readLine_1 : List UInt8 := dkwX7_readLine_1 ++ dktX7_readLine_2
def dkwX7_readLine_0 : List UInt8 := [42, 19, 1, 21, 182, 0, 213, 153, 0, 7, 4, 167, 0, 47, 42, 19, 1, 23, 182, 0, 213, 153, 0, 7]
abbrev dktX7_readLine_0 : List UInt8 := dkwX7_readLine_0 ++ dktX7_readLine_1
theorem dksX7_readLine_0 : cX7_readLine.data.toList.drop 0 = dktX7_readLine_0 := by decide +kernel
theorem dksX7_readLine_1 : cX7_readLine.data.toList.drop 24 = dktX7_readLine_1 := dk_seg dksX7_readLine_0 24 rfl rfl
theorem dksX7_readLine_2 : cX7_readLine.data.toList.drop 46 = dktX7_readLine_2 := dk_seg dksX7_readLine_1 22 rfl rfl
theorem dksX7_readLine_3 : cX7_readLine.data.toList.drop 70 = dktX7_readLine_3 := dk_seg dksX7_readLine_2 24 rfl rfl
theorem dksX7_readLine_4 : cX7_readLine.data.toList.drop 94 = dktX7_readLine_4 := dk_seg dksX7_readLine_3 24 rfl rfl
theorem dksX7_readLine_5 : cX7_readLine.data.toList.drop 118 = dktX7_readLine_5 := dk_seg dksX7_readLine_4 24 rfl rfl
theorem dksX7_readLine_6 : cX7_readLine.data.toList.drop 142 = dktX7_readLine_6 := dk_seg dksX7_readLine_5 24 rfl rfl
theorem dksX7_readLine_7 : cX7_readLine.data.toList.drop 166 = dktX7_readLine_7 := dk_seg dksX7_readLine_6 24 rfl rfl
theorem dksX7_readLine_8 : cX7_readLine.data.toList.drop 190 = dktX7_readLine_8 := dk_seg dksX7_readLine_7 24 rfl rfl
theorem dksX7_readLine_9 : cX7_readLine.data.toList.drop 214 = dktX7_readLine_9 := dk_seg dksX7_readLine_8 24 rfl rfl
theorem dksX7_readLine_10 : cX7_readLine.data.toList.drop 238 = dktX7_readLine_10 := dk_seg dksX7_readLine_9 24 rfl rfl
theorem dX7_readLine_0 : decode cX7_readLine 0 = .ok (.aload_n 0, 1) := dk_42 (dk_at dksX7_readLine_0 0 rfl rfl)
theorem dX7_readLine_1 : decode cX7_readLine 1 = .ok (.ldc_w 277, 3) := dk_19 1 21 (dk_at dksX7_readLine_0 1 rfl rfl)
theorem dX7_readLine_4 : decode cX7_readLine 4 = .ok (.invokevirtual 213, 3) := dk_182 0 213 (dk_at dksX7_readLine_0 4 rfl rfl)
theorem dX7_readLine_7 : decode cX7_readLine 7 = .ok (.ifCond .eq 7, 3) := dk_153 0 7 (dk_at dksX7_readLine_0 7 rfl rfl)
theorem dX7_readLine_10 : decode cX7_readLine 10 = .ok (.iconst 1, 1) := dk_4 (dk_at dksX7_readLine_0 10 rfl rfl)
theorem dX7_readLine_11 : decode cX7_readLine 11 = .ok (.goto 47, 3) := dk_167 0 47 (dk_at dksX7_readLine_0 11 rfl rfl)
theorem dX7_readLine_14 : decode cX7_readLine 14 = .ok (.aload_n 0, 1) := dk_42 (dk_at dksX7_readLine_0 14 rfl rfl)
theorem dX7_readLine_15 : decode cX7_readLine 15 = .ok (.ldc_w 279, 3) := dk_19 1 23 (dk_at dksX7_readLine_0 15 rfl rfl)
theorem dX7_readLine_18 : decode cX7_readLine 18 = .ok (.invokevirtual 213, 3) := dk_182 0 213 (dk_at dksX7_readLine_0 18 rfl rfl)
theorem dX7_readLine_21 : decode cX7_readLine 21 = .ok (.ifCond .eq 7, 3) := dk_153 0 7 (dk_at dksX7_readLine_0 21 rfl rfl)
theorem dX7_readLine_24 : decode cX7_readLine 24 = .ok (.iconst 2, 1) := dk_5 (dk_at dksX7_readLine_1 0 rfl rfl)
theorem dX7_readLine_25 : decode cX7_readLine 25 = .ok (.goto 33, 3) := dk_167 0 33 (dk_at dksX7_readLine_1 1 rfl rfl)
theorem dX7_readLine_28 : decode cX7_readLine 28 = .ok (.aload_n 0, 1) := dk_42 (dk_at dksX7_readLine_1 4 rfl rfl)
theorem dX7_readLine_29 : decode cX7_readLine 29 = .ok (.ldc_w 281, 3) := dk_19 1 25 (dk_at dksX7_readLine_1 5 rfl rfl)
theorem dX7_readLine_32 : decode cX7_readLine 32 = .ok (.invokevirtual 213, 3) := dk_182 0 213 (dk_at dksX7_readLine_1 8 rfl rfl)
theorem dX7_readLine_35 : decode cX7_readLine 35 = .ok (.ifCond .eq 7, 3) := dk_153 0 7 (dk_at dksX7_readLine_1 11 rfl rfl)
theorem dX7_readLine_38 : decode cX7_readLine 38 = .ok (.iconst 4, 1) := dk_7 (dk_at dksX7_readLine_1 14 rfl rfl)
theorem dX7_readLine_39 : decode cX7_readLine 39 = .ok (.goto 19, 3) := dk_167 0 19 (dk_at dksX7_readLine_1 15 rfl rfl)
theorem dX7_readLine_42 : decode cX7_readLine 42 = .ok (.aload_n 0, 1) := dk_42 (dk_at dksX7_readLine_1 18 rfl rfl)
theorem dX7_readLine_43 : decode cX7_readLine 43 = .ok (.ldc_w 283, 3) := dk_19 1 27 (dk_at dksX7_readLine_1 19 rfl rfl)
theorem dX7_readLine_46 : decode cX7_readLine 46 = .ok (.invokevirtual 213, 3) := dk_182 0 213 (dk_at dksX7_readLine_2 0 rfl rfl)
theorem dX7_readLine_49 : decode cX7_readLine 49 = .ok (.ifCond .eq 8, 3) := dk_153 0 8 (dk_at dksX7_readLine_2 3 rfl rfl)
theorem dX7_readLine_52 : decode cX7_readLine 52 = .ok (.bipush 8, 2) := dk_16 8 (dk_at dksX7_readLine_2 6 rfl rfl)
theorem dX7_readLine_54 : decode cX7_readLine 54 = .ok (.goto 4, 3) := dk_167 0 4 (dk_at dksX7_readLine_2 8 rfl rfl)
theorem dX7_readLine_57 : decode cX7_readLine 57 = .ok (.iconst 0, 1) := dk_3 (dk_at dksX7_readLine_2 11 rfl rfl)
theorem dX7_readLine_58 : decode cX7_readLine 58 = .ok (.istore_n 2, 1) := dk_61 (dk_at dksX7_readLine_2 12 rfl rfl)
theorem dX7_readLine_59 : decode cX7_readLine 59 = .ok (.iload_n 2, 1) := dk_28 (dk_at dksX7_readLine_2 13 rfl rfl)
theorem dX7_readLine_60 : decode cX7_readLine 60 = .ok (.iload_n 1, 1) := dk_27 (dk_at dksX7_readLine_2 14 rfl rfl)
theorem dX7_readLine_61 : decode cX7_readLine 61 = .ok (.iand, 1) := dk_126 (dk_at dksX7_readLine_2 15 rfl rfl)
theorem dX7_readLine_62 : decode cX7_readLine 62 = .ok (.ifCond .eq 8, 3) := dk_153 0 8 (dk_at dksX7_readLine_2 16 rfl rfl)
theorem dX7_readLine_65 : decode cX7_readLine 65 = .ok (.aload_n 0, 1) := dk_42 (dk_at dksX7_readLine_2 19 rfl rfl)
theorem dX7_readLine_66 : decode cX7_readLine 66 = .ok (.iconst 5, 1) := dk_8 (dk_at dksX7_readLine_2 20 rfl rfl)
theorem dX7_readLine_67 : decode cX7_readLine 67 = .ok (.invokevirtual 220, 3) := dk_182 0 220 (dk_at dksX7_readLine_2 21 rfl rfl)
theorem dX7_readLine_70 : decode cX7_readLine 70 = .ok (.iload_n 2, 1) := dk_28 (dk_at dksX7_readLine_3 0 rfl rfl)
theorem dX7_readLine_71 : decode cX7_readLine 71 = .ok (.ifCond .le 88, 3) := dk_158 0 88 (dk_at dksX7_readLine_3 1 rfl rfl)
theorem dX7_readLine_74 : decode cX7_readLine 74 = .ok (.aload_n 0, 1) := dk_42 (dk_at dksX7_readLine_3 4 rfl rfl)
theorem dX7_readLine_75 : decode cX7_readLine 75 = .ok (.getfield 199, 3) := dk_180 0 199 (dk_at dksX7_readLine_3 5 rfl rfl)
theorem dX7_readLine_78 : decode cX7_readLine 78 = .ok (.ifCond .ne 7, 3) := dk_154 0 7 (dk_at dksX7_readLine_3 8 rfl rfl)
theorem dX7_readLine_81 : decode cX7_readLine 81 = .ok (.aload_n 0, 1) := dk_42 (dk_at dksX7_readLine_3 11 rfl rfl)
theorem dX7_readLine_82 : decode cX7_readLine 82 = .ok (.invokevirtual 224, 3) := dk_182 0 224 (dk_at dksX7_readLine_3 12 rfl rfl)
theorem dX7_readLine_85 : decode cX7_readLine 85 = .ok (.iload_n 2, 1) := dk_28 (dk_at dksX7_readLine_3 15 rfl rfl)
theorem dX7_readLine_86 : decode cX7_readLine 86 = .ok (.iconst 1, 1) := dk_4 (dk_at dksX7_readLine_3 16 rfl rfl)
theorem dX7_readLine_87 : decode cX7_readLine 87 = .ok (.if_icmp .ne 20, 3) := dk_160 0 20 (dk_at dksX7_readLine_3 17 rfl rfl)
theorem dX7_readLine_90 : decode cX7_readLine 90 = .ok (.aload_n 0, 1) := dk_42 (dk_at dksX7_readLine_3 20 rfl rfl)
theorem dX7_readLine_91 : decode cX7_readLine 91 = .ok (.getfield 29, 3) := dk_180 0 29 (dk_at dksX7_readLine_3 21 rfl rfl)
theorem dX7_readLine_94 : decode cX7_readLine 94 = .ok (.bipush 12, 2) := dk_16 12 (dk_at dksX7_readLine_4 0 rfl rfl)
theorem dX7_readLine_96 : decode cX7_readLine 96 = .ok (.aload_n 0, 1) := dk_42 (dk_at dksX7_readLine_4 2 rfl rfl)
theorem dX7_readLine_97 : decode cX7_readLine 97 = .ok (.iconst 0, 1) := dk_3 (dk_at dksX7_readLine_4 3 rfl rfl)
theorem dX7_readLine_98 : decode cX7_readLine 98 = .ok (.bipush 9, 2) := dk_16 9 (dk_at dksX7_readLine_4 4 rfl rfl)
theorem dX7_readLine_100 : decode cX7_readLine 100 = .ok (.invokevirtual 233, 3) := dk_182 0 233 (dk_at dksX7_readLine_4 6 rfl rfl)
theorem dX7_readLine_103 : decode cX7_readLine 103 = .ok (.iastore, 1) := dk_79 (dk_at dksX7_readLine_4 9 rfl rfl)
theorem dX7_readLine_104 : decode cX7_readLine 104 = .ok (.goto 128, 3) := dk_167 0 128 (dk_at dksX7_readLine_4 10 rfl rfl)
theorem dX7_readLine_107 : decode cX7_readLine 107 = .ok (.iload_n 2, 1) := dk_28 (dk_at dksX7_readLine_4 13 rfl rfl)
theorem dX7_readLine_108 : decode cX7_readLine 108 = .ok (.iconst 2, 1) := dk_5 (dk_at dksX7_readLine_4 14 rfl rfl)
theorem dX7_readLine_109 : decode cX7_readLine 109 = .ok (.if_icmp .ne 20, 3) := dk_160 0 20 (dk_at dksX7_readLine_4 15 rfl rfl)
theorem dX7_readLine_112 : decode cX7_readLine 112 = .ok (.aload_n 0, 1) := dk_42 (dk_at dksX7_readLine_4 18 rfl rfl)
theorem dX7_readLine_113 : decode cX7_readLine 113 = .ok (.getfield 29, 3) := dk_180 0 29 (dk_at dksX7_readLine_4 19 rfl rfl)
theorem dX7_readLine_116 : decode cX7_readLine 116 = .ok (.bipush 13, 2) := dk_16 13 (dk_at dksX7_readLine_4 22 rfl rfl)
theorem dX7_readLine_118 : decode cX7_readLine 118 = .ok (.aload_n 0, 1) := dk_42 (dk_at dksX7_readLine_5 0 rfl rfl)
theorem dX7_readLine_119 : decode cX7_readLine 119 = .ok (.iconst 1, 1) := dk_4 (dk_at dksX7_readLine_5 1 rfl rfl)
theorem dX7_readLine_120 : decode cX7_readLine 120 = .ok (.bipush 9, 2) := dk_16 9 (dk_at dksX7_readLine_5 2 rfl rfl)
theorem dX7_readLine_122 : decode cX7_readLine 122 = .ok (.invokevirtual 233, 3) := dk_182 0 233 (dk_at dksX7_readLine_5 4 rfl rfl)
theorem dX7_readLine_125 : decode cX7_readLine 125 = .ok (.iastore, 1) := dk_79 (dk_at dksX7_readLine_5 7 rfl rfl)
theorem dX7_readLine_126 : decode cX7_readLine 126 = .ok (.goto 106, 3) := dk_167 0 106 (dk_at dksX7_readLine_5 8 rfl rfl)
theorem dX7_readLine_129 : decode cX7_readLine 129 = .ok (.iload_n 2, 1) := dk_28 (dk_at dksX7_readLine_5 11 rfl rfl)
theorem dX7_readLine_130 : decode cX7_readLine 130 = .ok (.iconst 4, 1) := dk_7 (dk_at dksX7_readLine_5 12 rfl rfl)
theorem dX7_readLine_131 : decode cX7_readLine 131 = .ok (.if_icmp .ne 20, 3) := dk_160 0 20 (dk_at dksX7_readLine_5 13 rfl rfl)
theorem dX7_readLine_134 : decode cX7_readLine 134 = .ok (.aload_n 0, 1) := dk_42 (dk_at dksX7_readLine_5 16 rfl rfl)
theorem dX7_readLine_135 : decode cX7_readLine 135 = .ok (.getfield 29, 3) := dk_180 0 29 (dk_at dksX7_readLine_5 17 rfl rfl)
theorem dX7_readLine_138 : decode cX7_readLine 138 = .ok (.bipush 14, 2) := dk_16 14 (dk_at dksX7_readLine_5 20 rfl rfl)
theorem dX7_readLine_140 : decode cX7_readLine 140 = .ok (.aload_n 0, 1) := dk_42 (dk_at dksX7_readLine_5 22 rfl rfl)
theorem dX7_readLine_141 : decode cX7_readLine 141 = .ok (.iconst 0, 1) := dk_3 (dk_at dksX7_readLine_5 23 rfl rfl)
theorem dX7_readLine_142 : decode cX7_readLine 142 = .ok (.bipush 99, 2) := dk_16 99 (dk_at dksX7_readLine_6 0 rfl rfl)
theorem dX7_readLine_144 : decode cX7_readLine 144 = .ok (.invokevirtual 233, 3) := dk_182 0 233 (dk_at dksX7_readLine_6 2 rfl rfl)
theorem dX7_readLine_147 : decode cX7_readLine 147 = .ok (.iastore, 1) := dk_79 (dk_at dksX7_readLine_6 5 rfl rfl)
theorem dX7_readLine_148 : decode cX7_readLine 148 = .ok (.goto 84, 3) := dk_167 0 84 (dk_at dksX7_readLine_6 6 rfl rfl)
theorem dX7_readLine_151 : decode cX7_readLine 151 = .ok (.aload_n 0, 1) := dk_42 (dk_at dksX7_readLine_6 9 rfl rfl)
theorem dX7_readLine_152 : decode cX7_readLine 152 = .ok (.iconst 0, 1) := dk_3 (dk_at dksX7_readLine_6 10 rfl rfl)
theorem dX7_readLine_153 : decode cX7_readLine 153 = .ok (.invokevirtual 246, 3) := dk_182 0 246 (dk_at dksX7_readLine_6 11 rfl rfl)
theorem dX7_readLine_156 : decode cX7_readLine 156 = .ok (.goto 76, 3) := dk_167 0 76 (dk_at dksX7_readLine_6 14 rfl rfl)
theorem dX7_readLine_159 : decode cX7_readLine 159 = .ok (.aload_n 0, 1) := dk_42 (dk_at dksX7_readLine_6 17 rfl rfl)
theorem dX7_readLine_160 : decode cX7_readLine 160 = .ok (.ldc_w 285, 3) := dk_19 1 29 (dk_at dksX7_readLine_6 18 rfl rfl)
theorem dX7_readLine_163 : decode cX7_readLine 163 = .ok (.invokevirtual 213, 3) := dk_182 0 213 (dk_at dksX7_readLine_6 21 rfl rfl)
theorem dX7_readLine_166 : decode cX7_readLine 166 = .ok (.ifCond .eq 10, 3) := dk_153 0 10 (dk_at dksX7_readLine_7 0 rfl rfl)
theorem dX7_readLine_169 : decode cX7_readLine 169 = .ok (.aload_n 0, 1) := dk_42 (dk_at dksX7_readLine_7 3 rfl rfl)
theorem dX7_readLine_170 : decode cX7_readLine 170 = .ok (.invokevirtual 287, 3) := dk_182 1 31 (dk_at dksX7_readLine_7 4 rfl rfl)
theorem dX7_readLine_173 : decode cX7_readLine 173 = .ok (.goto 59, 3) := dk_167 0 59 (dk_at dksX7_readLine_7 7 rfl rfl)
theorem dX7_readLine_176 : decode cX7_readLine 176 = .ok (.aload_n 0, 1) := dk_42 (dk_at dksX7_readLine_7 10 rfl rfl)
theorem dX7_readLine_177 : decode cX7_readLine 177 = .ok (.ldc_w 290, 3) := dk_19 1 34 (dk_at dksX7_readLine_7 11 rfl rfl)
theorem dX7_readLine_180 : decode cX7_readLine 180 = .ok (.invokevirtual 213, 3) := dk_182 0 213 (dk_at dksX7_readLine_7 14 rfl rfl)
theorem dX7_readLine_183 : decode cX7_readLine 183 = .ok (.ifCond .eq 10, 3) := dk_153 0 10 (dk_at dksX7_readLine_7 17 rfl rfl)
theorem dX7_readLine_186 : decode cX7_readLine 186 = .ok (.aload_n 0, 1) := dk_42 (dk_at dksX7_readLine_7 20 rfl rfl)
theorem dX7_readLine_187 : decode cX7_readLine 187 = .ok (.invokevirtual 291, 3) := dk_182 1 35 (dk_at dksX7_readLine_7 21 rfl rfl)
theorem dX7_readLine_190 : decode cX7_readLine 190 = .ok (.goto 42, 3) := dk_167 0 42 (dk_at dksX7_readLine_8 0 rfl rfl)
theorem dX7_readLine_193 : decode cX7_readLine 193 = .ok (.aload_n 0, 1) := dk_42 (dk_at dksX7_readLine_8 3 rfl rfl)
theorem dX7_readLine_194 : decode cX7_readLine 194 = .ok (.ldc_w 294, 3) := dk_19 1 38 (dk_at dksX7_readLine_8 4 rfl rfl)
theorem dX7_readLine_197 : decode cX7_readLine 197 = .ok (.invokevirtual 213, 3) := dk_182 0 213 (dk_at dksX7_readLine_8 7 rfl rfl)
theorem dX7_readLine_200 : decode cX7_readLine 200 = .ok (.ifCond .eq 10, 3) := dk_153 0 10 (dk_at dksX7_readLine_8 10 rfl rfl)
theorem dX7_readLine_203 : decode cX7_readLine 203 = .ok (.aload_n 0, 1) := dk_42 (dk_at dksX7_readLine_8 13 rfl rfl)
theorem dX7_readLine_204 : decode cX7_readLine 204 = .ok (.invokevirtual 296, 3) := dk_182 1 40 (dk_at dksX7_readLine_8 14 rfl rfl)
theorem dX7_readLine_207 : decode cX7_readLine 207 = .ok (.goto 25, 3) := dk_167 0 25 (dk_at dksX7_readLine_8 17 rfl rfl)
theorem dX7_readLine_210 : decode cX7_readLine 210 = .ok (.aload_n 0, 1) := dk_42 (dk_at dksX7_readLine_8 20 rfl rfl)
theorem dX7_readLine_211 : decode cX7_readLine 211 = .ok (.ldc_w 299, 3) := dk_19 1 43 (dk_at dksX7_readLine_8 21 rfl rfl)
theorem dX7_readLine_214 : decode cX7_readLine 214 = .ok (.invokevirtual 213, 3) := dk_182 0 213 (dk_at dksX7_readLine_9 0 rfl rfl)
theorem dX7_readLine_217 : decode cX7_readLine 217 = .ok (.ifCond .eq 10, 3) := dk_153 0 10 (dk_at dksX7_readLine_9 3 rfl rfl)
theorem dX7_readLine_220 : decode cX7_readLine 220 = .ok (.aload_n 0, 1) := dk_42 (dk_at dksX7_readLine_9 6 rfl rfl)
theorem dX7_readLine_221 : decode cX7_readLine 221 = .ok (.invokevirtual 300, 3) := dk_182 1 44 (dk_at dksX7_readLine_9 7 rfl rfl)
theorem dX7_readLine_224 : decode cX7_readLine 224 = .ok (.goto 8, 3) := dk_167 0 8 (dk_at dksX7_readLine_9 10 rfl rfl)
theorem dX7_readLine_227 : decode cX7_readLine 227 = .ok (.aload_n 0, 1) := dk_42 (dk_at dksX7_readLine_9 13 rfl rfl)
theorem dX7_readLine_228 : decode cX7_readLine 228 = .ok (.iconst 1, 1) := dk_4 (dk_at dksX7_readLine_9 14 rfl rfl)
theorem dX7_readLine_229 : decode cX7_readLine 229 = .ok (.invokevirtual 220, 3) := dk_182 0 220 (dk_at dksX7_readLine_9 15 rfl rfl)
theorem dX7_readLine_232 : decode cX7_readLine 232 = .ok (.aload_n 0, 1) := dk_42 (dk_at dksX7_readLine_9 18 rfl rfl)
theorem dX7_readLine_233 : decode cX7_readLine 233 = .ok (.bipush 59, 2) := dk_16 59 (dk_at dksX7_readLine_9 19 rfl rfl)
theorem dX7_readLine_235 : decode cX7_readLine 235 = .ok (.invokevirtual 243, 3) := dk_182 0 243 (dk_at dksX7_readLine_9 21 rfl rfl)
theorem dX7_readLine_238 : decode cX7_readLine 238 = .ok (.iload_n 1, 1) := dk_27 (dk_at dksX7_readLine_10 0 rfl rfl)
theorem dX7_readLine_239 : decode cX7_readLine 239 = .ok (.iload_n 2, 1) := dk_28 (dk_at dksX7_readLine_10 1 rfl rfl)
theorem dX7_readLine_240 : decode cX7_readLine 240 = .ok (.ior, 1) := dk_128 (dk_at dksX7_readLine_10 2 rfl rfl)
theorem dX7_readLine_241 : decode cX7_readLine 241 = .ok (.ireturn, 1) := dk_172 (dk_at dksX7_readLine_10 3 rfl rfl)
abbrev cX7_is : ByteArray := prog_18_method_16_code
def yX7_is : MethodName := ⟨RX7, "is", "(Ljava/lang/String;)Z"⟩
def dkwX7_is_3 : List UInt8 := [167, 0, 4, 3, 61, 132, 3, 1, 167, 255, 216, 28, 172]
abbrev dktX7_is_3 : List UInt8 := dkwX7_is_3 ++ []
def dkwX7_is_2 : List UInt8 := [162, 0, 34, 43, 29, 182, 0, 209, 42, 180, 0, 65, 42, 180, 0, 170, 29, 96, 46, 160, 0, 7, 4]
abbrev dktX7_is_2 : List UInt8 := dkwX7_is_2 ++ dktX7_is_3
def dkwX7_is_1 : List UInt8 := [180, 0, 170, 100, 160, 0, 7, 4, 167, 0, 4, 3, 61, 3, 62, 28, 153, 0, 42, 29, 43, 182, 0, 205]
abbrev dktX7_is_1 : List UInt8 := dkwX7_is_1 ++ dktX7_is_2
def dkwX7_is_0 : List UInt8 := [42, 180, 0, 199, 154, 0, 31, 42, 180, 0, 173, 4, 160, 0, 23, 43, 182, 0, 205, 42, 180, 0, 196, 42]
abbrev dktX7_is_0 : List UInt8 := dkwX7_is_0 ++ dktX7_is_1
theorem dksX7_is_0 : cX7_is.data.toList.drop 0 = dktX7_is_0 := by decide +kernel
theorem dksX7_is_1 : cX7_is.data.toList.drop 24 = dktX7_is_1 := dk_seg dksX7_is_0 24 rfl rfl
theorem dksX7_is_2 : cX7_is.data.toList.drop 48 = dktX7_is_2 := dk_seg dksX7_is_1 24 rfl rfl
theorem dksX7_is_3 : cX7_is.data.toList.drop 71 = dktX7_is_3 := dk_seg dksX7_is_2 23 rfl rfl
theorem dX7_is_0 : decode cX7_is 0 = .ok (.aload_n 0, 1) := dk_42 (dk_at dksX7_is_0 0 rfl rfl)
theorem dX7_is_1 : decode cX7_is 1 = .ok (.getfield 199, 3) := dk_180 0 199 (dk_at dksX7_is_0 1 rfl rfl)
theorem dX7_is_4 : decode cX7_is 4 = .ok (.ifCond .ne 31, 3) := dk_154 0 31 (dk_at dksX7_is_0 4 rfl rfl)
theorem dX7_is_7 : decode cX7_is 7 = .ok (.aload_n 0, 1) := dk_42 (dk_at dksX7_is_0 7 rfl rfl)
theorem dX7_is_8 : decode cX7_is 8 = .ok (.getfield 173, 3) := dk_180 0 173 (dk_at dksX7_is_0 8 rfl rfl)
theorem dX7_is_11 : decode cX7_is 11 = .ok (.iconst 1, 1) := dk_4 (dk_at dksX7_is_0 11 rfl rfl)
theorem dX7_is_12 : decode cX7_is 12 = .ok (.if_icmp .ne 23, 3) := dk_160 0 23 (dk_at dksX7_is_0 12 rfl rfl)
theorem dX7_is_15 : decode cX7_is 15 = .ok (.aload_n 1, 1) := dk_43 (dk_at dksX7_is_0 15 rfl rfl)
theorem dX7_is_16 : decode cX7_is 16 = .ok (.invokevirtual 205, 3) := dk_182 0 205 (dk_at dksX7_is_0 16 rfl rfl)
theorem dX7_is_19 : decode cX7_is 19 = .ok (.aload_n 0, 1) := dk_42 (dk_at dksX7_is_0 19 rfl rfl)
theorem dX7_is_20 : decode cX7_is 20 = .ok (.getfield 196, 3) := dk_180 0 196 (dk_at dksX7_is_0 20 rfl rfl)
theorem dX7_is_23 : decode cX7_is 23 = .ok (.aload_n 0, 1) := dk_42 (dk_at dksX7_is_0 23 rfl rfl)
theorem dX7_is_24 : decode cX7_is 24 = .ok (.getfield 170, 3) := dk_180 0 170 (dk_at dksX7_is_1 0 rfl rfl)
theorem dX7_is_27 : decode cX7_is 27 = .ok (.isub, 1) := dk_100 (dk_at dksX7_is_1 3 rfl rfl)
theorem dX7_is_28 : decode cX7_is 28 = .ok (.if_icmp .ne 7, 3) := dk_160 0 7 (dk_at dksX7_is_1 4 rfl rfl)
theorem dX7_is_31 : decode cX7_is 31 = .ok (.iconst 1, 1) := dk_4 (dk_at dksX7_is_1 7 rfl rfl)
theorem dX7_is_32 : decode cX7_is 32 = .ok (.goto 4, 3) := dk_167 0 4 (dk_at dksX7_is_1 8 rfl rfl)
theorem dX7_is_35 : decode cX7_is 35 = .ok (.iconst 0, 1) := dk_3 (dk_at dksX7_is_1 11 rfl rfl)
theorem dX7_is_36 : decode cX7_is 36 = .ok (.istore_n 2, 1) := dk_61 (dk_at dksX7_is_1 12 rfl rfl)
theorem dX7_is_37 : decode cX7_is 37 = .ok (.iconst 0, 1) := dk_3 (dk_at dksX7_is_1 13 rfl rfl)
theorem dX7_is_38 : decode cX7_is 38 = .ok (.istore_n 3, 1) := dk_62 (dk_at dksX7_is_1 14 rfl rfl)
theorem dX7_is_39 : decode cX7_is 39 = .ok (.iload_n 2, 1) := dk_28 (dk_at dksX7_is_1 15 rfl rfl)
theorem dX7_is_40 : decode cX7_is 40 = .ok (.ifCond .eq 42, 3) := dk_153 0 42 (dk_at dksX7_is_1 16 rfl rfl)
theorem dX7_is_43 : decode cX7_is 43 = .ok (.iload_n 3, 1) := dk_29 (dk_at dksX7_is_1 19 rfl rfl)
theorem dX7_is_44 : decode cX7_is 44 = .ok (.aload_n 1, 1) := dk_43 (dk_at dksX7_is_1 20 rfl rfl)
theorem dX7_is_45 : decode cX7_is 45 = .ok (.invokevirtual 205, 3) := dk_182 0 205 (dk_at dksX7_is_1 21 rfl rfl)
theorem dX7_is_48 : decode cX7_is 48 = .ok (.if_icmp .ge 34, 3) := dk_162 0 34 (dk_at dksX7_is_2 0 rfl rfl)
theorem dX7_is_51 : decode cX7_is 51 = .ok (.aload_n 1, 1) := dk_43 (dk_at dksX7_is_2 3 rfl rfl)
theorem dX7_is_52 : decode cX7_is 52 = .ok (.iload_n 3, 1) := dk_29 (dk_at dksX7_is_2 4 rfl rfl)
theorem dX7_is_53 : decode cX7_is 53 = .ok (.invokevirtual 209, 3) := dk_182 0 209 (dk_at dksX7_is_2 5 rfl rfl)
theorem dX7_is_56 : decode cX7_is 56 = .ok (.aload_n 0, 1) := dk_42 (dk_at dksX7_is_2 8 rfl rfl)
theorem dX7_is_57 : decode cX7_is 57 = .ok (.getfield 65, 3) := dk_180 0 65 (dk_at dksX7_is_2 9 rfl rfl)
theorem dX7_is_60 : decode cX7_is 60 = .ok (.aload_n 0, 1) := dk_42 (dk_at dksX7_is_2 12 rfl rfl)
theorem dX7_is_61 : decode cX7_is 61 = .ok (.getfield 170, 3) := dk_180 0 170 (dk_at dksX7_is_2 13 rfl rfl)
theorem dX7_is_64 : decode cX7_is 64 = .ok (.iload_n 3, 1) := dk_29 (dk_at dksX7_is_2 16 rfl rfl)
theorem dX7_is_65 : decode cX7_is 65 = .ok (.iadd, 1) := dk_96 (dk_at dksX7_is_2 17 rfl rfl)
theorem dX7_is_66 : decode cX7_is 66 = .ok (.iaload, 1) := dk_46 (dk_at dksX7_is_2 18 rfl rfl)
theorem dX7_is_67 : decode cX7_is 67 = .ok (.if_icmp .ne 7, 3) := dk_160 0 7 (dk_at dksX7_is_2 19 rfl rfl)
theorem dX7_is_70 : decode cX7_is 70 = .ok (.iconst 1, 1) := dk_4 (dk_at dksX7_is_2 22 rfl rfl)
theorem dX7_is_71 : decode cX7_is 71 = .ok (.goto 4, 3) := dk_167 0 4 (dk_at dksX7_is_3 0 rfl rfl)
theorem dX7_is_74 : decode cX7_is 74 = .ok (.iconst 0, 1) := dk_3 (dk_at dksX7_is_3 3 rfl rfl)
theorem dX7_is_75 : decode cX7_is 75 = .ok (.istore_n 2, 1) := dk_61 (dk_at dksX7_is_3 4 rfl rfl)
theorem dX7_is_76 : decode cX7_is 76 = .ok (.iinc 3 1, 3) := dk_132 3 1 (dk_at dksX7_is_3 5 rfl rfl)
theorem dX7_is_79 : decode cX7_is 79 = .ok (.goto (-40), 3) := dk_167 255 216 (dk_at dksX7_is_3 8 rfl rfl)
theorem dX7_is_82 : decode cX7_is 82 = .ok (.iload_n 2, 1) := dk_28 (dk_at dksX7_is_3 11 rfl rfl)
theorem dX7_is_83 : decode cX7_is 83 = .ok (.ireturn, 1) := dk_172 (dk_at dksX7_is_3 12 rfl rfl)
abbrev cX7_wrong : ByteArray := prog_18_method_15_code
def yX7_wrong : MethodName := ⟨RX7, "wrong", "(I)V"⟩
def dkwX7_wrong_0 : List UInt8 := [42, 180, 0, 199, 153, 0, 4, 177, 42, 27, 181, 0, 199, 42, 42, 180, 0, 170, 181, 0, 202, 177]
abbrev dktX7_wrong_0 : List UInt8 := dkwX7_wrong_0 ++ []
theorem dksX7_wrong_0 : cX7_wrong.data.toList.drop 0 = dktX7_wrong_0 := by decide +kernel
theorem dX7_wrong_0 : decode cX7_wrong 0 = .ok (.aload_n 0, 1) := dk_42 (dk_at dksX7_wrong_0 0 rfl rfl)
theorem dX7_wrong_1 : decode cX7_wrong 1 = .ok (.getfield 199, 3) := dk_180 0 199 (dk_at dksX7_wrong_0 1 rfl rfl)
theorem dX7_wrong_4 : decode cX7_wrong 4 = .ok (.ifCond .eq 4, 3) := dk_153 0 4 (dk_at dksX7_wrong_0 4 rfl rfl)
theorem dX7_wrong_7 : decode cX7_wrong 7 = .ok (.return_, 1) := dk_177 (dk_at dksX7_wrong_0 7 rfl rfl)
theorem dX7_wrong_8 : decode cX7_wrong 8 = .ok (.aload_n 0, 1) := dk_42 (dk_at dksX7_wrong_0 8 rfl rfl)
theorem dX7_wrong_9 : decode cX7_wrong 9 = .ok (.iload_n 1, 1) := dk_27 (dk_at dksX7_wrong_0 9 rfl rfl)
theorem dX7_wrong_10 : decode cX7_wrong 10 = .ok (.putfield 199, 3) := dk_181 0 199 (dk_at dksX7_wrong_0 10 rfl rfl)
theorem dX7_wrong_13 : decode cX7_wrong 13 = .ok (.aload_n 0, 1) := dk_42 (dk_at dksX7_wrong_0 13 rfl rfl)
theorem dX7_wrong_14 : decode cX7_wrong 14 = .ok (.aload_n 0, 1) := dk_42 (dk_at dksX7_wrong_0 14 rfl rfl)
theorem dX7_wrong_15 : decode cX7_wrong 15 = .ok (.getfield 170, 3) := dk_180 0 170 (dk_at dksX7_wrong_0 15 rfl rfl)
theorem dX7_wrong_18 : decode cX7_wrong 18 = .ok (.putfield 202, 3) := dk_181 0 202 (dk_at dksX7_wrong_0 18 rfl rfl)
theorem dX7_wrong_21 : decode cX7_wrong 21 = .ok (.return_, 1) := dk_177 (dk_at dksX7_wrong_0 21 rfl rfl)
abbrev cX7_readNumber : ByteArray := prog_18_method_21_code
def yX7_readNumber : MethodName := ⟨RX7, "readNumber", "(II)I"⟩
def dkwX7_readNumber_0 : List UInt8 := [42, 27, 28, 182, 0, 227, 62, 42, 180, 0, 199, 154, 0, 7, 42, 182, 0, 224, 29, 172]
abbrev dktX7_readNumber_0 : List UInt8 := dkwX7_readNumber_0 ++ []
theorem dksX7_readNumber_0 : cX7_readNumber.data.toList.drop 0 = dktX7_readNumber_0 := by decide +kernel
theorem dX7_readNumber_0 : decode cX7_readNumber 0 = .ok (.aload_n 0, 1) := dk_42 (dk_at dksX7_readNumber_0 0 rfl rfl)
theorem dX7_readNumber_1 : decode cX7_readNumber 1 = .ok (.iload_n 1, 1) := dk_27 (dk_at dksX7_readNumber_0 1 rfl rfl)
theorem dX7_readNumber_2 : decode cX7_readNumber 2 = .ok (.iload_n 2, 1) := dk_28 (dk_at dksX7_readNumber_0 2 rfl rfl)
theorem dX7_readNumber_3 : decode cX7_readNumber 3 = .ok (.invokevirtual 227, 3) := dk_182 0 227 (dk_at dksX7_readNumber_0 3 rfl rfl)
theorem dX7_readNumber_6 : decode cX7_readNumber 6 = .ok (.istore_n 3, 1) := dk_62 (dk_at dksX7_readNumber_0 6 rfl rfl)
theorem dX7_readNumber_7 : decode cX7_readNumber 7 = .ok (.aload_n 0, 1) := dk_42 (dk_at dksX7_readNumber_0 7 rfl rfl)
theorem dX7_readNumber_8 : decode cX7_readNumber 8 = .ok (.getfield 199, 3) := dk_180 0 199 (dk_at dksX7_readNumber_0 8 rfl rfl)
theorem dX7_readNumber_11 : decode cX7_readNumber 11 = .ok (.ifCond .ne 7, 3) := dk_154 0 7 (dk_at dksX7_readNumber_0 11 rfl rfl)
theorem dX7_readNumber_14 : decode cX7_readNumber 14 = .ok (.aload_n 0, 1) := dk_42 (dk_at dksX7_readNumber_0 14 rfl rfl)
theorem dX7_readNumber_15 : decode cX7_readNumber 15 = .ok (.invokevirtual 224, 3) := dk_182 0 224 (dk_at dksX7_readNumber_0 15 rfl rfl)
theorem dX7_readNumber_18 : decode cX7_readNumber 18 = .ok (.iload_n 3, 1) := dk_29 (dk_at dksX7_readNumber_0 18 rfl rfl)
theorem dX7_readNumber_19 : decode cX7_readNumber 19 = .ok (.ireturn, 1) := dk_172 (dk_at dksX7_readNumber_0 19 rfl rfl)
abbrev cX7_numberNow : ByteArray := prog_18_method_20_code
def yX7_numberNow : MethodName := ⟨RX7, "numberNow", "(II)I"⟩
def dkwX7_numberNow_3 : List UInt8 := [167, 0, 4, 3, 172]
abbrev dktX7_numberNow_3 : List UInt8 := dkwX7_numberNow_3 ++ []
def dkwX7_numberNow_2 : List UInt8 := [42, 180, 0, 183, 28, 164, 0, 8, 42, 5, 182, 0, 220, 42, 180, 0, 199, 154, 0, 10, 42, 180, 0, 183]
abbrev dktX7_numberNow_2 : List UInt8 := dkwX7_numberNow_2 ++ dktX7_numberNow_3
def dkwX7_numberNow_1 : List UInt8 := [167, 0, 37, 42, 180, 0, 196, 42, 180, 0, 170, 100, 7, 163, 0, 19, 42, 180, 0, 183, 27, 161, 0, 11]
abbrev dktX7_numberNow_1 : List UInt8 := dkwX7_numberNow_1 ++ dktX7_numberNow_2
def dkwX7_numberNow_0 : List UInt8 := [42, 180, 0, 199, 153, 0, 5, 3, 172, 42, 180, 0, 173, 5, 159, 0, 11, 42, 4, 182, 0, 220]
abbrev dktX7_numberNow_0 : List UInt8 := dkwX7_numberNow_0 ++ dktX7_numberNow_1
theorem dksX7_numberNow_0 : cX7_numberNow.data.toList.drop 0 = dktX7_numberNow_0 := by decide +kernel
theorem dksX7_numberNow_1 : cX7_numberNow.data.toList.drop 22 = dktX7_numberNow_1 := dk_seg dksX7_numberNow_0 22 rfl rfl
theorem dksX7_numberNow_2 : cX7_numberNow.data.toList.drop 46 = dktX7_numberNow_2 := dk_seg dksX7_numberNow_1 24 rfl rfl
theorem dksX7_numberNow_3 : cX7_numberNow.data.toList.drop 70 = dktX7_numberNow_3 := dk_seg dksX7_numberNow_2 24 rfl rfl
theorem dX7_numberNow_0 : decode cX7_numberNow 0 = .ok (.aload_n 0, 1) := dk_42 (dk_at dksX7_numberNow_0 0 rfl rfl)
theorem dX7_numberNow_1 : decode cX7_numberNow 1 = .ok (.getfield 199, 3) := dk_180 0 199 (dk_at dksX7_numberNow_0 1 rfl rfl)
theorem dX7_numberNow_4 : decode cX7_numberNow 4 = .ok (.ifCond .eq 5, 3) := dk_153 0 5 (dk_at dksX7_numberNow_0 4 rfl rfl)
theorem dX7_numberNow_7 : decode cX7_numberNow 7 = .ok (.iconst 0, 1) := dk_3 (dk_at dksX7_numberNow_0 7 rfl rfl)
theorem dX7_numberNow_8 : decode cX7_numberNow 8 = .ok (.ireturn, 1) := dk_172 (dk_at dksX7_numberNow_0 8 rfl rfl)
theorem dX7_numberNow_9 : decode cX7_numberNow 9 = .ok (.aload_n 0, 1) := dk_42 (dk_at dksX7_numberNow_0 9 rfl rfl)
theorem dX7_numberNow_10 : decode cX7_numberNow 10 = .ok (.getfield 173, 3) := dk_180 0 173 (dk_at dksX7_numberNow_0 10 rfl rfl)
theorem dX7_numberNow_13 : decode cX7_numberNow 13 = .ok (.iconst 2, 1) := dk_5 (dk_at dksX7_numberNow_0 13 rfl rfl)
theorem dX7_numberNow_14 : decode cX7_numberNow 14 = .ok (.if_icmp .eq 11, 3) := dk_159 0 11 (dk_at dksX7_numberNow_0 14 rfl rfl)
theorem dX7_numberNow_17 : decode cX7_numberNow 17 = .ok (.aload_n 0, 1) := dk_42 (dk_at dksX7_numberNow_0 17 rfl rfl)
theorem dX7_numberNow_18 : decode cX7_numberNow 18 = .ok (.iconst 1, 1) := dk_4 (dk_at dksX7_numberNow_0 18 rfl rfl)
theorem dX7_numberNow_19 : decode cX7_numberNow 19 = .ok (.invokevirtual 220, 3) := dk_182 0 220 (dk_at dksX7_numberNow_0 19 rfl rfl)
theorem dX7_numberNow_22 : decode cX7_numberNow 22 = .ok (.goto 37, 3) := dk_167 0 37 (dk_at dksX7_numberNow_1 0 rfl rfl)
theorem dX7_numberNow_25 : decode cX7_numberNow 25 = .ok (.aload_n 0, 1) := dk_42 (dk_at dksX7_numberNow_1 3 rfl rfl)
theorem dX7_numberNow_26 : decode cX7_numberNow 26 = .ok (.getfield 196, 3) := dk_180 0 196 (dk_at dksX7_numberNow_1 4 rfl rfl)
theorem dX7_numberNow_29 : decode cX7_numberNow 29 = .ok (.aload_n 0, 1) := dk_42 (dk_at dksX7_numberNow_1 7 rfl rfl)
theorem dX7_numberNow_30 : decode cX7_numberNow 30 = .ok (.getfield 170, 3) := dk_180 0 170 (dk_at dksX7_numberNow_1 8 rfl rfl)
theorem dX7_numberNow_33 : decode cX7_numberNow 33 = .ok (.isub, 1) := dk_100 (dk_at dksX7_numberNow_1 11 rfl rfl)
theorem dX7_numberNow_34 : decode cX7_numberNow 34 = .ok (.iconst 4, 1) := dk_7 (dk_at dksX7_numberNow_1 12 rfl rfl)
theorem dX7_numberNow_35 : decode cX7_numberNow 35 = .ok (.if_icmp .gt 19, 3) := dk_163 0 19 (dk_at dksX7_numberNow_1 13 rfl rfl)
theorem dX7_numberNow_38 : decode cX7_numberNow 38 = .ok (.aload_n 0, 1) := dk_42 (dk_at dksX7_numberNow_1 16 rfl rfl)
theorem dX7_numberNow_39 : decode cX7_numberNow 39 = .ok (.getfield 183, 3) := dk_180 0 183 (dk_at dksX7_numberNow_1 17 rfl rfl)
theorem dX7_numberNow_42 : decode cX7_numberNow 42 = .ok (.iload_n 1, 1) := dk_27 (dk_at dksX7_numberNow_1 20 rfl rfl)
theorem dX7_numberNow_43 : decode cX7_numberNow 43 = .ok (.if_icmp .lt 11, 3) := dk_161 0 11 (dk_at dksX7_numberNow_1 21 rfl rfl)
theorem dX7_numberNow_46 : decode cX7_numberNow 46 = .ok (.aload_n 0, 1) := dk_42 (dk_at dksX7_numberNow_2 0 rfl rfl)
theorem dX7_numberNow_47 : decode cX7_numberNow 47 = .ok (.getfield 183, 3) := dk_180 0 183 (dk_at dksX7_numberNow_2 1 rfl rfl)
theorem dX7_numberNow_50 : decode cX7_numberNow 50 = .ok (.iload_n 2, 1) := dk_28 (dk_at dksX7_numberNow_2 4 rfl rfl)
theorem dX7_numberNow_51 : decode cX7_numberNow 51 = .ok (.if_icmp .le 8, 3) := dk_164 0 8 (dk_at dksX7_numberNow_2 5 rfl rfl)
theorem dX7_numberNow_54 : decode cX7_numberNow 54 = .ok (.aload_n 0, 1) := dk_42 (dk_at dksX7_numberNow_2 8 rfl rfl)
theorem dX7_numberNow_55 : decode cX7_numberNow 55 = .ok (.iconst 2, 1) := dk_5 (dk_at dksX7_numberNow_2 9 rfl rfl)
theorem dX7_numberNow_56 : decode cX7_numberNow 56 = .ok (.invokevirtual 220, 3) := dk_182 0 220 (dk_at dksX7_numberNow_2 10 rfl rfl)
theorem dX7_numberNow_59 : decode cX7_numberNow 59 = .ok (.aload_n 0, 1) := dk_42 (dk_at dksX7_numberNow_2 13 rfl rfl)
theorem dX7_numberNow_60 : decode cX7_numberNow 60 = .ok (.getfield 199, 3) := dk_180 0 199 (dk_at dksX7_numberNow_2 14 rfl rfl)
theorem dX7_numberNow_63 : decode cX7_numberNow 63 = .ok (.ifCond .ne 10, 3) := dk_154 0 10 (dk_at dksX7_numberNow_2 17 rfl rfl)
theorem dX7_numberNow_66 : decode cX7_numberNow 66 = .ok (.aload_n 0, 1) := dk_42 (dk_at dksX7_numberNow_2 20 rfl rfl)
theorem dX7_numberNow_67 : decode cX7_numberNow 67 = .ok (.getfield 183, 3) := dk_180 0 183 (dk_at dksX7_numberNow_2 21 rfl rfl)
theorem dX7_numberNow_70 : decode cX7_numberNow 70 = .ok (.goto 4, 3) := dk_167 0 4 (dk_at dksX7_numberNow_3 0 rfl rfl)
theorem dX7_numberNow_73 : decode cX7_numberNow 73 = .ok (.iconst 0, 1) := dk_3 (dk_at dksX7_numberNow_3 3 rfl rfl)
theorem dX7_numberNow_74 : decode cX7_numberNow 74 = .ok (.ireturn, 1) := dk_172 (dk_at dksX7_numberNow_3 4 rfl rfl)
abbrev cX7_readExpression : ByteArray := prog_18_method_30_code
def yX7_readExpression : MethodName := ⟨RX7, "readExpression", "(I)V"⟩
def dkwX7_readExpression_4 : List UInt8 := [177]
abbrev dktX7_readExpression_4 : List UInt8 := dkwX7_readExpression_4 ++ []
def dkwX7_readExpression_3 : List UInt8 := [182, 0, 213, 153, 0, 21, 42, 182, 0, 224, 42, 27, 182, 1, 9, 42, 16, 229, 182, 0, 236, 167, 255, 231]
abbrev dktX7_readExpression_3 : List UInt8 := dkwX7_readExpression_3 ++ dktX7_readExpression_4
def dkwX7_readExpression_2 : List UInt8 := [167, 0, 14, 27, 16, 6, 160, 0, 8, 42, 5, 182, 0, 220, 42, 27, 182, 1, 9, 42, 19, 1, 12]
abbrev dktX7_readExpression_2 : List UInt8 := dkwX7_readExpression_2 ++ dktX7_readExpression_3
def dkwX7_readExpression_1 : List UInt8 := [42, 16, 40, 182, 0, 217, 153, 0, 7, 4, 167, 0, 4, 3, 61, 28, 154, 0, 11, 42, 4, 182, 0, 220]
abbrev dktX7_readExpression_1 : List UInt8 := dkwX7_readExpression_1 ++ dktX7_readExpression_2
def dkwX7_readExpression_0 : List UInt8 := [42, 180, 0, 199, 153, 0, 4, 177, 42, 180, 0, 173, 5, 159, 0, 20, 42, 180, 0, 173, 4, 159, 0, 12]
abbrev dktX7_readExpression_0 : List UInt8 := dkwX7_readExpression_0 ++ dktX7_readExpression_1
theorem dksX7_readExpression_0 : cX7_readExpression.data.toList.drop 0 = dktX7_readExpression_0 := by decide +kernel
theorem dksX7_readExpression_1 : cX7_readExpression.data.toList.drop 24 = dktX7_readExpression_1 := dk_seg dksX7_readExpression_0 24 rfl rfl
theorem dksX7_readExpression_2 : cX7_readExpression.data.toList.drop 48 = dktX7_readExpression_2 := dk_seg dksX7_readExpression_1 24 rfl rfl
theorem dksX7_readExpression_3 : cX7_readExpression.data.toList.drop 71 = dktX7_readExpression_3 := dk_seg dksX7_readExpression_2 23 rfl rfl
theorem dksX7_readExpression_4 : cX7_readExpression.data.toList.drop 95 = dktX7_readExpression_4 := dk_seg dksX7_readExpression_3 24 rfl rfl
theorem dX7_readExpression_0 : decode cX7_readExpression 0 = .ok (.aload_n 0, 1) := dk_42 (dk_at dksX7_readExpression_0 0 rfl rfl)
theorem dX7_readExpression_1 : decode cX7_readExpression 1 = .ok (.getfield 199, 3) := dk_180 0 199 (dk_at dksX7_readExpression_0 1 rfl rfl)
theorem dX7_readExpression_4 : decode cX7_readExpression 4 = .ok (.ifCond .eq 4, 3) := dk_153 0 4 (dk_at dksX7_readExpression_0 4 rfl rfl)
theorem dX7_readExpression_7 : decode cX7_readExpression 7 = .ok (.return_, 1) := dk_177 (dk_at dksX7_readExpression_0 7 rfl rfl)
theorem dX7_readExpression_8 : decode cX7_readExpression 8 = .ok (.aload_n 0, 1) := dk_42 (dk_at dksX7_readExpression_0 8 rfl rfl)
theorem dX7_readExpression_9 : decode cX7_readExpression 9 = .ok (.getfield 173, 3) := dk_180 0 173 (dk_at dksX7_readExpression_0 9 rfl rfl)
theorem dX7_readExpression_12 : decode cX7_readExpression 12 = .ok (.iconst 2, 1) := dk_5 (dk_at dksX7_readExpression_0 12 rfl rfl)
theorem dX7_readExpression_13 : decode cX7_readExpression 13 = .ok (.if_icmp .eq 20, 3) := dk_159 0 20 (dk_at dksX7_readExpression_0 13 rfl rfl)
theorem dX7_readExpression_16 : decode cX7_readExpression 16 = .ok (.aload_n 0, 1) := dk_42 (dk_at dksX7_readExpression_0 16 rfl rfl)
theorem dX7_readExpression_17 : decode cX7_readExpression 17 = .ok (.getfield 173, 3) := dk_180 0 173 (dk_at dksX7_readExpression_0 17 rfl rfl)
theorem dX7_readExpression_20 : decode cX7_readExpression 20 = .ok (.iconst 1, 1) := dk_4 (dk_at dksX7_readExpression_0 20 rfl rfl)
theorem dX7_readExpression_21 : decode cX7_readExpression 21 = .ok (.if_icmp .eq 12, 3) := dk_159 0 12 (dk_at dksX7_readExpression_0 21 rfl rfl)
theorem dX7_readExpression_24 : decode cX7_readExpression 24 = .ok (.aload_n 0, 1) := dk_42 (dk_at dksX7_readExpression_1 0 rfl rfl)
theorem dX7_readExpression_25 : decode cX7_readExpression 25 = .ok (.bipush 40, 2) := dk_16 40 (dk_at dksX7_readExpression_1 1 rfl rfl)
theorem dX7_readExpression_27 : decode cX7_readExpression 27 = .ok (.invokevirtual 217, 3) := dk_182 0 217 (dk_at dksX7_readExpression_1 3 rfl rfl)
theorem dX7_readExpression_30 : decode cX7_readExpression 30 = .ok (.ifCond .eq 7, 3) := dk_153 0 7 (dk_at dksX7_readExpression_1 6 rfl rfl)
theorem dX7_readExpression_33 : decode cX7_readExpression 33 = .ok (.iconst 1, 1) := dk_4 (dk_at dksX7_readExpression_1 9 rfl rfl)
theorem dX7_readExpression_34 : decode cX7_readExpression 34 = .ok (.goto 4, 3) := dk_167 0 4 (dk_at dksX7_readExpression_1 10 rfl rfl)
theorem dX7_readExpression_37 : decode cX7_readExpression 37 = .ok (.iconst 0, 1) := dk_3 (dk_at dksX7_readExpression_1 13 rfl rfl)
theorem dX7_readExpression_38 : decode cX7_readExpression 38 = .ok (.istore_n 2, 1) := dk_61 (dk_at dksX7_readExpression_1 14 rfl rfl)
theorem dX7_readExpression_39 : decode cX7_readExpression 39 = .ok (.iload_n 2, 1) := dk_28 (dk_at dksX7_readExpression_1 15 rfl rfl)
theorem dX7_readExpression_40 : decode cX7_readExpression 40 = .ok (.ifCond .ne 11, 3) := dk_154 0 11 (dk_at dksX7_readExpression_1 16 rfl rfl)
theorem dX7_readExpression_43 : decode cX7_readExpression 43 = .ok (.aload_n 0, 1) := dk_42 (dk_at dksX7_readExpression_1 19 rfl rfl)
theorem dX7_readExpression_44 : decode cX7_readExpression 44 = .ok (.iconst 1, 1) := dk_4 (dk_at dksX7_readExpression_1 20 rfl rfl)
theorem dX7_readExpression_45 : decode cX7_readExpression 45 = .ok (.invokevirtual 220, 3) := dk_182 0 220 (dk_at dksX7_readExpression_1 21 rfl rfl)
theorem dX7_readExpression_48 : decode cX7_readExpression 48 = .ok (.goto 14, 3) := dk_167 0 14 (dk_at dksX7_readExpression_2 0 rfl rfl)
theorem dX7_readExpression_51 : decode cX7_readExpression 51 = .ok (.iload_n 1, 1) := dk_27 (dk_at dksX7_readExpression_2 3 rfl rfl)
theorem dX7_readExpression_52 : decode cX7_readExpression 52 = .ok (.bipush 6, 2) := dk_16 6 (dk_at dksX7_readExpression_2 4 rfl rfl)
theorem dX7_readExpression_54 : decode cX7_readExpression 54 = .ok (.if_icmp .ne 8, 3) := dk_160 0 8 (dk_at dksX7_readExpression_2 6 rfl rfl)
theorem dX7_readExpression_57 : decode cX7_readExpression 57 = .ok (.aload_n 0, 1) := dk_42 (dk_at dksX7_readExpression_2 9 rfl rfl)
theorem dX7_readExpression_58 : decode cX7_readExpression 58 = .ok (.iconst 2, 1) := dk_5 (dk_at dksX7_readExpression_2 10 rfl rfl)
theorem dX7_readExpression_59 : decode cX7_readExpression 59 = .ok (.invokevirtual 220, 3) := dk_182 0 220 (dk_at dksX7_readExpression_2 11 rfl rfl)
theorem dX7_readExpression_62 : decode cX7_readExpression 62 = .ok (.aload_n 0, 1) := dk_42 (dk_at dksX7_readExpression_2 14 rfl rfl)
theorem dX7_readExpression_63 : decode cX7_readExpression 63 = .ok (.iload_n 1, 1) := dk_27 (dk_at dksX7_readExpression_2 15 rfl rfl)
theorem dX7_readExpression_64 : decode cX7_readExpression 64 = .ok (.invokevirtual 265, 3) := dk_182 1 9 (dk_at dksX7_readExpression_2 16 rfl rfl)
theorem dX7_readExpression_67 : decode cX7_readExpression 67 = .ok (.aload_n 0, 1) := dk_42 (dk_at dksX7_readExpression_2 19 rfl rfl)
theorem dX7_readExpression_68 : decode cX7_readExpression 68 = .ok (.ldc_w 268, 3) := dk_19 1 12 (dk_at dksX7_readExpression_2 20 rfl rfl)
theorem dX7_readExpression_71 : decode cX7_readExpression 71 = .ok (.invokevirtual 213, 3) := dk_182 0 213 (dk_at dksX7_readExpression_3 0 rfl rfl)
theorem dX7_readExpression_74 : decode cX7_readExpression 74 = .ok (.ifCond .eq 21, 3) := dk_153 0 21 (dk_at dksX7_readExpression_3 3 rfl rfl)
theorem dX7_readExpression_77 : decode cX7_readExpression 77 = .ok (.aload_n 0, 1) := dk_42 (dk_at dksX7_readExpression_3 6 rfl rfl)
theorem dX7_readExpression_78 : decode cX7_readExpression 78 = .ok (.invokevirtual 224, 3) := dk_182 0 224 (dk_at dksX7_readExpression_3 7 rfl rfl)
theorem dX7_readExpression_81 : decode cX7_readExpression 81 = .ok (.aload_n 0, 1) := dk_42 (dk_at dksX7_readExpression_3 10 rfl rfl)
theorem dX7_readExpression_82 : decode cX7_readExpression 82 = .ok (.iload_n 1, 1) := dk_27 (dk_at dksX7_readExpression_3 11 rfl rfl)
theorem dX7_readExpression_83 : decode cX7_readExpression 83 = .ok (.invokevirtual 265, 3) := dk_182 1 9 (dk_at dksX7_readExpression_3 12 rfl rfl)
theorem dX7_readExpression_86 : decode cX7_readExpression 86 = .ok (.aload_n 0, 1) := dk_42 (dk_at dksX7_readExpression_3 15 rfl rfl)
theorem dX7_readExpression_87 : decode cX7_readExpression 87 = .ok (.bipush (-27), 2) := dk_16 229 (dk_at dksX7_readExpression_3 16 rfl rfl)
theorem dX7_readExpression_89 : decode cX7_readExpression 89 = .ok (.invokevirtual 236, 3) := dk_182 0 236 (dk_at dksX7_readExpression_3 18 rfl rfl)
theorem dX7_readExpression_92 : decode cX7_readExpression 92 = .ok (.goto (-25), 3) := dk_167 255 231 (dk_at dksX7_readExpression_3 21 rfl rfl)
theorem dX7_readExpression_95 : decode cX7_readExpression 95 = .ok (.return_, 1) := dk_177 (dk_at dksX7_readExpression_4 0 rfl rfl)
abbrev cX7_isMarked : ByteArray := prog_18_method_18_code
def yX7_isMarked : MethodName := ⟨RX7, "isMarked", "(I)Z"⟩
def dkwX7_isMarked_1 : List UInt8 := [27, 160, 0, 7, 4, 167, 0, 4, 3, 172]
abbrev dktX7_isMarked_1 : List UInt8 := dkwX7_isMarked_1 ++ []
def dkwX7_isMarked_0 : List UInt8 := [42, 180, 0, 199, 154, 0, 28, 42, 180, 0, 173, 6, 160, 0, 20, 42, 180, 0, 65, 42, 180, 0, 170, 46]
abbrev dktX7_isMarked_0 : List UInt8 := dkwX7_isMarked_0 ++ dktX7_isMarked_1
theorem dksX7_isMarked_0 : cX7_isMarked.data.toList.drop 0 = dktX7_isMarked_0 := by decide +kernel
theorem dksX7_isMarked_1 : cX7_isMarked.data.toList.drop 24 = dktX7_isMarked_1 := dk_seg dksX7_isMarked_0 24 rfl rfl
theorem dX7_isMarked_0 : decode cX7_isMarked 0 = .ok (.aload_n 0, 1) := dk_42 (dk_at dksX7_isMarked_0 0 rfl rfl)
theorem dX7_isMarked_1 : decode cX7_isMarked 1 = .ok (.getfield 199, 3) := dk_180 0 199 (dk_at dksX7_isMarked_0 1 rfl rfl)
theorem dX7_isMarked_4 : decode cX7_isMarked 4 = .ok (.ifCond .ne 28, 3) := dk_154 0 28 (dk_at dksX7_isMarked_0 4 rfl rfl)
theorem dX7_isMarked_7 : decode cX7_isMarked 7 = .ok (.aload_n 0, 1) := dk_42 (dk_at dksX7_isMarked_0 7 rfl rfl)
theorem dX7_isMarked_8 : decode cX7_isMarked 8 = .ok (.getfield 173, 3) := dk_180 0 173 (dk_at dksX7_isMarked_0 8 rfl rfl)
theorem dX7_isMarked_11 : decode cX7_isMarked 11 = .ok (.iconst 3, 1) := dk_6 (dk_at dksX7_isMarked_0 11 rfl rfl)
theorem dX7_isMarked_12 : decode cX7_isMarked 12 = .ok (.if_icmp .ne 20, 3) := dk_160 0 20 (dk_at dksX7_isMarked_0 12 rfl rfl)
theorem dX7_isMarked_15 : decode cX7_isMarked 15 = .ok (.aload_n 0, 1) := dk_42 (dk_at dksX7_isMarked_0 15 rfl rfl)
theorem dX7_isMarked_16 : decode cX7_isMarked 16 = .ok (.getfield 65, 3) := dk_180 0 65 (dk_at dksX7_isMarked_0 16 rfl rfl)
theorem dX7_isMarked_19 : decode cX7_isMarked 19 = .ok (.aload_n 0, 1) := dk_42 (dk_at dksX7_isMarked_0 19 rfl rfl)
theorem dX7_isMarked_20 : decode cX7_isMarked 20 = .ok (.getfield 170, 3) := dk_180 0 170 (dk_at dksX7_isMarked_0 20 rfl rfl)
theorem dX7_isMarked_23 : decode cX7_isMarked 23 = .ok (.iaload, 1) := dk_46 (dk_at dksX7_isMarked_0 23 rfl rfl)
theorem dX7_isMarked_24 : decode cX7_isMarked 24 = .ok (.iload_n 1, 1) := dk_27 (dk_at dksX7_isMarked_1 0 rfl rfl)
theorem dX7_isMarked_25 : decode cX7_isMarked 25 = .ok (.if_icmp .ne 7, 3) := dk_160 0 7 (dk_at dksX7_isMarked_1 1 rfl rfl)
theorem dX7_isMarked_28 : decode cX7_isMarked 28 = .ok (.iconst 1, 1) := dk_4 (dk_at dksX7_isMarked_1 4 rfl rfl)
theorem dX7_isMarked_29 : decode cX7_isMarked 29 = .ok (.goto 4, 3) := dk_167 0 4 (dk_at dksX7_isMarked_1 5 rfl rfl)
theorem dX7_isMarked_32 : decode cX7_isMarked 32 = .ok (.iconst 0, 1) := dk_3 (dk_at dksX7_isMarked_1 8 rfl rfl)
theorem dX7_isMarked_33 : decode cX7_isMarked 33 = .ok (.ireturn, 1) := dk_172 (dk_at dksX7_isMarked_1 9 rfl rfl)
abbrev cX7_readAnd : ByteArray := prog_18_method_29_code
def yX7_readAnd : MethodName := ⟨RX7, "readAnd", "(I)V"⟩
def dkwX7_readAnd_1 : List UInt8 := [42, 16, 230, 182, 0, 236, 167, 255, 231, 177]
abbrev dktX7_readAnd_1 : List UInt8 := dkwX7_readAnd_1 ++ []
def dkwX7_readAnd_0 : List UInt8 := [42, 27, 182, 1, 4, 42, 19, 1, 7, 182, 0, 213, 153, 0, 21, 42, 182, 0, 224, 42, 27, 182, 1, 4]
abbrev dktX7_readAnd_0 : List UInt8 := dkwX7_readAnd_0 ++ dktX7_readAnd_1
theorem dksX7_readAnd_0 : cX7_readAnd.data.toList.drop 0 = dktX7_readAnd_0 := by decide +kernel
theorem dksX7_readAnd_1 : cX7_readAnd.data.toList.drop 24 = dktX7_readAnd_1 := dk_seg dksX7_readAnd_0 24 rfl rfl
theorem dX7_readAnd_0 : decode cX7_readAnd 0 = .ok (.aload_n 0, 1) := dk_42 (dk_at dksX7_readAnd_0 0 rfl rfl)
theorem dX7_readAnd_1 : decode cX7_readAnd 1 = .ok (.iload_n 1, 1) := dk_27 (dk_at dksX7_readAnd_0 1 rfl rfl)
theorem dX7_readAnd_2 : decode cX7_readAnd 2 = .ok (.invokevirtual 260, 3) := dk_182 1 4 (dk_at dksX7_readAnd_0 2 rfl rfl)
theorem dX7_readAnd_5 : decode cX7_readAnd 5 = .ok (.aload_n 0, 1) := dk_42 (dk_at dksX7_readAnd_0 5 rfl rfl)
theorem dX7_readAnd_6 : decode cX7_readAnd 6 = .ok (.ldc_w 263, 3) := dk_19 1 7 (dk_at dksX7_readAnd_0 6 rfl rfl)
theorem dX7_readAnd_9 : decode cX7_readAnd 9 = .ok (.invokevirtual 213, 3) := dk_182 0 213 (dk_at dksX7_readAnd_0 9 rfl rfl)
theorem dX7_readAnd_12 : decode cX7_readAnd 12 = .ok (.ifCond .eq 21, 3) := dk_153 0 21 (dk_at dksX7_readAnd_0 12 rfl rfl)
theorem dX7_readAnd_15 : decode cX7_readAnd 15 = .ok (.aload_n 0, 1) := dk_42 (dk_at dksX7_readAnd_0 15 rfl rfl)
theorem dX7_readAnd_16 : decode cX7_readAnd 16 = .ok (.invokevirtual 224, 3) := dk_182 0 224 (dk_at dksX7_readAnd_0 16 rfl rfl)
theorem dX7_readAnd_19 : decode cX7_readAnd 19 = .ok (.aload_n 0, 1) := dk_42 (dk_at dksX7_readAnd_0 19 rfl rfl)
theorem dX7_readAnd_20 : decode cX7_readAnd 20 = .ok (.iload_n 1, 1) := dk_27 (dk_at dksX7_readAnd_0 20 rfl rfl)
theorem dX7_readAnd_21 : decode cX7_readAnd 21 = .ok (.invokevirtual 260, 3) := dk_182 1 4 (dk_at dksX7_readAnd_0 21 rfl rfl)
theorem dX7_readAnd_24 : decode cX7_readAnd 24 = .ok (.aload_n 0, 1) := dk_42 (dk_at dksX7_readAnd_1 0 rfl rfl)
theorem dX7_readAnd_25 : decode cX7_readAnd 25 = .ok (.bipush (-26), 2) := dk_16 230 (dk_at dksX7_readAnd_1 1 rfl rfl)
theorem dX7_readAnd_27 : decode cX7_readAnd 27 = .ok (.invokevirtual 236, 3) := dk_182 0 236 (dk_at dksX7_readAnd_1 3 rfl rfl)
theorem dX7_readAnd_30 : decode cX7_readAnd 30 = .ok (.goto (-25), 3) := dk_167 255 231 (dk_at dksX7_readAnd_1 6 rfl rfl)
theorem dX7_readAnd_33 : decode cX7_readAnd 33 = .ok (.return_, 1) := dk_177 (dk_at dksX7_readAnd_1 9 rfl rfl)
abbrev cX7_readNot : ByteArray := prog_18_method_28_code
def yX7_readNot : MethodName := ⟨RX7, "readNot", "(I)V"⟩
def dkwX7_readNot_4 : List UInt8 := [182, 0, 236, 3, 62, 29, 28, 162, 0, 15, 42, 16, 228, 182, 0, 236, 132, 3, 1, 167, 255, 242, 177]
abbrev dktX7_readNot_4 : List UInt8 := dkwX7_readNot_4 ++ []
def dkwX7_readNot_3 : List UInt8 := [153, 0, 8, 16, 232, 167, 0, 5, 16, 231, 62, 42, 182, 0, 224, 42, 27, 182, 1, 1, 42, 29]
abbrev dktX7_readNot_3 : List UInt8 := dkwX7_readNot_3 ++ dktX7_readNot_4
def dkwX7_readNot_2 : List UInt8 := [16, 60, 182, 0, 217, 154, 0, 12, 42, 16, 61, 182, 0, 217, 153, 0, 34, 42, 16, 60, 182, 0, 217]
abbrev dktX7_readNot_2 : List UInt8 := dkwX7_readNot_2 ++ dktX7_readNot_3
def dkwX7_readNot_1 : List UInt8 := [132, 2, 1, 42, 180, 0, 199, 154, 255, 229, 42, 182, 0, 224, 167, 255, 222, 42, 27, 182, 1, 1, 42]
abbrev dktX7_readNot_1 : List UInt8 := dkwX7_readNot_1 ++ dktX7_readNot_2
def dkwX7_readNot_0 : List UInt8 := [3, 61, 42, 18, 255, 182, 0, 213, 153, 0, 31, 28, 16, 6, 160, 0, 8, 42, 5, 182, 0, 220]
abbrev dktX7_readNot_0 : List UInt8 := dkwX7_readNot_0 ++ dktX7_readNot_1
theorem dksX7_readNot_0 : cX7_readNot.data.toList.drop 0 = dktX7_readNot_0 := by decide +kernel
theorem dksX7_readNot_1 : cX7_readNot.data.toList.drop 22 = dktX7_readNot_1 := dk_seg dksX7_readNot_0 22 rfl rfl
theorem dksX7_readNot_2 : cX7_readNot.data.toList.drop 45 = dktX7_readNot_2 := dk_seg dksX7_readNot_1 23 rfl rfl
theorem dksX7_readNot_3 : cX7_readNot.data.toList.drop 68 = dktX7_readNot_3 := dk_seg dksX7_readNot_2 23 rfl rfl
theorem dksX7_readNot_4 : cX7_readNot.data.toList.drop 90 = dktX7_readNot_4 := dk_seg dksX7_readNot_3 22 rfl rfl
theorem dX7_readNot_0 : decode cX7_readNot 0 = .ok (.iconst 0, 1) := dk_3 (dk_at dksX7_readNot_0 0 rfl rfl)
theorem dX7_readNot_1 : decode cX7_readNot 1 = .ok (.istore_n 2, 1) := dk_61 (dk_at dksX7_readNot_0 1 rfl rfl)
theorem dX7_readNot_2 : decode cX7_readNot 2 = .ok (.aload_n 0, 1) := dk_42 (dk_at dksX7_readNot_0 2 rfl rfl)
theorem dX7_readNot_3 : decode cX7_readNot 3 = .ok (.ldc 255, 2) := dk_18 255 (dk_at dksX7_readNot_0 3 rfl rfl)
theorem dX7_readNot_5 : decode cX7_readNot 5 = .ok (.invokevirtual 213, 3) := dk_182 0 213 (dk_at dksX7_readNot_0 5 rfl rfl)
theorem dX7_readNot_8 : decode cX7_readNot 8 = .ok (.ifCond .eq 31, 3) := dk_153 0 31 (dk_at dksX7_readNot_0 8 rfl rfl)
theorem dX7_readNot_11 : decode cX7_readNot 11 = .ok (.iload_n 2, 1) := dk_28 (dk_at dksX7_readNot_0 11 rfl rfl)
theorem dX7_readNot_12 : decode cX7_readNot 12 = .ok (.bipush 6, 2) := dk_16 6 (dk_at dksX7_readNot_0 12 rfl rfl)
theorem dX7_readNot_14 : decode cX7_readNot 14 = .ok (.if_icmp .ne 8, 3) := dk_160 0 8 (dk_at dksX7_readNot_0 14 rfl rfl)
theorem dX7_readNot_17 : decode cX7_readNot 17 = .ok (.aload_n 0, 1) := dk_42 (dk_at dksX7_readNot_0 17 rfl rfl)
theorem dX7_readNot_18 : decode cX7_readNot 18 = .ok (.iconst 2, 1) := dk_5 (dk_at dksX7_readNot_0 18 rfl rfl)
theorem dX7_readNot_19 : decode cX7_readNot 19 = .ok (.invokevirtual 220, 3) := dk_182 0 220 (dk_at dksX7_readNot_0 19 rfl rfl)
theorem dX7_readNot_22 : decode cX7_readNot 22 = .ok (.iinc 2 1, 3) := dk_132 2 1 (dk_at dksX7_readNot_1 0 rfl rfl)
theorem dX7_readNot_25 : decode cX7_readNot 25 = .ok (.aload_n 0, 1) := dk_42 (dk_at dksX7_readNot_1 3 rfl rfl)
theorem dX7_readNot_26 : decode cX7_readNot 26 = .ok (.getfield 199, 3) := dk_180 0 199 (dk_at dksX7_readNot_1 4 rfl rfl)
theorem dX7_readNot_29 : decode cX7_readNot 29 = .ok (.ifCond .ne (-27), 3) := dk_154 255 229 (dk_at dksX7_readNot_1 7 rfl rfl)
theorem dX7_readNot_32 : decode cX7_readNot 32 = .ok (.aload_n 0, 1) := dk_42 (dk_at dksX7_readNot_1 10 rfl rfl)
theorem dX7_readNot_33 : decode cX7_readNot 33 = .ok (.invokevirtual 224, 3) := dk_182 0 224 (dk_at dksX7_readNot_1 11 rfl rfl)
theorem dX7_readNot_36 : decode cX7_readNot 36 = .ok (.goto (-34), 3) := dk_167 255 222 (dk_at dksX7_readNot_1 14 rfl rfl)
theorem dX7_readNot_39 : decode cX7_readNot 39 = .ok (.aload_n 0, 1) := dk_42 (dk_at dksX7_readNot_1 17 rfl rfl)
theorem dX7_readNot_40 : decode cX7_readNot 40 = .ok (.iload_n 1, 1) := dk_27 (dk_at dksX7_readNot_1 18 rfl rfl)
theorem dX7_readNot_41 : decode cX7_readNot 41 = .ok (.invokevirtual 257, 3) := dk_182 1 1 (dk_at dksX7_readNot_1 19 rfl rfl)
theorem dX7_readNot_44 : decode cX7_readNot 44 = .ok (.aload_n 0, 1) := dk_42 (dk_at dksX7_readNot_1 22 rfl rfl)
theorem dX7_readNot_45 : decode cX7_readNot 45 = .ok (.bipush 60, 2) := dk_16 60 (dk_at dksX7_readNot_2 0 rfl rfl)
theorem dX7_readNot_47 : decode cX7_readNot 47 = .ok (.invokevirtual 217, 3) := dk_182 0 217 (dk_at dksX7_readNot_2 2 rfl rfl)
theorem dX7_readNot_50 : decode cX7_readNot 50 = .ok (.ifCond .ne 12, 3) := dk_154 0 12 (dk_at dksX7_readNot_2 5 rfl rfl)
theorem dX7_readNot_53 : decode cX7_readNot 53 = .ok (.aload_n 0, 1) := dk_42 (dk_at dksX7_readNot_2 8 rfl rfl)
theorem dX7_readNot_54 : decode cX7_readNot 54 = .ok (.bipush 61, 2) := dk_16 61 (dk_at dksX7_readNot_2 9 rfl rfl)
theorem dX7_readNot_56 : decode cX7_readNot 56 = .ok (.invokevirtual 217, 3) := dk_182 0 217 (dk_at dksX7_readNot_2 11 rfl rfl)
theorem dX7_readNot_59 : decode cX7_readNot 59 = .ok (.ifCond .eq 34, 3) := dk_153 0 34 (dk_at dksX7_readNot_2 14 rfl rfl)
theorem dX7_readNot_62 : decode cX7_readNot 62 = .ok (.aload_n 0, 1) := dk_42 (dk_at dksX7_readNot_2 17 rfl rfl)
theorem dX7_readNot_63 : decode cX7_readNot 63 = .ok (.bipush 60, 2) := dk_16 60 (dk_at dksX7_readNot_2 18 rfl rfl)
theorem dX7_readNot_65 : decode cX7_readNot 65 = .ok (.invokevirtual 217, 3) := dk_182 0 217 (dk_at dksX7_readNot_2 20 rfl rfl)
theorem dX7_readNot_68 : decode cX7_readNot 68 = .ok (.ifCond .eq 8, 3) := dk_153 0 8 (dk_at dksX7_readNot_3 0 rfl rfl)
theorem dX7_readNot_71 : decode cX7_readNot 71 = .ok (.bipush (-24), 2) := dk_16 232 (dk_at dksX7_readNot_3 3 rfl rfl)
theorem dX7_readNot_73 : decode cX7_readNot 73 = .ok (.goto 5, 3) := dk_167 0 5 (dk_at dksX7_readNot_3 5 rfl rfl)
theorem dX7_readNot_76 : decode cX7_readNot 76 = .ok (.bipush (-25), 2) := dk_16 231 (dk_at dksX7_readNot_3 8 rfl rfl)
theorem dX7_readNot_78 : decode cX7_readNot 78 = .ok (.istore_n 3, 1) := dk_62 (dk_at dksX7_readNot_3 10 rfl rfl)
theorem dX7_readNot_79 : decode cX7_readNot 79 = .ok (.aload_n 0, 1) := dk_42 (dk_at dksX7_readNot_3 11 rfl rfl)
theorem dX7_readNot_80 : decode cX7_readNot 80 = .ok (.invokevirtual 224, 3) := dk_182 0 224 (dk_at dksX7_readNot_3 12 rfl rfl)
theorem dX7_readNot_83 : decode cX7_readNot 83 = .ok (.aload_n 0, 1) := dk_42 (dk_at dksX7_readNot_3 15 rfl rfl)
theorem dX7_readNot_84 : decode cX7_readNot 84 = .ok (.iload_n 1, 1) := dk_27 (dk_at dksX7_readNot_3 16 rfl rfl)
theorem dX7_readNot_85 : decode cX7_readNot 85 = .ok (.invokevirtual 257, 3) := dk_182 1 1 (dk_at dksX7_readNot_3 17 rfl rfl)
theorem dX7_readNot_88 : decode cX7_readNot 88 = .ok (.aload_n 0, 1) := dk_42 (dk_at dksX7_readNot_3 20 rfl rfl)
theorem dX7_readNot_89 : decode cX7_readNot 89 = .ok (.iload_n 3, 1) := dk_29 (dk_at dksX7_readNot_3 21 rfl rfl)
theorem dX7_readNot_90 : decode cX7_readNot 90 = .ok (.invokevirtual 236, 3) := dk_182 0 236 (dk_at dksX7_readNot_4 0 rfl rfl)
theorem dX7_readNot_93 : decode cX7_readNot 93 = .ok (.iconst 0, 1) := dk_3 (dk_at dksX7_readNot_4 3 rfl rfl)
theorem dX7_readNot_94 : decode cX7_readNot 94 = .ok (.istore_n 3, 1) := dk_62 (dk_at dksX7_readNot_4 4 rfl rfl)
theorem dX7_readNot_95 : decode cX7_readNot 95 = .ok (.iload_n 3, 1) := dk_29 (dk_at dksX7_readNot_4 5 rfl rfl)
theorem dX7_readNot_96 : decode cX7_readNot 96 = .ok (.iload_n 2, 1) := dk_28 (dk_at dksX7_readNot_4 6 rfl rfl)
theorem dX7_readNot_97 : decode cX7_readNot 97 = .ok (.if_icmp .ge 15, 3) := dk_162 0 15 (dk_at dksX7_readNot_4 7 rfl rfl)
theorem dX7_readNot_100 : decode cX7_readNot 100 = .ok (.aload_n 0, 1) := dk_42 (dk_at dksX7_readNot_4 10 rfl rfl)
theorem dX7_readNot_101 : decode cX7_readNot 101 = .ok (.bipush (-28), 2) := dk_16 228 (dk_at dksX7_readNot_4 11 rfl rfl)
theorem dX7_readNot_103 : decode cX7_readNot 103 = .ok (.invokevirtual 236, 3) := dk_182 0 236 (dk_at dksX7_readNot_4 13 rfl rfl)
theorem dX7_readNot_106 : decode cX7_readNot 106 = .ok (.iinc 3 1, 3) := dk_132 3 1 (dk_at dksX7_readNot_4 16 rfl rfl)
theorem dX7_readNot_109 : decode cX7_readNot 109 = .ok (.goto (-14), 3) := dk_167 255 242 (dk_at dksX7_readNot_4 19 rfl rfl)
theorem dX7_readNot_112 : decode cX7_readNot 112 = .ok (.return_, 1) := dk_177 (dk_at dksX7_readNot_4 22 rfl rfl)
abbrev cX7_readSum : ByteArray := prog_18_method_27_code
def yX7_readSum : MethodName := ⟨RX7, "readSum", "(I)V"⟩
def dkwX7_readSum_2 : List UInt8 := [182, 0, 252, 42, 28, 182, 0, 236, 167, 255, 207, 177]
abbrev dktX7_readSum_2 : List UInt8 := dkwX7_readSum_2 ++ []
def dkwX7_readSum_1 : List UInt8 := [16, 43, 182, 0, 217, 153, 0, 8, 16, 236, 167, 0, 5, 16, 235, 61, 42, 182, 0, 224, 42, 27]
abbrev dktX7_readSum_1 : List UInt8 := dkwX7_readSum_1 ++ dktX7_readSum_2
def dkwX7_readSum_0 : List UInt8 := [42, 27, 182, 0, 252, 42, 16, 43, 182, 0, 217, 154, 0, 12, 42, 16, 45, 182, 0, 217, 153, 0, 37, 42]
abbrev dktX7_readSum_0 : List UInt8 := dkwX7_readSum_0 ++ dktX7_readSum_1
theorem dksX7_readSum_0 : cX7_readSum.data.toList.drop 0 = dktX7_readSum_0 := by decide +kernel
theorem dksX7_readSum_1 : cX7_readSum.data.toList.drop 24 = dktX7_readSum_1 := dk_seg dksX7_readSum_0 24 rfl rfl
theorem dksX7_readSum_2 : cX7_readSum.data.toList.drop 46 = dktX7_readSum_2 := dk_seg dksX7_readSum_1 22 rfl rfl
theorem dX7_readSum_0 : decode cX7_readSum 0 = .ok (.aload_n 0, 1) := dk_42 (dk_at dksX7_readSum_0 0 rfl rfl)
theorem dX7_readSum_1 : decode cX7_readSum 1 = .ok (.iload_n 1, 1) := dk_27 (dk_at dksX7_readSum_0 1 rfl rfl)
theorem dX7_readSum_2 : decode cX7_readSum 2 = .ok (.invokevirtual 252, 3) := dk_182 0 252 (dk_at dksX7_readSum_0 2 rfl rfl)
theorem dX7_readSum_5 : decode cX7_readSum 5 = .ok (.aload_n 0, 1) := dk_42 (dk_at dksX7_readSum_0 5 rfl rfl)
theorem dX7_readSum_6 : decode cX7_readSum 6 = .ok (.bipush 43, 2) := dk_16 43 (dk_at dksX7_readSum_0 6 rfl rfl)
theorem dX7_readSum_8 : decode cX7_readSum 8 = .ok (.invokevirtual 217, 3) := dk_182 0 217 (dk_at dksX7_readSum_0 8 rfl rfl)
theorem dX7_readSum_11 : decode cX7_readSum 11 = .ok (.ifCond .ne 12, 3) := dk_154 0 12 (dk_at dksX7_readSum_0 11 rfl rfl)
theorem dX7_readSum_14 : decode cX7_readSum 14 = .ok (.aload_n 0, 1) := dk_42 (dk_at dksX7_readSum_0 14 rfl rfl)
theorem dX7_readSum_15 : decode cX7_readSum 15 = .ok (.bipush 45, 2) := dk_16 45 (dk_at dksX7_readSum_0 15 rfl rfl)
theorem dX7_readSum_17 : decode cX7_readSum 17 = .ok (.invokevirtual 217, 3) := dk_182 0 217 (dk_at dksX7_readSum_0 17 rfl rfl)
theorem dX7_readSum_20 : decode cX7_readSum 20 = .ok (.ifCond .eq 37, 3) := dk_153 0 37 (dk_at dksX7_readSum_0 20 rfl rfl)
theorem dX7_readSum_23 : decode cX7_readSum 23 = .ok (.aload_n 0, 1) := dk_42 (dk_at dksX7_readSum_0 23 rfl rfl)
theorem dX7_readSum_24 : decode cX7_readSum 24 = .ok (.bipush 43, 2) := dk_16 43 (dk_at dksX7_readSum_1 0 rfl rfl)
theorem dX7_readSum_26 : decode cX7_readSum 26 = .ok (.invokevirtual 217, 3) := dk_182 0 217 (dk_at dksX7_readSum_1 2 rfl rfl)
theorem dX7_readSum_29 : decode cX7_readSum 29 = .ok (.ifCond .eq 8, 3) := dk_153 0 8 (dk_at dksX7_readSum_1 5 rfl rfl)
theorem dX7_readSum_32 : decode cX7_readSum 32 = .ok (.bipush (-20), 2) := dk_16 236 (dk_at dksX7_readSum_1 8 rfl rfl)
theorem dX7_readSum_34 : decode cX7_readSum 34 = .ok (.goto 5, 3) := dk_167 0 5 (dk_at dksX7_readSum_1 10 rfl rfl)
theorem dX7_readSum_37 : decode cX7_readSum 37 = .ok (.bipush (-21), 2) := dk_16 235 (dk_at dksX7_readSum_1 13 rfl rfl)
theorem dX7_readSum_39 : decode cX7_readSum 39 = .ok (.istore_n 2, 1) := dk_61 (dk_at dksX7_readSum_1 15 rfl rfl)
theorem dX7_readSum_40 : decode cX7_readSum 40 = .ok (.aload_n 0, 1) := dk_42 (dk_at dksX7_readSum_1 16 rfl rfl)
theorem dX7_readSum_41 : decode cX7_readSum 41 = .ok (.invokevirtual 224, 3) := dk_182 0 224 (dk_at dksX7_readSum_1 17 rfl rfl)
theorem dX7_readSum_44 : decode cX7_readSum 44 = .ok (.aload_n 0, 1) := dk_42 (dk_at dksX7_readSum_1 20 rfl rfl)
theorem dX7_readSum_45 : decode cX7_readSum 45 = .ok (.iload_n 1, 1) := dk_27 (dk_at dksX7_readSum_1 21 rfl rfl)
theorem dX7_readSum_46 : decode cX7_readSum 46 = .ok (.invokevirtual 252, 3) := dk_182 0 252 (dk_at dksX7_readSum_2 0 rfl rfl)
theorem dX7_readSum_49 : decode cX7_readSum 49 = .ok (.aload_n 0, 1) := dk_42 (dk_at dksX7_readSum_2 3 rfl rfl)
theorem dX7_readSum_50 : decode cX7_readSum 50 = .ok (.iload_n 2, 1) := dk_28 (dk_at dksX7_readSum_2 4 rfl rfl)
theorem dX7_readSum_51 : decode cX7_readSum 51 = .ok (.invokevirtual 236, 3) := dk_182 0 236 (dk_at dksX7_readSum_2 5 rfl rfl)
theorem dX7_readSum_54 : decode cX7_readSum 54 = .ok (.goto (-49), 3) := dk_167 255 207 (dk_at dksX7_readSum_2 8 rfl rfl)
theorem dX7_readSum_57 : decode cX7_readSum 57 = .ok (.return_, 1) := dk_177 (dk_at dksX7_readSum_2 11 rfl rfl)
abbrev cX7_readProduct : ByteArray := prog_18_method_26_code
def yX7_readProduct : MethodName := ⟨RX7, "readProduct", "(I)V"⟩
def dkwX7_readProduct_2 : List UInt8 := [182, 0, 249, 42, 28, 182, 0, 236, 167, 255, 207, 177]
abbrev dktX7_readProduct_2 : List UInt8 := dkwX7_readProduct_2 ++ []
def dkwX7_readProduct_1 : List UInt8 := [16, 42, 182, 0, 217, 153, 0, 8, 16, 234, 167, 0, 5, 16, 233, 61, 42, 182, 0, 224, 42, 27]
abbrev dktX7_readProduct_1 : List UInt8 := dkwX7_readProduct_1 ++ dktX7_readProduct_2
def dkwX7_readProduct_0 : List UInt8 := [42, 27, 182, 0, 249, 42, 16, 42, 182, 0, 217, 154, 0, 12, 42, 16, 47, 182, 0, 217, 153, 0, 37, 42]
abbrev dktX7_readProduct_0 : List UInt8 := dkwX7_readProduct_0 ++ dktX7_readProduct_1
theorem dksX7_readProduct_0 : cX7_readProduct.data.toList.drop 0 = dktX7_readProduct_0 := by decide +kernel
theorem dksX7_readProduct_1 : cX7_readProduct.data.toList.drop 24 = dktX7_readProduct_1 := dk_seg dksX7_readProduct_0 24 rfl rfl
theorem dksX7_readProduct_2 : cX7_readProduct.data.toList.drop 46 = dktX7_readProduct_2 := dk_seg dksX7_readProduct_1 22 rfl rfl
theorem dX7_readProduct_0 : decode cX7_readProduct 0 = .ok (.aload_n 0, 1) := dk_42 (dk_at dksX7_readProduct_0 0 rfl rfl)
theorem dX7_readProduct_1 : decode cX7_readProduct 1 = .ok (.iload_n 1, 1) := dk_27 (dk_at dksX7_readProduct_0 1 rfl rfl)
theorem dX7_readProduct_2 : decode cX7_readProduct 2 = .ok (.invokevirtual 249, 3) := dk_182 0 249 (dk_at dksX7_readProduct_0 2 rfl rfl)
theorem dX7_readProduct_5 : decode cX7_readProduct 5 = .ok (.aload_n 0, 1) := dk_42 (dk_at dksX7_readProduct_0 5 rfl rfl)
theorem dX7_readProduct_6 : decode cX7_readProduct 6 = .ok (.bipush 42, 2) := dk_16 42 (dk_at dksX7_readProduct_0 6 rfl rfl)
theorem dX7_readProduct_8 : decode cX7_readProduct 8 = .ok (.invokevirtual 217, 3) := dk_182 0 217 (dk_at dksX7_readProduct_0 8 rfl rfl)
theorem dX7_readProduct_11 : decode cX7_readProduct 11 = .ok (.ifCond .ne 12, 3) := dk_154 0 12 (dk_at dksX7_readProduct_0 11 rfl rfl)
theorem dX7_readProduct_14 : decode cX7_readProduct 14 = .ok (.aload_n 0, 1) := dk_42 (dk_at dksX7_readProduct_0 14 rfl rfl)
theorem dX7_readProduct_15 : decode cX7_readProduct 15 = .ok (.bipush 47, 2) := dk_16 47 (dk_at dksX7_readProduct_0 15 rfl rfl)
theorem dX7_readProduct_17 : decode cX7_readProduct 17 = .ok (.invokevirtual 217, 3) := dk_182 0 217 (dk_at dksX7_readProduct_0 17 rfl rfl)
theorem dX7_readProduct_20 : decode cX7_readProduct 20 = .ok (.ifCond .eq 37, 3) := dk_153 0 37 (dk_at dksX7_readProduct_0 20 rfl rfl)
theorem dX7_readProduct_23 : decode cX7_readProduct 23 = .ok (.aload_n 0, 1) := dk_42 (dk_at dksX7_readProduct_0 23 rfl rfl)
theorem dX7_readProduct_24 : decode cX7_readProduct 24 = .ok (.bipush 42, 2) := dk_16 42 (dk_at dksX7_readProduct_1 0 rfl rfl)
theorem dX7_readProduct_26 : decode cX7_readProduct 26 = .ok (.invokevirtual 217, 3) := dk_182 0 217 (dk_at dksX7_readProduct_1 2 rfl rfl)
theorem dX7_readProduct_29 : decode cX7_readProduct 29 = .ok (.ifCond .eq 8, 3) := dk_153 0 8 (dk_at dksX7_readProduct_1 5 rfl rfl)
theorem dX7_readProduct_32 : decode cX7_readProduct 32 = .ok (.bipush (-22), 2) := dk_16 234 (dk_at dksX7_readProduct_1 8 rfl rfl)
theorem dX7_readProduct_34 : decode cX7_readProduct 34 = .ok (.goto 5, 3) := dk_167 0 5 (dk_at dksX7_readProduct_1 10 rfl rfl)
theorem dX7_readProduct_37 : decode cX7_readProduct 37 = .ok (.bipush (-23), 2) := dk_16 233 (dk_at dksX7_readProduct_1 13 rfl rfl)
theorem dX7_readProduct_39 : decode cX7_readProduct 39 = .ok (.istore_n 2, 1) := dk_61 (dk_at dksX7_readProduct_1 15 rfl rfl)
theorem dX7_readProduct_40 : decode cX7_readProduct 40 = .ok (.aload_n 0, 1) := dk_42 (dk_at dksX7_readProduct_1 16 rfl rfl)
theorem dX7_readProduct_41 : decode cX7_readProduct 41 = .ok (.invokevirtual 224, 3) := dk_182 0 224 (dk_at dksX7_readProduct_1 17 rfl rfl)
theorem dX7_readProduct_44 : decode cX7_readProduct 44 = .ok (.aload_n 0, 1) := dk_42 (dk_at dksX7_readProduct_1 20 rfl rfl)
theorem dX7_readProduct_45 : decode cX7_readProduct 45 = .ok (.iload_n 1, 1) := dk_27 (dk_at dksX7_readProduct_1 21 rfl rfl)
theorem dX7_readProduct_46 : decode cX7_readProduct 46 = .ok (.invokevirtual 249, 3) := dk_182 0 249 (dk_at dksX7_readProduct_2 0 rfl rfl)
theorem dX7_readProduct_49 : decode cX7_readProduct 49 = .ok (.aload_n 0, 1) := dk_42 (dk_at dksX7_readProduct_2 3 rfl rfl)
theorem dX7_readProduct_50 : decode cX7_readProduct 50 = .ok (.iload_n 2, 1) := dk_28 (dk_at dksX7_readProduct_2 4 rfl rfl)
theorem dX7_readProduct_51 : decode cX7_readProduct 51 = .ok (.invokevirtual 236, 3) := dk_182 0 236 (dk_at dksX7_readProduct_2 5 rfl rfl)
theorem dX7_readProduct_54 : decode cX7_readProduct 54 = .ok (.goto (-49), 3) := dk_167 255 207 (dk_at dksX7_readProduct_2 8 rfl rfl)
theorem dX7_readProduct_57 : decode cX7_readProduct 57 = .ok (.return_, 1) := dk_177 (dk_at dksX7_readProduct_2 11 rfl rfl)
abbrev cX7_readPart : ByteArray := prog_18_method_25_code
def yX7_readPart : MethodName := ⟨RX7, "readPart", "(I)V"⟩
def dkwX7_readPart_4 : List UInt8 := [177]
abbrev dktX7_readPart_4 : List UInt8 := dkwX7_readPart_4 ++ []
def dkwX7_readPart_3 : List UInt8 := [42, 182, 0, 224, 177, 42, 16, 40, 182, 0, 243, 42, 27, 4, 96, 182, 0, 246, 42, 16, 41, 182, 0, 243]
abbrev dktX7_readPart_3 : List UInt8 := dkwX7_readPart_3 ++ dktX7_readPart_4
def dkwX7_readPart_2 : List UInt8 := [28, 2, 160, 0, 8, 42, 6, 182, 0, 220, 42, 2, 28, 100, 182, 0, 236, 42, 180, 0, 199, 154, 0, 7]
abbrev dktX7_readPart_2 : List UInt8 := dkwX7_readPart_2 ++ dktX7_readPart_3
def dkwX7_readPart_1 : List UInt8 := [182, 0, 233, 182, 0, 236, 177, 42, 180, 0, 173, 4, 160, 0, 41, 42, 42, 180, 0, 25, 182, 0, 239, 61]
abbrev dktX7_readPart_1 : List UInt8 := dkwX7_readPart_1 ++ dktX7_readPart_2
def dkwX7_readPart_0 : List UInt8 := [42, 180, 0, 199, 153, 0, 4, 177, 42, 180, 0, 173, 5, 160, 0, 16, 42, 42, 3, 17, 39, 15]
abbrev dktX7_readPart_0 : List UInt8 := dkwX7_readPart_0 ++ dktX7_readPart_1
theorem dksX7_readPart_0 : cX7_readPart.data.toList.drop 0 = dktX7_readPart_0 := by decide +kernel
theorem dksX7_readPart_1 : cX7_readPart.data.toList.drop 22 = dktX7_readPart_1 := dk_seg dksX7_readPart_0 22 rfl rfl
theorem dksX7_readPart_2 : cX7_readPart.data.toList.drop 46 = dktX7_readPart_2 := dk_seg dksX7_readPart_1 24 rfl rfl
theorem dksX7_readPart_3 : cX7_readPart.data.toList.drop 70 = dktX7_readPart_3 := dk_seg dksX7_readPart_2 24 rfl rfl
theorem dksX7_readPart_4 : cX7_readPart.data.toList.drop 94 = dktX7_readPart_4 := dk_seg dksX7_readPart_3 24 rfl rfl
theorem dX7_readPart_0 : decode cX7_readPart 0 = .ok (.aload_n 0, 1) := dk_42 (dk_at dksX7_readPart_0 0 rfl rfl)
theorem dX7_readPart_1 : decode cX7_readPart 1 = .ok (.getfield 199, 3) := dk_180 0 199 (dk_at dksX7_readPart_0 1 rfl rfl)
theorem dX7_readPart_4 : decode cX7_readPart 4 = .ok (.ifCond .eq 4, 3) := dk_153 0 4 (dk_at dksX7_readPart_0 4 rfl rfl)
theorem dX7_readPart_7 : decode cX7_readPart 7 = .ok (.return_, 1) := dk_177 (dk_at dksX7_readPart_0 7 rfl rfl)
theorem dX7_readPart_8 : decode cX7_readPart 8 = .ok (.aload_n 0, 1) := dk_42 (dk_at dksX7_readPart_0 8 rfl rfl)
theorem dX7_readPart_9 : decode cX7_readPart 9 = .ok (.getfield 173, 3) := dk_180 0 173 (dk_at dksX7_readPart_0 9 rfl rfl)
theorem dX7_readPart_12 : decode cX7_readPart 12 = .ok (.iconst 2, 1) := dk_5 (dk_at dksX7_readPart_0 12 rfl rfl)
theorem dX7_readPart_13 : decode cX7_readPart 13 = .ok (.if_icmp .ne 16, 3) := dk_160 0 16 (dk_at dksX7_readPart_0 13 rfl rfl)
theorem dX7_readPart_16 : decode cX7_readPart 16 = .ok (.aload_n 0, 1) := dk_42 (dk_at dksX7_readPart_0 16 rfl rfl)
theorem dX7_readPart_17 : decode cX7_readPart 17 = .ok (.aload_n 0, 1) := dk_42 (dk_at dksX7_readPart_0 17 rfl rfl)
theorem dX7_readPart_18 : decode cX7_readPart 18 = .ok (.iconst 0, 1) := dk_3 (dk_at dksX7_readPart_0 18 rfl rfl)
theorem dX7_readPart_19 : decode cX7_readPart 19 = .ok (.sipush 9999, 3) := dk_17 39 15 (dk_at dksX7_readPart_0 19 rfl rfl)
theorem dX7_readPart_22 : decode cX7_readPart 22 = .ok (.invokevirtual 233, 3) := dk_182 0 233 (dk_at dksX7_readPart_1 0 rfl rfl)
theorem dX7_readPart_25 : decode cX7_readPart 25 = .ok (.invokevirtual 236, 3) := dk_182 0 236 (dk_at dksX7_readPart_1 3 rfl rfl)
theorem dX7_readPart_28 : decode cX7_readPart 28 = .ok (.return_, 1) := dk_177 (dk_at dksX7_readPart_1 6 rfl rfl)
theorem dX7_readPart_29 : decode cX7_readPart 29 = .ok (.aload_n 0, 1) := dk_42 (dk_at dksX7_readPart_1 7 rfl rfl)
theorem dX7_readPart_30 : decode cX7_readPart 30 = .ok (.getfield 173, 3) := dk_180 0 173 (dk_at dksX7_readPart_1 8 rfl rfl)
theorem dX7_readPart_33 : decode cX7_readPart 33 = .ok (.iconst 1, 1) := dk_4 (dk_at dksX7_readPart_1 11 rfl rfl)
theorem dX7_readPart_34 : decode cX7_readPart 34 = .ok (.if_icmp .ne 41, 3) := dk_160 0 41 (dk_at dksX7_readPart_1 12 rfl rfl)
theorem dX7_readPart_37 : decode cX7_readPart 37 = .ok (.aload_n 0, 1) := dk_42 (dk_at dksX7_readPart_1 15 rfl rfl)
theorem dX7_readPart_38 : decode cX7_readPart 38 = .ok (.aload_n 0, 1) := dk_42 (dk_at dksX7_readPart_1 16 rfl rfl)
theorem dX7_readPart_39 : decode cX7_readPart 39 = .ok (.getfield 25, 3) := dk_180 0 25 (dk_at dksX7_readPart_1 17 rfl rfl)
theorem dX7_readPart_42 : decode cX7_readPart 42 = .ok (.invokevirtual 239, 3) := dk_182 0 239 (dk_at dksX7_readPart_1 20 rfl rfl)
theorem dX7_readPart_45 : decode cX7_readPart 45 = .ok (.istore_n 2, 1) := dk_61 (dk_at dksX7_readPart_1 23 rfl rfl)
theorem dX7_readPart_46 : decode cX7_readPart 46 = .ok (.iload_n 2, 1) := dk_28 (dk_at dksX7_readPart_2 0 rfl rfl)
theorem dX7_readPart_47 : decode cX7_readPart 47 = .ok (.iconst (-1), 1) := dk_2 (dk_at dksX7_readPart_2 1 rfl rfl)
theorem dX7_readPart_48 : decode cX7_readPart 48 = .ok (.if_icmp .ne 8, 3) := dk_160 0 8 (dk_at dksX7_readPart_2 2 rfl rfl)
theorem dX7_readPart_51 : decode cX7_readPart 51 = .ok (.aload_n 0, 1) := dk_42 (dk_at dksX7_readPart_2 5 rfl rfl)
theorem dX7_readPart_52 : decode cX7_readPart 52 = .ok (.iconst 3, 1) := dk_6 (dk_at dksX7_readPart_2 6 rfl rfl)
theorem dX7_readPart_53 : decode cX7_readPart 53 = .ok (.invokevirtual 220, 3) := dk_182 0 220 (dk_at dksX7_readPart_2 7 rfl rfl)
theorem dX7_readPart_56 : decode cX7_readPart 56 = .ok (.aload_n 0, 1) := dk_42 (dk_at dksX7_readPart_2 10 rfl rfl)
theorem dX7_readPart_57 : decode cX7_readPart 57 = .ok (.iconst (-1), 1) := dk_2 (dk_at dksX7_readPart_2 11 rfl rfl)
theorem dX7_readPart_58 : decode cX7_readPart 58 = .ok (.iload_n 2, 1) := dk_28 (dk_at dksX7_readPart_2 12 rfl rfl)
theorem dX7_readPart_59 : decode cX7_readPart 59 = .ok (.isub, 1) := dk_100 (dk_at dksX7_readPart_2 13 rfl rfl)
theorem dX7_readPart_60 : decode cX7_readPart 60 = .ok (.invokevirtual 236, 3) := dk_182 0 236 (dk_at dksX7_readPart_2 14 rfl rfl)
theorem dX7_readPart_63 : decode cX7_readPart 63 = .ok (.aload_n 0, 1) := dk_42 (dk_at dksX7_readPart_2 17 rfl rfl)
theorem dX7_readPart_64 : decode cX7_readPart 64 = .ok (.getfield 199, 3) := dk_180 0 199 (dk_at dksX7_readPart_2 18 rfl rfl)
theorem dX7_readPart_67 : decode cX7_readPart 67 = .ok (.ifCond .ne 7, 3) := dk_154 0 7 (dk_at dksX7_readPart_2 21 rfl rfl)
theorem dX7_readPart_70 : decode cX7_readPart 70 = .ok (.aload_n 0, 1) := dk_42 (dk_at dksX7_readPart_3 0 rfl rfl)
theorem dX7_readPart_71 : decode cX7_readPart 71 = .ok (.invokevirtual 224, 3) := dk_182 0 224 (dk_at dksX7_readPart_3 1 rfl rfl)
theorem dX7_readPart_74 : decode cX7_readPart 74 = .ok (.return_, 1) := dk_177 (dk_at dksX7_readPart_3 4 rfl rfl)
theorem dX7_readPart_75 : decode cX7_readPart 75 = .ok (.aload_n 0, 1) := dk_42 (dk_at dksX7_readPart_3 5 rfl rfl)
theorem dX7_readPart_76 : decode cX7_readPart 76 = .ok (.bipush 40, 2) := dk_16 40 (dk_at dksX7_readPart_3 6 rfl rfl)
theorem dX7_readPart_78 : decode cX7_readPart 78 = .ok (.invokevirtual 243, 3) := dk_182 0 243 (dk_at dksX7_readPart_3 8 rfl rfl)
theorem dX7_readPart_81 : decode cX7_readPart 81 = .ok (.aload_n 0, 1) := dk_42 (dk_at dksX7_readPart_3 11 rfl rfl)
theorem dX7_readPart_82 : decode cX7_readPart 82 = .ok (.iload_n 1, 1) := dk_27 (dk_at dksX7_readPart_3 12 rfl rfl)
theorem dX7_readPart_83 : decode cX7_readPart 83 = .ok (.iconst 1, 1) := dk_4 (dk_at dksX7_readPart_3 13 rfl rfl)
theorem dX7_readPart_84 : decode cX7_readPart 84 = .ok (.iadd, 1) := dk_96 (dk_at dksX7_readPart_3 14 rfl rfl)
theorem dX7_readPart_85 : decode cX7_readPart 85 = .ok (.invokevirtual 246, 3) := dk_182 0 246 (dk_at dksX7_readPart_3 15 rfl rfl)
theorem dX7_readPart_88 : decode cX7_readPart 88 = .ok (.aload_n 0, 1) := dk_42 (dk_at dksX7_readPart_3 18 rfl rfl)
theorem dX7_readPart_89 : decode cX7_readPart 89 = .ok (.bipush 41, 2) := dk_16 41 (dk_at dksX7_readPart_3 19 rfl rfl)
theorem dX7_readPart_91 : decode cX7_readPart 91 = .ok (.invokevirtual 243, 3) := dk_182 0 243 (dk_at dksX7_readPart_3 21 rfl rfl)
theorem dX7_readPart_94 : decode cX7_readPart 94 = .ok (.return_, 1) := dk_177 (dk_at dksX7_readPart_4 0 rfl rfl)
abbrev cX7_lay : ByteArray := prog_18_method_24_code
def yX7_lay : MethodName := ⟨RX7, "lay", "(I)V"⟩
def dkwX7_lay_1 : List UInt8 := [79, 42, 180, 0, 29, 16, 15, 92, 46, 4, 96, 79, 177]
abbrev dktX7_lay_1 : List UInt8 := dkwX7_lay_1 ++ []
def dkwX7_lay_0 : List UInt8 := [42, 180, 0, 199, 153, 0, 4, 177, 42, 180, 0, 59, 17, 2, 188, 42, 180, 0, 29, 16, 15, 46, 96, 27]
abbrev dktX7_lay_0 : List UInt8 := dkwX7_lay_0 ++ dktX7_lay_1
theorem dksX7_lay_0 : cX7_lay.data.toList.drop 0 = dktX7_lay_0 := by decide +kernel
theorem dksX7_lay_1 : cX7_lay.data.toList.drop 24 = dktX7_lay_1 := dk_seg dksX7_lay_0 24 rfl rfl
theorem dX7_lay_0 : decode cX7_lay 0 = .ok (.aload_n 0, 1) := dk_42 (dk_at dksX7_lay_0 0 rfl rfl)
theorem dX7_lay_1 : decode cX7_lay 1 = .ok (.getfield 199, 3) := dk_180 0 199 (dk_at dksX7_lay_0 1 rfl rfl)
theorem dX7_lay_4 : decode cX7_lay 4 = .ok (.ifCond .eq 4, 3) := dk_153 0 4 (dk_at dksX7_lay_0 4 rfl rfl)
theorem dX7_lay_7 : decode cX7_lay 7 = .ok (.return_, 1) := dk_177 (dk_at dksX7_lay_0 7 rfl rfl)
theorem dX7_lay_8 : decode cX7_lay 8 = .ok (.aload_n 0, 1) := dk_42 (dk_at dksX7_lay_0 8 rfl rfl)
theorem dX7_lay_9 : decode cX7_lay 9 = .ok (.getfield 59, 3) := dk_180 0 59 (dk_at dksX7_lay_0 9 rfl rfl)
theorem dX7_lay_12 : decode cX7_lay 12 = .ok (.sipush 700, 3) := dk_17 2 188 (dk_at dksX7_lay_0 12 rfl rfl)
theorem dX7_lay_15 : decode cX7_lay 15 = .ok (.aload_n 0, 1) := dk_42 (dk_at dksX7_lay_0 15 rfl rfl)
theorem dX7_lay_16 : decode cX7_lay 16 = .ok (.getfield 29, 3) := dk_180 0 29 (dk_at dksX7_lay_0 16 rfl rfl)
theorem dX7_lay_19 : decode cX7_lay 19 = .ok (.bipush 15, 2) := dk_16 15 (dk_at dksX7_lay_0 19 rfl rfl)
theorem dX7_lay_21 : decode cX7_lay 21 = .ok (.iaload, 1) := dk_46 (dk_at dksX7_lay_0 21 rfl rfl)
theorem dX7_lay_22 : decode cX7_lay 22 = .ok (.iadd, 1) := dk_96 (dk_at dksX7_lay_0 22 rfl rfl)
theorem dX7_lay_23 : decode cX7_lay 23 = .ok (.iload_n 1, 1) := dk_27 (dk_at dksX7_lay_0 23 rfl rfl)
theorem dX7_lay_24 : decode cX7_lay 24 = .ok (.iastore, 1) := dk_79 (dk_at dksX7_lay_1 0 rfl rfl)
theorem dX7_lay_25 : decode cX7_lay 25 = .ok (.aload_n 0, 1) := dk_42 (dk_at dksX7_lay_1 1 rfl rfl)
theorem dX7_lay_26 : decode cX7_lay 26 = .ok (.getfield 29, 3) := dk_180 0 29 (dk_at dksX7_lay_1 2 rfl rfl)
theorem dX7_lay_29 : decode cX7_lay 29 = .ok (.bipush 15, 2) := dk_16 15 (dk_at dksX7_lay_1 5 rfl rfl)
theorem dX7_lay_31 : decode cX7_lay 31 = .ok (.dup2, 1) := dk_92 (dk_at dksX7_lay_1 7 rfl rfl)
theorem dX7_lay_32 : decode cX7_lay 32 = .ok (.iaload, 1) := dk_46 (dk_at dksX7_lay_1 8 rfl rfl)
theorem dX7_lay_33 : decode cX7_lay 33 = .ok (.iconst 1, 1) := dk_4 (dk_at dksX7_lay_1 9 rfl rfl)
theorem dX7_lay_34 : decode cX7_lay 34 = .ok (.iadd, 1) := dk_96 (dk_at dksX7_lay_1 10 rfl rfl)
theorem dX7_lay_35 : decode cX7_lay 35 = .ok (.iastore, 1) := dk_79 (dk_at dksX7_lay_1 11 rfl rfl)
theorem dX7_lay_36 : decode cX7_lay 36 = .ok (.return_, 1) := dk_177 (dk_at dksX7_lay_1 12 rfl rfl)
abbrev cX7_which : ByteArray := prog_18_method_17_code
def yX7_which : MethodName := ⟨RX7, "which", "([Ljava/lang/String;)I"⟩
def dkwX7_which_1 : List UInt8 := [167, 255, 235, 2, 172]
abbrev dktX7_which_1 : List UInt8 := dkwX7_which_1 ++ []
def dkwX7_which_0 : List UInt8 := [3, 61, 28, 43, 190, 162, 0, 21, 42, 43, 28, 50, 182, 0, 213, 153, 0, 5, 28, 172, 132, 2, 1]
abbrev dktX7_which_0 : List UInt8 := dkwX7_which_0 ++ dktX7_which_1
theorem dksX7_which_0 : cX7_which.data.toList.drop 0 = dktX7_which_0 := by decide +kernel
theorem dksX7_which_1 : cX7_which.data.toList.drop 23 = dktX7_which_1 := dk_seg dksX7_which_0 23 rfl rfl
theorem dX7_which_0 : decode cX7_which 0 = .ok (.iconst 0, 1) := dk_3 (dk_at dksX7_which_0 0 rfl rfl)
theorem dX7_which_1 : decode cX7_which 1 = .ok (.istore_n 2, 1) := dk_61 (dk_at dksX7_which_0 1 rfl rfl)
theorem dX7_which_2 : decode cX7_which 2 = .ok (.iload_n 2, 1) := dk_28 (dk_at dksX7_which_0 2 rfl rfl)
theorem dX7_which_3 : decode cX7_which 3 = .ok (.aload_n 1, 1) := dk_43 (dk_at dksX7_which_0 3 rfl rfl)
theorem dX7_which_4 : decode cX7_which 4 = .ok (.arraylength, 1) := dk_190 (dk_at dksX7_which_0 4 rfl rfl)
theorem dX7_which_5 : decode cX7_which 5 = .ok (.if_icmp .ge 21, 3) := dk_162 0 21 (dk_at dksX7_which_0 5 rfl rfl)
theorem dX7_which_8 : decode cX7_which 8 = .ok (.aload_n 0, 1) := dk_42 (dk_at dksX7_which_0 8 rfl rfl)
theorem dX7_which_9 : decode cX7_which 9 = .ok (.aload_n 1, 1) := dk_43 (dk_at dksX7_which_0 9 rfl rfl)
theorem dX7_which_10 : decode cX7_which 10 = .ok (.iload_n 2, 1) := dk_28 (dk_at dksX7_which_0 10 rfl rfl)
theorem dX7_which_11 : decode cX7_which 11 = .ok (.aaload, 1) := dk_50 (dk_at dksX7_which_0 11 rfl rfl)
theorem dX7_which_12 : decode cX7_which 12 = .ok (.invokevirtual 213, 3) := dk_182 0 213 (dk_at dksX7_which_0 12 rfl rfl)
theorem dX7_which_15 : decode cX7_which 15 = .ok (.ifCond .eq 5, 3) := dk_153 0 5 (dk_at dksX7_which_0 15 rfl rfl)
theorem dX7_which_18 : decode cX7_which 18 = .ok (.iload_n 2, 1) := dk_28 (dk_at dksX7_which_0 18 rfl rfl)
theorem dX7_which_19 : decode cX7_which 19 = .ok (.ireturn, 1) := dk_172 (dk_at dksX7_which_0 19 rfl rfl)
theorem dX7_which_20 : decode cX7_which 20 = .ok (.iinc 2 1, 3) := dk_132 2 1 (dk_at dksX7_which_0 20 rfl rfl)
theorem dX7_which_23 : decode cX7_which 23 = .ok (.goto (-21), 3) := dk_167 255 235 (dk_at dksX7_which_1 0 rfl rfl)
theorem dX7_which_26 : decode cX7_which 26 = .ok (.iconst (-1), 1) := dk_2 (dk_at dksX7_which_1 3 rfl rfl)
theorem dX7_which_27 : decode cX7_which 27 = .ok (.ireturn, 1) := dk_172 (dk_at dksX7_which_1 4 rfl rfl)
abbrev cX7_mark : ByteArray := prog_18_method_19_code
def yX7_mark : MethodName := ⟨RX7, "mark", "(I)V"⟩
def dkwX7_mark_1 : List UInt8 := [154, 0, 7, 42, 182, 0, 224, 177]
abbrev dktX7_mark_1 : List UInt8 := dkwX7_mark_1 ++ []
def dkwX7_mark_0 : List UInt8 := [42, 180, 0, 199, 154, 0, 16, 42, 27, 182, 0, 217, 154, 0, 8, 42, 4, 182, 0, 220, 42, 180, 0, 199]
abbrev dktX7_mark_0 : List UInt8 := dkwX7_mark_0 ++ dktX7_mark_1
theorem dksX7_mark_0 : cX7_mark.data.toList.drop 0 = dktX7_mark_0 := by decide +kernel
theorem dksX7_mark_1 : cX7_mark.data.toList.drop 24 = dktX7_mark_1 := dk_seg dksX7_mark_0 24 rfl rfl
theorem dX7_mark_0 : decode cX7_mark 0 = .ok (.aload_n 0, 1) := dk_42 (dk_at dksX7_mark_0 0 rfl rfl)
theorem dX7_mark_1 : decode cX7_mark 1 = .ok (.getfield 199, 3) := dk_180 0 199 (dk_at dksX7_mark_0 1 rfl rfl)
theorem dX7_mark_4 : decode cX7_mark 4 = .ok (.ifCond .ne 16, 3) := dk_154 0 16 (dk_at dksX7_mark_0 4 rfl rfl)
theorem dX7_mark_7 : decode cX7_mark 7 = .ok (.aload_n 0, 1) := dk_42 (dk_at dksX7_mark_0 7 rfl rfl)
theorem dX7_mark_8 : decode cX7_mark 8 = .ok (.iload_n 1, 1) := dk_27 (dk_at dksX7_mark_0 8 rfl rfl)
theorem dX7_mark_9 : decode cX7_mark 9 = .ok (.invokevirtual 217, 3) := dk_182 0 217 (dk_at dksX7_mark_0 9 rfl rfl)
theorem dX7_mark_12 : decode cX7_mark 12 = .ok (.ifCond .ne 8, 3) := dk_154 0 8 (dk_at dksX7_mark_0 12 rfl rfl)
theorem dX7_mark_15 : decode cX7_mark 15 = .ok (.aload_n 0, 1) := dk_42 (dk_at dksX7_mark_0 15 rfl rfl)
theorem dX7_mark_16 : decode cX7_mark 16 = .ok (.iconst 1, 1) := dk_4 (dk_at dksX7_mark_0 16 rfl rfl)
theorem dX7_mark_17 : decode cX7_mark 17 = .ok (.invokevirtual 220, 3) := dk_182 0 220 (dk_at dksX7_mark_0 17 rfl rfl)
theorem dX7_mark_20 : decode cX7_mark 20 = .ok (.aload_n 0, 1) := dk_42 (dk_at dksX7_mark_0 20 rfl rfl)
theorem dX7_mark_21 : decode cX7_mark 21 = .ok (.getfield 199, 3) := dk_180 0 199 (dk_at dksX7_mark_0 21 rfl rfl)
theorem dX7_mark_24 : decode cX7_mark 24 = .ok (.ifCond .ne 7, 3) := dk_154 0 7 (dk_at dksX7_mark_1 0 rfl rfl)
theorem dX7_mark_27 : decode cX7_mark 27 = .ok (.aload_n 0, 1) := dk_42 (dk_at dksX7_mark_1 3 rfl rfl)
theorem dX7_mark_28 : decode cX7_mark 28 = .ok (.invokevirtual 224, 3) := dk_182 0 224 (dk_at dksX7_mark_1 4 rfl rfl)
theorem dX7_mark_31 : decode cX7_mark 31 = .ok (.return_, 1) := dk_177 (dk_at dksX7_mark_1 7 rfl rfl)
abbrev cX7_sayForest : ByteArray := prog_18_method_32_code
def yX7_sayForest : MethodName := ⟨RX7, "sayForest", "()V"⟩
def dkwX7_sayForest_3 : List UInt8 := [27, 42, 3, 16, 99, 182, 0, 233, 79, 42, 180, 0, 29, 16, 8, 92, 46, 4, 96, 79, 177]
abbrev dktX7_sayForest_3 : List UInt8 := dkwX7_sayForest_3 ++ []
def dkwX7_sayForest_2 : List UInt8 := [27, 46, 182, 0, 233, 79, 42, 180, 0, 39, 27, 42, 4, 17, 3, 231, 182, 0, 233, 79, 42, 180, 0, 42]
abbrev dktX7_sayForest_2 : List UInt8 := dkwX7_sayForest_2 ++ dktX7_sayForest_3
def dkwX7_sayForest_1 : List UInt8 := [180, 0, 33, 27, 42, 3, 17, 3, 231, 182, 0, 233, 79, 42, 180, 0, 36, 27, 42, 3, 42, 180, 0, 33]
abbrev dktX7_sayForest_1 : List UInt8 := dkwX7_sayForest_1 ++ dktX7_sayForest_2
def dkwX7_sayForest_0 : List UInt8 := [42, 3, 16, 8, 182, 1, 14, 154, 0, 4, 177, 16, 8, 42, 180, 0, 29, 16, 8, 46, 96, 60, 42]
abbrev dktX7_sayForest_0 : List UInt8 := dkwX7_sayForest_0 ++ dktX7_sayForest_1
theorem dksX7_sayForest_0 : cX7_sayForest.data.toList.drop 0 = dktX7_sayForest_0 := by decide +kernel
theorem dksX7_sayForest_1 : cX7_sayForest.data.toList.drop 23 = dktX7_sayForest_1 := dk_seg dksX7_sayForest_0 23 rfl rfl
theorem dksX7_sayForest_2 : cX7_sayForest.data.toList.drop 47 = dktX7_sayForest_2 := dk_seg dksX7_sayForest_1 24 rfl rfl
theorem dksX7_sayForest_3 : cX7_sayForest.data.toList.drop 71 = dktX7_sayForest_3 := dk_seg dksX7_sayForest_2 24 rfl rfl
theorem dX7_sayForest_0 : decode cX7_sayForest 0 = .ok (.aload_n 0, 1) := dk_42 (dk_at dksX7_sayForest_0 0 rfl rfl)
theorem dX7_sayForest_1 : decode cX7_sayForest 1 = .ok (.iconst 0, 1) := dk_3 (dk_at dksX7_sayForest_0 1 rfl rfl)
theorem dX7_sayForest_2 : decode cX7_sayForest 2 = .ok (.bipush 8, 2) := dk_16 8 (dk_at dksX7_sayForest_0 2 rfl rfl)
theorem dX7_sayForest_4 : decode cX7_sayForest 4 = .ok (.invokevirtual 270, 3) := dk_182 1 14 (dk_at dksX7_sayForest_0 4 rfl rfl)
theorem dX7_sayForest_7 : decode cX7_sayForest 7 = .ok (.ifCond .ne 4, 3) := dk_154 0 4 (dk_at dksX7_sayForest_0 7 rfl rfl)
theorem dX7_sayForest_10 : decode cX7_sayForest 10 = .ok (.return_, 1) := dk_177 (dk_at dksX7_sayForest_0 10 rfl rfl)
theorem dX7_sayForest_11 : decode cX7_sayForest 11 = .ok (.bipush 8, 2) := dk_16 8 (dk_at dksX7_sayForest_0 11 rfl rfl)
theorem dX7_sayForest_13 : decode cX7_sayForest 13 = .ok (.aload_n 0, 1) := dk_42 (dk_at dksX7_sayForest_0 13 rfl rfl)
theorem dX7_sayForest_14 : decode cX7_sayForest 14 = .ok (.getfield 29, 3) := dk_180 0 29 (dk_at dksX7_sayForest_0 14 rfl rfl)
theorem dX7_sayForest_17 : decode cX7_sayForest 17 = .ok (.bipush 8, 2) := dk_16 8 (dk_at dksX7_sayForest_0 17 rfl rfl)
theorem dX7_sayForest_19 : decode cX7_sayForest 19 = .ok (.iaload, 1) := dk_46 (dk_at dksX7_sayForest_0 19 rfl rfl)
theorem dX7_sayForest_20 : decode cX7_sayForest 20 = .ok (.iadd, 1) := dk_96 (dk_at dksX7_sayForest_0 20 rfl rfl)
theorem dX7_sayForest_21 : decode cX7_sayForest 21 = .ok (.istore_n 1, 1) := dk_60 (dk_at dksX7_sayForest_0 21 rfl rfl)
theorem dX7_sayForest_22 : decode cX7_sayForest 22 = .ok (.aload_n 0, 1) := dk_42 (dk_at dksX7_sayForest_0 22 rfl rfl)
theorem dX7_sayForest_23 : decode cX7_sayForest 23 = .ok (.getfield 33, 3) := dk_180 0 33 (dk_at dksX7_sayForest_1 0 rfl rfl)
theorem dX7_sayForest_26 : decode cX7_sayForest 26 = .ok (.iload_n 1, 1) := dk_27 (dk_at dksX7_sayForest_1 3 rfl rfl)
theorem dX7_sayForest_27 : decode cX7_sayForest 27 = .ok (.aload_n 0, 1) := dk_42 (dk_at dksX7_sayForest_1 4 rfl rfl)
theorem dX7_sayForest_28 : decode cX7_sayForest 28 = .ok (.iconst 0, 1) := dk_3 (dk_at dksX7_sayForest_1 5 rfl rfl)
theorem dX7_sayForest_29 : decode cX7_sayForest 29 = .ok (.sipush 999, 3) := dk_17 3 231 (dk_at dksX7_sayForest_1 6 rfl rfl)
theorem dX7_sayForest_32 : decode cX7_sayForest 32 = .ok (.invokevirtual 233, 3) := dk_182 0 233 (dk_at dksX7_sayForest_1 9 rfl rfl)
theorem dX7_sayForest_35 : decode cX7_sayForest 35 = .ok (.iastore, 1) := dk_79 (dk_at dksX7_sayForest_1 12 rfl rfl)
theorem dX7_sayForest_36 : decode cX7_sayForest 36 = .ok (.aload_n 0, 1) := dk_42 (dk_at dksX7_sayForest_1 13 rfl rfl)
theorem dX7_sayForest_37 : decode cX7_sayForest 37 = .ok (.getfield 36, 3) := dk_180 0 36 (dk_at dksX7_sayForest_1 14 rfl rfl)
theorem dX7_sayForest_40 : decode cX7_sayForest 40 = .ok (.iload_n 1, 1) := dk_27 (dk_at dksX7_sayForest_1 17 rfl rfl)
theorem dX7_sayForest_41 : decode cX7_sayForest 41 = .ok (.aload_n 0, 1) := dk_42 (dk_at dksX7_sayForest_1 18 rfl rfl)
theorem dX7_sayForest_42 : decode cX7_sayForest 42 = .ok (.iconst 0, 1) := dk_3 (dk_at dksX7_sayForest_1 19 rfl rfl)
theorem dX7_sayForest_43 : decode cX7_sayForest 43 = .ok (.aload_n 0, 1) := dk_42 (dk_at dksX7_sayForest_1 20 rfl rfl)
theorem dX7_sayForest_44 : decode cX7_sayForest 44 = .ok (.getfield 33, 3) := dk_180 0 33 (dk_at dksX7_sayForest_1 21 rfl rfl)
theorem dX7_sayForest_47 : decode cX7_sayForest 47 = .ok (.iload_n 1, 1) := dk_27 (dk_at dksX7_sayForest_2 0 rfl rfl)
theorem dX7_sayForest_48 : decode cX7_sayForest 48 = .ok (.iaload, 1) := dk_46 (dk_at dksX7_sayForest_2 1 rfl rfl)
theorem dX7_sayForest_49 : decode cX7_sayForest 49 = .ok (.invokevirtual 233, 3) := dk_182 0 233 (dk_at dksX7_sayForest_2 2 rfl rfl)
theorem dX7_sayForest_52 : decode cX7_sayForest 52 = .ok (.iastore, 1) := dk_79 (dk_at dksX7_sayForest_2 5 rfl rfl)
theorem dX7_sayForest_53 : decode cX7_sayForest 53 = .ok (.aload_n 0, 1) := dk_42 (dk_at dksX7_sayForest_2 6 rfl rfl)
theorem dX7_sayForest_54 : decode cX7_sayForest 54 = .ok (.getfield 39, 3) := dk_180 0 39 (dk_at dksX7_sayForest_2 7 rfl rfl)
theorem dX7_sayForest_57 : decode cX7_sayForest 57 = .ok (.iload_n 1, 1) := dk_27 (dk_at dksX7_sayForest_2 10 rfl rfl)
theorem dX7_sayForest_58 : decode cX7_sayForest 58 = .ok (.aload_n 0, 1) := dk_42 (dk_at dksX7_sayForest_2 11 rfl rfl)
theorem dX7_sayForest_59 : decode cX7_sayForest 59 = .ok (.iconst 1, 1) := dk_4 (dk_at dksX7_sayForest_2 12 rfl rfl)
theorem dX7_sayForest_60 : decode cX7_sayForest 60 = .ok (.sipush 999, 3) := dk_17 3 231 (dk_at dksX7_sayForest_2 13 rfl rfl)
theorem dX7_sayForest_63 : decode cX7_sayForest 63 = .ok (.invokevirtual 233, 3) := dk_182 0 233 (dk_at dksX7_sayForest_2 16 rfl rfl)
theorem dX7_sayForest_66 : decode cX7_sayForest 66 = .ok (.iastore, 1) := dk_79 (dk_at dksX7_sayForest_2 19 rfl rfl)
theorem dX7_sayForest_67 : decode cX7_sayForest 67 = .ok (.aload_n 0, 1) := dk_42 (dk_at dksX7_sayForest_2 20 rfl rfl)
theorem dX7_sayForest_68 : decode cX7_sayForest 68 = .ok (.getfield 42, 3) := dk_180 0 42 (dk_at dksX7_sayForest_2 21 rfl rfl)
theorem dX7_sayForest_71 : decode cX7_sayForest 71 = .ok (.iload_n 1, 1) := dk_27 (dk_at dksX7_sayForest_3 0 rfl rfl)
theorem dX7_sayForest_72 : decode cX7_sayForest 72 = .ok (.aload_n 0, 1) := dk_42 (dk_at dksX7_sayForest_3 1 rfl rfl)
theorem dX7_sayForest_73 : decode cX7_sayForest 73 = .ok (.iconst 0, 1) := dk_3 (dk_at dksX7_sayForest_3 2 rfl rfl)
theorem dX7_sayForest_74 : decode cX7_sayForest 74 = .ok (.bipush 99, 2) := dk_16 99 (dk_at dksX7_sayForest_3 3 rfl rfl)
theorem dX7_sayForest_76 : decode cX7_sayForest 76 = .ok (.invokevirtual 233, 3) := dk_182 0 233 (dk_at dksX7_sayForest_3 5 rfl rfl)
theorem dX7_sayForest_79 : decode cX7_sayForest 79 = .ok (.iastore, 1) := dk_79 (dk_at dksX7_sayForest_3 8 rfl rfl)
theorem dX7_sayForest_80 : decode cX7_sayForest 80 = .ok (.aload_n 0, 1) := dk_42 (dk_at dksX7_sayForest_3 9 rfl rfl)
theorem dX7_sayForest_81 : decode cX7_sayForest 81 = .ok (.getfield 29, 3) := dk_180 0 29 (dk_at dksX7_sayForest_3 10 rfl rfl)
theorem dX7_sayForest_84 : decode cX7_sayForest 84 = .ok (.bipush 8, 2) := dk_16 8 (dk_at dksX7_sayForest_3 13 rfl rfl)
theorem dX7_sayForest_86 : decode cX7_sayForest 86 = .ok (.dup2, 1) := dk_92 (dk_at dksX7_sayForest_3 15 rfl rfl)
theorem dX7_sayForest_87 : decode cX7_sayForest 87 = .ok (.iaload, 1) := dk_46 (dk_at dksX7_sayForest_3 16 rfl rfl)
theorem dX7_sayForest_88 : decode cX7_sayForest 88 = .ok (.iconst 1, 1) := dk_4 (dk_at dksX7_sayForest_3 17 rfl rfl)
theorem dX7_sayForest_89 : decode cX7_sayForest 89 = .ok (.iadd, 1) := dk_96 (dk_at dksX7_sayForest_3 18 rfl rfl)
theorem dX7_sayForest_90 : decode cX7_sayForest 90 = .ok (.iastore, 1) := dk_79 (dk_at dksX7_sayForest_3 19 rfl rfl)
theorem dX7_sayForest_91 : decode cX7_sayForest 91 = .ok (.return_, 1) := dk_177 (dk_at dksX7_sayForest_3 20 rfl rfl)
abbrev cX7_another : ByteArray := prog_18_method_31_code
def yX7_another : MethodName := ⟨RX7, "another", "(II)Z"⟩
def dkwX7_another_1 : List UInt8 := [153, 0, 5, 3, 172, 42, 182, 0, 224, 4, 172]
abbrev dktX7_another_1 : List UInt8 := dkwX7_another_1 ++ []
def dkwX7_another_0 : List UInt8 := [42, 180, 0, 29, 16, 8, 27, 96, 46, 28, 160, 0, 8, 42, 5, 182, 0, 220, 42, 180, 0, 199]
abbrev dktX7_another_0 : List UInt8 := dkwX7_another_0 ++ dktX7_another_1
theorem dksX7_another_0 : cX7_another.data.toList.drop 0 = dktX7_another_0 := by decide +kernel
theorem dksX7_another_1 : cX7_another.data.toList.drop 22 = dktX7_another_1 := dk_seg dksX7_another_0 22 rfl rfl
theorem dX7_another_0 : decode cX7_another 0 = .ok (.aload_n 0, 1) := dk_42 (dk_at dksX7_another_0 0 rfl rfl)
theorem dX7_another_1 : decode cX7_another 1 = .ok (.getfield 29, 3) := dk_180 0 29 (dk_at dksX7_another_0 1 rfl rfl)
theorem dX7_another_4 : decode cX7_another 4 = .ok (.bipush 8, 2) := dk_16 8 (dk_at dksX7_another_0 4 rfl rfl)
theorem dX7_another_6 : decode cX7_another 6 = .ok (.iload_n 1, 1) := dk_27 (dk_at dksX7_another_0 6 rfl rfl)
theorem dX7_another_7 : decode cX7_another 7 = .ok (.iadd, 1) := dk_96 (dk_at dksX7_another_0 7 rfl rfl)
theorem dX7_another_8 : decode cX7_another 8 = .ok (.iaload, 1) := dk_46 (dk_at dksX7_another_0 8 rfl rfl)
theorem dX7_another_9 : decode cX7_another 9 = .ok (.iload_n 2, 1) := dk_28 (dk_at dksX7_another_0 9 rfl rfl)
theorem dX7_another_10 : decode cX7_another 10 = .ok (.if_icmp .ne 8, 3) := dk_160 0 8 (dk_at dksX7_another_0 10 rfl rfl)
theorem dX7_another_13 : decode cX7_another 13 = .ok (.aload_n 0, 1) := dk_42 (dk_at dksX7_another_0 13 rfl rfl)
theorem dX7_another_14 : decode cX7_another 14 = .ok (.iconst 2, 1) := dk_5 (dk_at dksX7_another_0 14 rfl rfl)
theorem dX7_another_15 : decode cX7_another 15 = .ok (.invokevirtual 220, 3) := dk_182 0 220 (dk_at dksX7_another_0 15 rfl rfl)
theorem dX7_another_18 : decode cX7_another 18 = .ok (.aload_n 0, 1) := dk_42 (dk_at dksX7_another_0 18 rfl rfl)
theorem dX7_another_19 : decode cX7_another 19 = .ok (.getfield 199, 3) := dk_180 0 199 (dk_at dksX7_another_0 19 rfl rfl)
theorem dX7_another_22 : decode cX7_another 22 = .ok (.ifCond .eq 5, 3) := dk_153 0 5 (dk_at dksX7_another_1 0 rfl rfl)
theorem dX7_another_25 : decode cX7_another 25 = .ok (.iconst 0, 1) := dk_3 (dk_at dksX7_another_1 3 rfl rfl)
theorem dX7_another_26 : decode cX7_another 26 = .ok (.ireturn, 1) := dk_172 (dk_at dksX7_another_1 4 rfl rfl)
theorem dX7_another_27 : decode cX7_another 27 = .ok (.aload_n 0, 1) := dk_42 (dk_at dksX7_another_1 5 rfl rfl)
theorem dX7_another_28 : decode cX7_another 28 = .ok (.invokevirtual 224, 3) := dk_182 0 224 (dk_at dksX7_another_1 6 rfl rfl)
theorem dX7_another_31 : decode cX7_another 31 = .ok (.iconst 1, 1) := dk_4 (dk_at dksX7_another_1 9 rfl rfl)
theorem dX7_another_32 : decode cX7_another 32 = .ok (.ireturn, 1) := dk_172 (dk_at dksX7_another_1 10 rfl rfl)
abbrev cX7_sayRiver : ByteArray := prog_18_method_33_code
def yX7_sayRiver : MethodName := ⟨RX7, "sayRiver", "()V"⟩
def dkwX7_sayRiver_5 : List UInt8 := [16, 9, 92, 46, 4, 96, 79, 177]
abbrev dktX7_sayRiver_5 : List UInt8 := dkwX7_sayRiver_5 ++ []
def dkwX7_sayRiver_4 : List UInt8 := [96, 21, 4, 79, 42, 180, 0, 45, 29, 16, 8, 28, 104, 96, 27, 96, 21, 4, 79, 42, 180, 0, 29]
abbrev dktX7_sayRiver_4 : List UInt8 := dkwX7_sayRiver_4 ++ dktX7_sayRiver_5
def dkwX7_sayRiver_3 : List UInt8 := [182, 0, 233, 54, 4, 42, 180, 0, 199, 153, 0, 4, 177, 42, 180, 0, 45, 29, 16, 8, 27, 104, 96, 28]
abbrev dktX7_sayRiver_3 : List UInt8 := dkwX7_sayRiver_3 ++ dktX7_sayRiver_4
def dkwX7_sayRiver_2 : List UInt8 := [46, 153, 0, 8, 42, 7, 182, 0, 220, 42, 180, 0, 199, 154, 0, 7, 42, 182, 0, 224, 42, 4, 16, 30]
abbrev dktX7_sayRiver_2 : List UInt8 := dkwX7_sayRiver_2 ++ dktX7_sayRiver_3
def dkwX7_sayRiver_1 : List UInt8 := [42, 180, 0, 199, 154, 0, 29, 27, 28, 159, 0, 19, 42, 180, 0, 45, 29, 16, 8, 27, 104, 96, 28, 96]
abbrev dktX7_sayRiver_1 : List UInt8 := dkwX7_sayRiver_1 ++ dktX7_sayRiver_2
def dkwX7_sayRiver_0 : List UInt8 := [42, 4, 16, 12, 182, 1, 14, 154, 0, 4, 177, 42, 182, 1, 18, 60, 42, 182, 0, 230, 61, 16, 64, 62]
abbrev dktX7_sayRiver_0 : List UInt8 := dkwX7_sayRiver_0 ++ dktX7_sayRiver_1
theorem dksX7_sayRiver_0 : cX7_sayRiver.data.toList.drop 0 = dktX7_sayRiver_0 := by decide +kernel
theorem dksX7_sayRiver_1 : cX7_sayRiver.data.toList.drop 24 = dktX7_sayRiver_1 := dk_seg dksX7_sayRiver_0 24 rfl rfl
theorem dksX7_sayRiver_2 : cX7_sayRiver.data.toList.drop 48 = dktX7_sayRiver_2 := dk_seg dksX7_sayRiver_1 24 rfl rfl
theorem dksX7_sayRiver_3 : cX7_sayRiver.data.toList.drop 72 = dktX7_sayRiver_3 := dk_seg dksX7_sayRiver_2 24 rfl rfl
theorem dksX7_sayRiver_4 : cX7_sayRiver.data.toList.drop 96 = dktX7_sayRiver_4 := dk_seg dksX7_sayRiver_3 24 rfl rfl
theorem dksX7_sayRiver_5 : cX7_sayRiver.data.toList.drop 119 = dktX7_sayRiver_5 := dk_seg dksX7_sayRiver_4 23 rfl rfl
theorem dX7_sayRiver_0 : decode cX7_sayRiver 0 = .ok (.aload_n 0, 1) := dk_42 (dk_at dksX7_sayRiver_0 0 rfl rfl)
theorem dX7_sayRiver_1 : decode cX7_sayRiver 1 = .ok (.iconst 1, 1) := dk_4 (dk_at dksX7_sayRiver_0 1 rfl rfl)
theorem dX7_sayRiver_2 : decode cX7_sayRiver 2 = .ok (.bipush 12, 2) := dk_16 12 (dk_at dksX7_sayRiver_0 2 rfl rfl)
theorem dX7_sayRiver_4 : decode cX7_sayRiver 4 = .ok (.invokevirtual 270, 3) := dk_182 1 14 (dk_at dksX7_sayRiver_0 4 rfl rfl)
theorem dX7_sayRiver_7 : decode cX7_sayRiver 7 = .ok (.ifCond .ne 4, 3) := dk_154 0 4 (dk_at dksX7_sayRiver_0 7 rfl rfl)
theorem dX7_sayRiver_10 : decode cX7_sayRiver 10 = .ok (.return_, 1) := dk_177 (dk_at dksX7_sayRiver_0 10 rfl rfl)
theorem dX7_sayRiver_11 : decode cX7_sayRiver 11 = .ok (.aload_n 0, 1) := dk_42 (dk_at dksX7_sayRiver_0 11 rfl rfl)
theorem dX7_sayRiver_12 : decode cX7_sayRiver 12 = .ok (.invokevirtual 274, 3) := dk_182 1 18 (dk_at dksX7_sayRiver_0 12 rfl rfl)
theorem dX7_sayRiver_15 : decode cX7_sayRiver 15 = .ok (.istore_n 1, 1) := dk_60 (dk_at dksX7_sayRiver_0 15 rfl rfl)
theorem dX7_sayRiver_16 : decode cX7_sayRiver 16 = .ok (.aload_n 0, 1) := dk_42 (dk_at dksX7_sayRiver_0 16 rfl rfl)
theorem dX7_sayRiver_17 : decode cX7_sayRiver 17 = .ok (.invokevirtual 230, 3) := dk_182 0 230 (dk_at dksX7_sayRiver_0 17 rfl rfl)
theorem dX7_sayRiver_20 : decode cX7_sayRiver 20 = .ok (.istore_n 2, 1) := dk_61 (dk_at dksX7_sayRiver_0 20 rfl rfl)
theorem dX7_sayRiver_21 : decode cX7_sayRiver 21 = .ok (.bipush 64, 2) := dk_16 64 (dk_at dksX7_sayRiver_0 21 rfl rfl)
theorem dX7_sayRiver_23 : decode cX7_sayRiver 23 = .ok (.istore_n 3, 1) := dk_62 (dk_at dksX7_sayRiver_0 23 rfl rfl)
theorem dX7_sayRiver_24 : decode cX7_sayRiver 24 = .ok (.aload_n 0, 1) := dk_42 (dk_at dksX7_sayRiver_1 0 rfl rfl)
theorem dX7_sayRiver_25 : decode cX7_sayRiver 25 = .ok (.getfield 199, 3) := dk_180 0 199 (dk_at dksX7_sayRiver_1 1 rfl rfl)
theorem dX7_sayRiver_28 : decode cX7_sayRiver 28 = .ok (.ifCond .ne 29, 3) := dk_154 0 29 (dk_at dksX7_sayRiver_1 4 rfl rfl)
theorem dX7_sayRiver_31 : decode cX7_sayRiver 31 = .ok (.iload_n 1, 1) := dk_27 (dk_at dksX7_sayRiver_1 7 rfl rfl)
theorem dX7_sayRiver_32 : decode cX7_sayRiver 32 = .ok (.iload_n 2, 1) := dk_28 (dk_at dksX7_sayRiver_1 8 rfl rfl)
theorem dX7_sayRiver_33 : decode cX7_sayRiver 33 = .ok (.if_icmp .eq 19, 3) := dk_159 0 19 (dk_at dksX7_sayRiver_1 9 rfl rfl)
theorem dX7_sayRiver_36 : decode cX7_sayRiver 36 = .ok (.aload_n 0, 1) := dk_42 (dk_at dksX7_sayRiver_1 12 rfl rfl)
theorem dX7_sayRiver_37 : decode cX7_sayRiver 37 = .ok (.getfield 45, 3) := dk_180 0 45 (dk_at dksX7_sayRiver_1 13 rfl rfl)
theorem dX7_sayRiver_40 : decode cX7_sayRiver 40 = .ok (.iload_n 3, 1) := dk_29 (dk_at dksX7_sayRiver_1 16 rfl rfl)
theorem dX7_sayRiver_41 : decode cX7_sayRiver 41 = .ok (.bipush 8, 2) := dk_16 8 (dk_at dksX7_sayRiver_1 17 rfl rfl)
theorem dX7_sayRiver_43 : decode cX7_sayRiver 43 = .ok (.iload_n 1, 1) := dk_27 (dk_at dksX7_sayRiver_1 19 rfl rfl)
theorem dX7_sayRiver_44 : decode cX7_sayRiver 44 = .ok (.imul, 1) := dk_104 (dk_at dksX7_sayRiver_1 20 rfl rfl)
theorem dX7_sayRiver_45 : decode cX7_sayRiver 45 = .ok (.iadd, 1) := dk_96 (dk_at dksX7_sayRiver_1 21 rfl rfl)
theorem dX7_sayRiver_46 : decode cX7_sayRiver 46 = .ok (.iload_n 2, 1) := dk_28 (dk_at dksX7_sayRiver_1 22 rfl rfl)
theorem dX7_sayRiver_47 : decode cX7_sayRiver 47 = .ok (.iadd, 1) := dk_96 (dk_at dksX7_sayRiver_1 23 rfl rfl)
theorem dX7_sayRiver_48 : decode cX7_sayRiver 48 = .ok (.iaload, 1) := dk_46 (dk_at dksX7_sayRiver_2 0 rfl rfl)
theorem dX7_sayRiver_49 : decode cX7_sayRiver 49 = .ok (.ifCond .eq 8, 3) := dk_153 0 8 (dk_at dksX7_sayRiver_2 1 rfl rfl)
theorem dX7_sayRiver_52 : decode cX7_sayRiver 52 = .ok (.aload_n 0, 1) := dk_42 (dk_at dksX7_sayRiver_2 4 rfl rfl)
theorem dX7_sayRiver_53 : decode cX7_sayRiver 53 = .ok (.iconst 4, 1) := dk_7 (dk_at dksX7_sayRiver_2 5 rfl rfl)
theorem dX7_sayRiver_54 : decode cX7_sayRiver 54 = .ok (.invokevirtual 220, 3) := dk_182 0 220 (dk_at dksX7_sayRiver_2 6 rfl rfl)
theorem dX7_sayRiver_57 : decode cX7_sayRiver 57 = .ok (.aload_n 0, 1) := dk_42 (dk_at dksX7_sayRiver_2 9 rfl rfl)
theorem dX7_sayRiver_58 : decode cX7_sayRiver 58 = .ok (.getfield 199, 3) := dk_180 0 199 (dk_at dksX7_sayRiver_2 10 rfl rfl)
theorem dX7_sayRiver_61 : decode cX7_sayRiver 61 = .ok (.ifCond .ne 7, 3) := dk_154 0 7 (dk_at dksX7_sayRiver_2 13 rfl rfl)
theorem dX7_sayRiver_64 : decode cX7_sayRiver 64 = .ok (.aload_n 0, 1) := dk_42 (dk_at dksX7_sayRiver_2 16 rfl rfl)
theorem dX7_sayRiver_65 : decode cX7_sayRiver 65 = .ok (.invokevirtual 224, 3) := dk_182 0 224 (dk_at dksX7_sayRiver_2 17 rfl rfl)
theorem dX7_sayRiver_68 : decode cX7_sayRiver 68 = .ok (.aload_n 0, 1) := dk_42 (dk_at dksX7_sayRiver_2 20 rfl rfl)
theorem dX7_sayRiver_69 : decode cX7_sayRiver 69 = .ok (.iconst 1, 1) := dk_4 (dk_at dksX7_sayRiver_2 21 rfl rfl)
theorem dX7_sayRiver_70 : decode cX7_sayRiver 70 = .ok (.bipush 30, 2) := dk_16 30 (dk_at dksX7_sayRiver_2 22 rfl rfl)
theorem dX7_sayRiver_72 : decode cX7_sayRiver 72 = .ok (.invokevirtual 233, 3) := dk_182 0 233 (dk_at dksX7_sayRiver_3 0 rfl rfl)
theorem dX7_sayRiver_75 : decode cX7_sayRiver 75 = .ok (.istore 4, 2) := dk_54 4 (dk_at dksX7_sayRiver_3 3 rfl rfl)
theorem dX7_sayRiver_77 : decode cX7_sayRiver 77 = .ok (.aload_n 0, 1) := dk_42 (dk_at dksX7_sayRiver_3 5 rfl rfl)
theorem dX7_sayRiver_78 : decode cX7_sayRiver 78 = .ok (.getfield 199, 3) := dk_180 0 199 (dk_at dksX7_sayRiver_3 6 rfl rfl)
theorem dX7_sayRiver_81 : decode cX7_sayRiver 81 = .ok (.ifCond .eq 4, 3) := dk_153 0 4 (dk_at dksX7_sayRiver_3 9 rfl rfl)
theorem dX7_sayRiver_84 : decode cX7_sayRiver 84 = .ok (.return_, 1) := dk_177 (dk_at dksX7_sayRiver_3 12 rfl rfl)
theorem dX7_sayRiver_85 : decode cX7_sayRiver 85 = .ok (.aload_n 0, 1) := dk_42 (dk_at dksX7_sayRiver_3 13 rfl rfl)
theorem dX7_sayRiver_86 : decode cX7_sayRiver 86 = .ok (.getfield 45, 3) := dk_180 0 45 (dk_at dksX7_sayRiver_3 14 rfl rfl)
theorem dX7_sayRiver_89 : decode cX7_sayRiver 89 = .ok (.iload_n 3, 1) := dk_29 (dk_at dksX7_sayRiver_3 17 rfl rfl)
theorem dX7_sayRiver_90 : decode cX7_sayRiver 90 = .ok (.bipush 8, 2) := dk_16 8 (dk_at dksX7_sayRiver_3 18 rfl rfl)
theorem dX7_sayRiver_92 : decode cX7_sayRiver 92 = .ok (.iload_n 1, 1) := dk_27 (dk_at dksX7_sayRiver_3 20 rfl rfl)
theorem dX7_sayRiver_93 : decode cX7_sayRiver 93 = .ok (.imul, 1) := dk_104 (dk_at dksX7_sayRiver_3 21 rfl rfl)
theorem dX7_sayRiver_94 : decode cX7_sayRiver 94 = .ok (.iadd, 1) := dk_96 (dk_at dksX7_sayRiver_3 22 rfl rfl)
theorem dX7_sayRiver_95 : decode cX7_sayRiver 95 = .ok (.iload_n 2, 1) := dk_28 (dk_at dksX7_sayRiver_3 23 rfl rfl)
theorem dX7_sayRiver_96 : decode cX7_sayRiver 96 = .ok (.iadd, 1) := dk_96 (dk_at dksX7_sayRiver_4 0 rfl rfl)
theorem dX7_sayRiver_97 : decode cX7_sayRiver 97 = .ok (.iload 4, 2) := dk_21 4 (dk_at dksX7_sayRiver_4 1 rfl rfl)
theorem dX7_sayRiver_99 : decode cX7_sayRiver 99 = .ok (.iastore, 1) := dk_79 (dk_at dksX7_sayRiver_4 3 rfl rfl)
theorem dX7_sayRiver_100 : decode cX7_sayRiver 100 = .ok (.aload_n 0, 1) := dk_42 (dk_at dksX7_sayRiver_4 4 rfl rfl)
theorem dX7_sayRiver_101 : decode cX7_sayRiver 101 = .ok (.getfield 45, 3) := dk_180 0 45 (dk_at dksX7_sayRiver_4 5 rfl rfl)
theorem dX7_sayRiver_104 : decode cX7_sayRiver 104 = .ok (.iload_n 3, 1) := dk_29 (dk_at dksX7_sayRiver_4 8 rfl rfl)
theorem dX7_sayRiver_105 : decode cX7_sayRiver 105 = .ok (.bipush 8, 2) := dk_16 8 (dk_at dksX7_sayRiver_4 9 rfl rfl)
theorem dX7_sayRiver_107 : decode cX7_sayRiver 107 = .ok (.iload_n 2, 1) := dk_28 (dk_at dksX7_sayRiver_4 11 rfl rfl)
theorem dX7_sayRiver_108 : decode cX7_sayRiver 108 = .ok (.imul, 1) := dk_104 (dk_at dksX7_sayRiver_4 12 rfl rfl)
theorem dX7_sayRiver_109 : decode cX7_sayRiver 109 = .ok (.iadd, 1) := dk_96 (dk_at dksX7_sayRiver_4 13 rfl rfl)
theorem dX7_sayRiver_110 : decode cX7_sayRiver 110 = .ok (.iload_n 1, 1) := dk_27 (dk_at dksX7_sayRiver_4 14 rfl rfl)
theorem dX7_sayRiver_111 : decode cX7_sayRiver 111 = .ok (.iadd, 1) := dk_96 (dk_at dksX7_sayRiver_4 15 rfl rfl)
theorem dX7_sayRiver_112 : decode cX7_sayRiver 112 = .ok (.iload 4, 2) := dk_21 4 (dk_at dksX7_sayRiver_4 16 rfl rfl)
theorem dX7_sayRiver_114 : decode cX7_sayRiver 114 = .ok (.iastore, 1) := dk_79 (dk_at dksX7_sayRiver_4 18 rfl rfl)
theorem dX7_sayRiver_115 : decode cX7_sayRiver 115 = .ok (.aload_n 0, 1) := dk_42 (dk_at dksX7_sayRiver_4 19 rfl rfl)
theorem dX7_sayRiver_116 : decode cX7_sayRiver 116 = .ok (.getfield 29, 3) := dk_180 0 29 (dk_at dksX7_sayRiver_4 20 rfl rfl)
theorem dX7_sayRiver_119 : decode cX7_sayRiver 119 = .ok (.bipush 9, 2) := dk_16 9 (dk_at dksX7_sayRiver_5 0 rfl rfl)
theorem dX7_sayRiver_121 : decode cX7_sayRiver 121 = .ok (.dup2, 1) := dk_92 (dk_at dksX7_sayRiver_5 2 rfl rfl)
theorem dX7_sayRiver_122 : decode cX7_sayRiver 122 = .ok (.iaload, 1) := dk_46 (dk_at dksX7_sayRiver_5 3 rfl rfl)
theorem dX7_sayRiver_123 : decode cX7_sayRiver 123 = .ok (.iconst 1, 1) := dk_4 (dk_at dksX7_sayRiver_5 4 rfl rfl)
theorem dX7_sayRiver_124 : decode cX7_sayRiver 124 = .ok (.iadd, 1) := dk_96 (dk_at dksX7_sayRiver_5 5 rfl rfl)
theorem dX7_sayRiver_125 : decode cX7_sayRiver 125 = .ok (.iastore, 1) := dk_79 (dk_at dksX7_sayRiver_5 6 rfl rfl)
theorem dX7_sayRiver_126 : decode cX7_sayRiver 126 = .ok (.return_, 1) := dk_177 (dk_at dksX7_sayRiver_5 7 rfl rfl)
abbrev cX7_readForest : ByteArray := prog_18_method_23_code
def yX7_readForest : MethodName := ⟨RX7, "readForest", "()I"⟩
def dkwX7_readForest_0 : List UInt8 := [42, 182, 0, 230, 60, 42, 180, 0, 199, 154, 0, 7, 42, 182, 0, 224, 27, 172]
abbrev dktX7_readForest_0 : List UInt8 := dkwX7_readForest_0 ++ []
theorem dksX7_readForest_0 : cX7_readForest.data.toList.drop 0 = dktX7_readForest_0 := by decide +kernel
theorem dX7_readForest_0 : decode cX7_readForest 0 = .ok (.aload_n 0, 1) := dk_42 (dk_at dksX7_readForest_0 0 rfl rfl)
theorem dX7_readForest_1 : decode cX7_readForest 1 = .ok (.invokevirtual 230, 3) := dk_182 0 230 (dk_at dksX7_readForest_0 1 rfl rfl)
theorem dX7_readForest_4 : decode cX7_readForest 4 = .ok (.istore_n 1, 1) := dk_60 (dk_at dksX7_readForest_0 4 rfl rfl)
theorem dX7_readForest_5 : decode cX7_readForest 5 = .ok (.aload_n 0, 1) := dk_42 (dk_at dksX7_readForest_0 5 rfl rfl)
theorem dX7_readForest_6 : decode cX7_readForest 6 = .ok (.getfield 199, 3) := dk_180 0 199 (dk_at dksX7_readForest_0 6 rfl rfl)
theorem dX7_readForest_9 : decode cX7_readForest 9 = .ok (.ifCond .ne 7, 3) := dk_154 0 7 (dk_at dksX7_readForest_0 9 rfl rfl)
theorem dX7_readForest_12 : decode cX7_readForest 12 = .ok (.aload_n 0, 1) := dk_42 (dk_at dksX7_readForest_0 12 rfl rfl)
theorem dX7_readForest_13 : decode cX7_readForest 13 = .ok (.invokevirtual 224, 3) := dk_182 0 224 (dk_at dksX7_readForest_0 13 rfl rfl)
theorem dX7_readForest_16 : decode cX7_readForest 16 = .ok (.iload_n 1, 1) := dk_27 (dk_at dksX7_readForest_0 16 rfl rfl)
theorem dX7_readForest_17 : decode cX7_readForest 17 = .ok (.ireturn, 1) := dk_172 (dk_at dksX7_readForest_0 17 rfl rfl)
abbrev cX7_forestNow : ByteArray := prog_18_method_22_code
def yX7_forestNow : MethodName := ⟨RX7, "forestNow", "()I"⟩
def dkwX7_forestNow_1 : List UInt8 := [161, 0, 8, 42, 6, 182, 0, 220, 42, 180, 0, 199, 154, 0, 7, 27, 167, 0, 4, 3, 172]
abbrev dktX7_forestNow_1 : List UInt8 := dkwX7_forestNow_1 ++ []
def dkwX7_forestNow_0 : List UInt8 := [42, 3, 17, 39, 15, 182, 0, 227, 60, 42, 180, 0, 199, 154, 0, 19, 27, 42, 180, 0, 29, 16, 8, 46]
abbrev dktX7_forestNow_0 : List UInt8 := dkwX7_forestNow_0 ++ dktX7_forestNow_1
theorem dksX7_forestNow_0 : cX7_forestNow.data.toList.drop 0 = dktX7_forestNow_0 := by decide +kernel
theorem dksX7_forestNow_1 : cX7_forestNow.data.toList.drop 24 = dktX7_forestNow_1 := dk_seg dksX7_forestNow_0 24 rfl rfl
theorem dX7_forestNow_0 : decode cX7_forestNow 0 = .ok (.aload_n 0, 1) := dk_42 (dk_at dksX7_forestNow_0 0 rfl rfl)
theorem dX7_forestNow_1 : decode cX7_forestNow 1 = .ok (.iconst 0, 1) := dk_3 (dk_at dksX7_forestNow_0 1 rfl rfl)
theorem dX7_forestNow_2 : decode cX7_forestNow 2 = .ok (.sipush 9999, 3) := dk_17 39 15 (dk_at dksX7_forestNow_0 2 rfl rfl)
theorem dX7_forestNow_5 : decode cX7_forestNow 5 = .ok (.invokevirtual 227, 3) := dk_182 0 227 (dk_at dksX7_forestNow_0 5 rfl rfl)
theorem dX7_forestNow_8 : decode cX7_forestNow 8 = .ok (.istore_n 1, 1) := dk_60 (dk_at dksX7_forestNow_0 8 rfl rfl)
theorem dX7_forestNow_9 : decode cX7_forestNow 9 = .ok (.aload_n 0, 1) := dk_42 (dk_at dksX7_forestNow_0 9 rfl rfl)
theorem dX7_forestNow_10 : decode cX7_forestNow 10 = .ok (.getfield 199, 3) := dk_180 0 199 (dk_at dksX7_forestNow_0 10 rfl rfl)
theorem dX7_forestNow_13 : decode cX7_forestNow 13 = .ok (.ifCond .ne 19, 3) := dk_154 0 19 (dk_at dksX7_forestNow_0 13 rfl rfl)
theorem dX7_forestNow_16 : decode cX7_forestNow 16 = .ok (.iload_n 1, 1) := dk_27 (dk_at dksX7_forestNow_0 16 rfl rfl)
theorem dX7_forestNow_17 : decode cX7_forestNow 17 = .ok (.aload_n 0, 1) := dk_42 (dk_at dksX7_forestNow_0 17 rfl rfl)
theorem dX7_forestNow_18 : decode cX7_forestNow 18 = .ok (.getfield 29, 3) := dk_180 0 29 (dk_at dksX7_forestNow_0 18 rfl rfl)
theorem dX7_forestNow_21 : decode cX7_forestNow 21 = .ok (.bipush 8, 2) := dk_16 8 (dk_at dksX7_forestNow_0 21 rfl rfl)
theorem dX7_forestNow_23 : decode cX7_forestNow 23 = .ok (.iaload, 1) := dk_46 (dk_at dksX7_forestNow_0 23 rfl rfl)
theorem dX7_forestNow_24 : decode cX7_forestNow 24 = .ok (.if_icmp .lt 8, 3) := dk_161 0 8 (dk_at dksX7_forestNow_1 0 rfl rfl)
theorem dX7_forestNow_27 : decode cX7_forestNow 27 = .ok (.aload_n 0, 1) := dk_42 (dk_at dksX7_forestNow_1 3 rfl rfl)
theorem dX7_forestNow_28 : decode cX7_forestNow 28 = .ok (.iconst 3, 1) := dk_6 (dk_at dksX7_forestNow_1 4 rfl rfl)
theorem dX7_forestNow_29 : decode cX7_forestNow 29 = .ok (.invokevirtual 220, 3) := dk_182 0 220 (dk_at dksX7_forestNow_1 5 rfl rfl)
theorem dX7_forestNow_32 : decode cX7_forestNow 32 = .ok (.aload_n 0, 1) := dk_42 (dk_at dksX7_forestNow_1 8 rfl rfl)
theorem dX7_forestNow_33 : decode cX7_forestNow 33 = .ok (.getfield 199, 3) := dk_180 0 199 (dk_at dksX7_forestNow_1 9 rfl rfl)
theorem dX7_forestNow_36 : decode cX7_forestNow 36 = .ok (.ifCond .ne 7, 3) := dk_154 0 7 (dk_at dksX7_forestNow_1 12 rfl rfl)
theorem dX7_forestNow_39 : decode cX7_forestNow 39 = .ok (.iload_n 1, 1) := dk_27 (dk_at dksX7_forestNow_1 15 rfl rfl)
theorem dX7_forestNow_40 : decode cX7_forestNow 40 = .ok (.goto 4, 3) := dk_167 0 4 (dk_at dksX7_forestNow_1 16 rfl rfl)
theorem dX7_forestNow_43 : decode cX7_forestNow 43 = .ok (.iconst 0, 1) := dk_3 (dk_at dksX7_forestNow_1 19 rfl rfl)
theorem dX7_forestNow_44 : decode cX7_forestNow 44 = .ok (.ireturn, 1) := dk_172 (dk_at dksX7_forestNow_1 20 rfl rfl)
abbrev cX7_sayBand : ByteArray := prog_18_method_34_code
def yX7_sayBand : MethodName := ⟨RX7, "sayBand", "()V"⟩
def dkwX7_sayBand_2 : List UInt8 := [180, 0, 53, 27, 42, 3, 16, 30, 182, 0, 233, 79, 42, 180, 0, 29, 16, 10, 92, 46, 4, 96, 79, 177]
abbrev dktX7_sayBand_2 : List UInt8 := dkwX7_sayBand_2 ++ []
def dkwX7_sayBand_1 : List UInt8 := [180, 0, 48, 27, 42, 4, 16, 30, 182, 0, 233, 79, 42, 180, 0, 50, 27, 42, 182, 1, 18, 79, 42]
abbrev dktX7_sayBand_1 : List UInt8 := dkwX7_sayBand_1 ++ dktX7_sayBand_2
def dkwX7_sayBand_0 : List UInt8 := [42, 5, 16, 6, 182, 1, 14, 154, 0, 4, 177, 16, 6, 42, 180, 0, 29, 16, 10, 46, 96, 60, 42]
abbrev dktX7_sayBand_0 : List UInt8 := dkwX7_sayBand_0 ++ dktX7_sayBand_1
theorem dksX7_sayBand_0 : cX7_sayBand.data.toList.drop 0 = dktX7_sayBand_0 := by decide +kernel
theorem dksX7_sayBand_1 : cX7_sayBand.data.toList.drop 23 = dktX7_sayBand_1 := dk_seg dksX7_sayBand_0 23 rfl rfl
theorem dksX7_sayBand_2 : cX7_sayBand.data.toList.drop 46 = dktX7_sayBand_2 := dk_seg dksX7_sayBand_1 23 rfl rfl
theorem dX7_sayBand_0 : decode cX7_sayBand 0 = .ok (.aload_n 0, 1) := dk_42 (dk_at dksX7_sayBand_0 0 rfl rfl)
theorem dX7_sayBand_1 : decode cX7_sayBand 1 = .ok (.iconst 2, 1) := dk_5 (dk_at dksX7_sayBand_0 1 rfl rfl)
theorem dX7_sayBand_2 : decode cX7_sayBand 2 = .ok (.bipush 6, 2) := dk_16 6 (dk_at dksX7_sayBand_0 2 rfl rfl)
theorem dX7_sayBand_4 : decode cX7_sayBand 4 = .ok (.invokevirtual 270, 3) := dk_182 1 14 (dk_at dksX7_sayBand_0 4 rfl rfl)
theorem dX7_sayBand_7 : decode cX7_sayBand 7 = .ok (.ifCond .ne 4, 3) := dk_154 0 4 (dk_at dksX7_sayBand_0 7 rfl rfl)
theorem dX7_sayBand_10 : decode cX7_sayBand 10 = .ok (.return_, 1) := dk_177 (dk_at dksX7_sayBand_0 10 rfl rfl)
theorem dX7_sayBand_11 : decode cX7_sayBand 11 = .ok (.bipush 6, 2) := dk_16 6 (dk_at dksX7_sayBand_0 11 rfl rfl)
theorem dX7_sayBand_13 : decode cX7_sayBand 13 = .ok (.aload_n 0, 1) := dk_42 (dk_at dksX7_sayBand_0 13 rfl rfl)
theorem dX7_sayBand_14 : decode cX7_sayBand 14 = .ok (.getfield 29, 3) := dk_180 0 29 (dk_at dksX7_sayBand_0 14 rfl rfl)
theorem dX7_sayBand_17 : decode cX7_sayBand 17 = .ok (.bipush 10, 2) := dk_16 10 (dk_at dksX7_sayBand_0 17 rfl rfl)
theorem dX7_sayBand_19 : decode cX7_sayBand 19 = .ok (.iaload, 1) := dk_46 (dk_at dksX7_sayBand_0 19 rfl rfl)
theorem dX7_sayBand_20 : decode cX7_sayBand 20 = .ok (.iadd, 1) := dk_96 (dk_at dksX7_sayBand_0 20 rfl rfl)
theorem dX7_sayBand_21 : decode cX7_sayBand 21 = .ok (.istore_n 1, 1) := dk_60 (dk_at dksX7_sayBand_0 21 rfl rfl)
theorem dX7_sayBand_22 : decode cX7_sayBand 22 = .ok (.aload_n 0, 1) := dk_42 (dk_at dksX7_sayBand_0 22 rfl rfl)
theorem dX7_sayBand_23 : decode cX7_sayBand 23 = .ok (.getfield 48, 3) := dk_180 0 48 (dk_at dksX7_sayBand_1 0 rfl rfl)
theorem dX7_sayBand_26 : decode cX7_sayBand 26 = .ok (.iload_n 1, 1) := dk_27 (dk_at dksX7_sayBand_1 3 rfl rfl)
theorem dX7_sayBand_27 : decode cX7_sayBand 27 = .ok (.aload_n 0, 1) := dk_42 (dk_at dksX7_sayBand_1 4 rfl rfl)
theorem dX7_sayBand_28 : decode cX7_sayBand 28 = .ok (.iconst 1, 1) := dk_4 (dk_at dksX7_sayBand_1 5 rfl rfl)
theorem dX7_sayBand_29 : decode cX7_sayBand 29 = .ok (.bipush 30, 2) := dk_16 30 (dk_at dksX7_sayBand_1 6 rfl rfl)
theorem dX7_sayBand_31 : decode cX7_sayBand 31 = .ok (.invokevirtual 233, 3) := dk_182 0 233 (dk_at dksX7_sayBand_1 8 rfl rfl)
theorem dX7_sayBand_34 : decode cX7_sayBand 34 = .ok (.iastore, 1) := dk_79 (dk_at dksX7_sayBand_1 11 rfl rfl)
theorem dX7_sayBand_35 : decode cX7_sayBand 35 = .ok (.aload_n 0, 1) := dk_42 (dk_at dksX7_sayBand_1 12 rfl rfl)
theorem dX7_sayBand_36 : decode cX7_sayBand 36 = .ok (.getfield 50, 3) := dk_180 0 50 (dk_at dksX7_sayBand_1 13 rfl rfl)
theorem dX7_sayBand_39 : decode cX7_sayBand 39 = .ok (.iload_n 1, 1) := dk_27 (dk_at dksX7_sayBand_1 16 rfl rfl)
theorem dX7_sayBand_40 : decode cX7_sayBand 40 = .ok (.aload_n 0, 1) := dk_42 (dk_at dksX7_sayBand_1 17 rfl rfl)
theorem dX7_sayBand_41 : decode cX7_sayBand 41 = .ok (.invokevirtual 274, 3) := dk_182 1 18 (dk_at dksX7_sayBand_1 18 rfl rfl)
theorem dX7_sayBand_44 : decode cX7_sayBand 44 = .ok (.iastore, 1) := dk_79 (dk_at dksX7_sayBand_1 21 rfl rfl)
theorem dX7_sayBand_45 : decode cX7_sayBand 45 = .ok (.aload_n 0, 1) := dk_42 (dk_at dksX7_sayBand_1 22 rfl rfl)
theorem dX7_sayBand_46 : decode cX7_sayBand 46 = .ok (.getfield 53, 3) := dk_180 0 53 (dk_at dksX7_sayBand_2 0 rfl rfl)
theorem dX7_sayBand_49 : decode cX7_sayBand 49 = .ok (.iload_n 1, 1) := dk_27 (dk_at dksX7_sayBand_2 3 rfl rfl)
theorem dX7_sayBand_50 : decode cX7_sayBand 50 = .ok (.aload_n 0, 1) := dk_42 (dk_at dksX7_sayBand_2 4 rfl rfl)
theorem dX7_sayBand_51 : decode cX7_sayBand 51 = .ok (.iconst 0, 1) := dk_3 (dk_at dksX7_sayBand_2 5 rfl rfl)
theorem dX7_sayBand_52 : decode cX7_sayBand 52 = .ok (.bipush 30, 2) := dk_16 30 (dk_at dksX7_sayBand_2 6 rfl rfl)
theorem dX7_sayBand_54 : decode cX7_sayBand 54 = .ok (.invokevirtual 233, 3) := dk_182 0 233 (dk_at dksX7_sayBand_2 8 rfl rfl)
theorem dX7_sayBand_57 : decode cX7_sayBand 57 = .ok (.iastore, 1) := dk_79 (dk_at dksX7_sayBand_2 11 rfl rfl)
theorem dX7_sayBand_58 : decode cX7_sayBand 58 = .ok (.aload_n 0, 1) := dk_42 (dk_at dksX7_sayBand_2 12 rfl rfl)
theorem dX7_sayBand_59 : decode cX7_sayBand 59 = .ok (.getfield 29, 3) := dk_180 0 29 (dk_at dksX7_sayBand_2 13 rfl rfl)
theorem dX7_sayBand_62 : decode cX7_sayBand 62 = .ok (.bipush 10, 2) := dk_16 10 (dk_at dksX7_sayBand_2 16 rfl rfl)
theorem dX7_sayBand_64 : decode cX7_sayBand 64 = .ok (.dup2, 1) := dk_92 (dk_at dksX7_sayBand_2 18 rfl rfl)
theorem dX7_sayBand_65 : decode cX7_sayBand 65 = .ok (.iaload, 1) := dk_46 (dk_at dksX7_sayBand_2 19 rfl rfl)
theorem dX7_sayBand_66 : decode cX7_sayBand 66 = .ok (.iconst 1, 1) := dk_4 (dk_at dksX7_sayBand_2 20 rfl rfl)
theorem dX7_sayBand_67 : decode cX7_sayBand 67 = .ok (.iadd, 1) := dk_96 (dk_at dksX7_sayBand_2 21 rfl rfl)
theorem dX7_sayBand_68 : decode cX7_sayBand 68 = .ok (.iastore, 1) := dk_79 (dk_at dksX7_sayBand_2 22 rfl rfl)
theorem dX7_sayBand_69 : decode cX7_sayBand 69 = .ok (.return_, 1) := dk_177 (dk_at dksX7_sayBand_2 23 rfl rfl)
abbrev cX7_sayFort : ByteArray := prog_18_method_35_code
def yX7_sayFort : MethodName := ⟨RX7, "sayFort", "()V"⟩
def dkwX7_sayFort_4 : List UInt8 := [79, 177]
abbrev dktX7_sayFort_4 : List UInt8 := dkwX7_sayFort_4 ++ []
def dkwX7_sayFort_3 : List UInt8 := [180, 0, 56, 6, 42, 180, 0, 29, 16, 11, 46, 96, 27, 79, 42, 180, 0, 29, 16, 11, 92, 46, 4, 96]
abbrev dktX7_sayFort_3 : List UInt8 := dkwX7_sayFort_3 ++ dktX7_sayFort_4
def dkwX7_sayFort_2 : List UInt8 := [7, 182, 0, 220, 132, 2, 1, 167, 255, 218, 42, 180, 0, 199, 153, 0, 4, 177, 42, 182, 0, 224, 42]
abbrev dktX7_sayFort_2 : List UInt8 := dkwX7_sayFort_2 ++ dktX7_sayFort_3
def dkwX7_sayFort_1 : List UInt8 := [28, 6, 42, 180, 0, 29, 16, 11, 46, 96, 162, 0, 24, 42, 180, 0, 56, 28, 46, 27, 160, 0, 8, 42]
abbrev dktX7_sayFort_1 : List UInt8 := dkwX7_sayFort_1 ++ dktX7_sayFort_2
def dkwX7_sayFort_0 : List UInt8 := [42, 6, 6, 182, 1, 14, 154, 0, 4, 177, 42, 182, 0, 230, 60, 6, 61, 42, 180, 0, 199, 154, 0, 37]
abbrev dktX7_sayFort_0 : List UInt8 := dkwX7_sayFort_0 ++ dktX7_sayFort_1
theorem dksX7_sayFort_0 : cX7_sayFort.data.toList.drop 0 = dktX7_sayFort_0 := by decide +kernel
theorem dksX7_sayFort_1 : cX7_sayFort.data.toList.drop 24 = dktX7_sayFort_1 := dk_seg dksX7_sayFort_0 24 rfl rfl
theorem dksX7_sayFort_2 : cX7_sayFort.data.toList.drop 48 = dktX7_sayFort_2 := dk_seg dksX7_sayFort_1 24 rfl rfl
theorem dksX7_sayFort_3 : cX7_sayFort.data.toList.drop 71 = dktX7_sayFort_3 := dk_seg dksX7_sayFort_2 23 rfl rfl
theorem dksX7_sayFort_4 : cX7_sayFort.data.toList.drop 95 = dktX7_sayFort_4 := dk_seg dksX7_sayFort_3 24 rfl rfl
theorem dX7_sayFort_0 : decode cX7_sayFort 0 = .ok (.aload_n 0, 1) := dk_42 (dk_at dksX7_sayFort_0 0 rfl rfl)
theorem dX7_sayFort_1 : decode cX7_sayFort 1 = .ok (.iconst 3, 1) := dk_6 (dk_at dksX7_sayFort_0 1 rfl rfl)
theorem dX7_sayFort_2 : decode cX7_sayFort 2 = .ok (.iconst 3, 1) := dk_6 (dk_at dksX7_sayFort_0 2 rfl rfl)
theorem dX7_sayFort_3 : decode cX7_sayFort 3 = .ok (.invokevirtual 270, 3) := dk_182 1 14 (dk_at dksX7_sayFort_0 3 rfl rfl)
theorem dX7_sayFort_6 : decode cX7_sayFort 6 = .ok (.ifCond .ne 4, 3) := dk_154 0 4 (dk_at dksX7_sayFort_0 6 rfl rfl)
theorem dX7_sayFort_9 : decode cX7_sayFort 9 = .ok (.return_, 1) := dk_177 (dk_at dksX7_sayFort_0 9 rfl rfl)
theorem dX7_sayFort_10 : decode cX7_sayFort 10 = .ok (.aload_n 0, 1) := dk_42 (dk_at dksX7_sayFort_0 10 rfl rfl)
theorem dX7_sayFort_11 : decode cX7_sayFort 11 = .ok (.invokevirtual 230, 3) := dk_182 0 230 (dk_at dksX7_sayFort_0 11 rfl rfl)
theorem dX7_sayFort_14 : decode cX7_sayFort 14 = .ok (.istore_n 1, 1) := dk_60 (dk_at dksX7_sayFort_0 14 rfl rfl)
theorem dX7_sayFort_15 : decode cX7_sayFort 15 = .ok (.iconst 3, 1) := dk_6 (dk_at dksX7_sayFort_0 15 rfl rfl)
theorem dX7_sayFort_16 : decode cX7_sayFort 16 = .ok (.istore_n 2, 1) := dk_61 (dk_at dksX7_sayFort_0 16 rfl rfl)
theorem dX7_sayFort_17 : decode cX7_sayFort 17 = .ok (.aload_n 0, 1) := dk_42 (dk_at dksX7_sayFort_0 17 rfl rfl)
theorem dX7_sayFort_18 : decode cX7_sayFort 18 = .ok (.getfield 199, 3) := dk_180 0 199 (dk_at dksX7_sayFort_0 18 rfl rfl)
theorem dX7_sayFort_21 : decode cX7_sayFort 21 = .ok (.ifCond .ne 37, 3) := dk_154 0 37 (dk_at dksX7_sayFort_0 21 rfl rfl)
theorem dX7_sayFort_24 : decode cX7_sayFort 24 = .ok (.iload_n 2, 1) := dk_28 (dk_at dksX7_sayFort_1 0 rfl rfl)
theorem dX7_sayFort_25 : decode cX7_sayFort 25 = .ok (.iconst 3, 1) := dk_6 (dk_at dksX7_sayFort_1 1 rfl rfl)
theorem dX7_sayFort_26 : decode cX7_sayFort 26 = .ok (.aload_n 0, 1) := dk_42 (dk_at dksX7_sayFort_1 2 rfl rfl)
theorem dX7_sayFort_27 : decode cX7_sayFort 27 = .ok (.getfield 29, 3) := dk_180 0 29 (dk_at dksX7_sayFort_1 3 rfl rfl)
theorem dX7_sayFort_30 : decode cX7_sayFort 30 = .ok (.bipush 11, 2) := dk_16 11 (dk_at dksX7_sayFort_1 6 rfl rfl)
theorem dX7_sayFort_32 : decode cX7_sayFort 32 = .ok (.iaload, 1) := dk_46 (dk_at dksX7_sayFort_1 8 rfl rfl)
theorem dX7_sayFort_33 : decode cX7_sayFort 33 = .ok (.iadd, 1) := dk_96 (dk_at dksX7_sayFort_1 9 rfl rfl)
theorem dX7_sayFort_34 : decode cX7_sayFort 34 = .ok (.if_icmp .ge 24, 3) := dk_162 0 24 (dk_at dksX7_sayFort_1 10 rfl rfl)
theorem dX7_sayFort_37 : decode cX7_sayFort 37 = .ok (.aload_n 0, 1) := dk_42 (dk_at dksX7_sayFort_1 13 rfl rfl)
theorem dX7_sayFort_38 : decode cX7_sayFort 38 = .ok (.getfield 56, 3) := dk_180 0 56 (dk_at dksX7_sayFort_1 14 rfl rfl)
theorem dX7_sayFort_41 : decode cX7_sayFort 41 = .ok (.iload_n 2, 1) := dk_28 (dk_at dksX7_sayFort_1 17 rfl rfl)
theorem dX7_sayFort_42 : decode cX7_sayFort 42 = .ok (.iaload, 1) := dk_46 (dk_at dksX7_sayFort_1 18 rfl rfl)
theorem dX7_sayFort_43 : decode cX7_sayFort 43 = .ok (.iload_n 1, 1) := dk_27 (dk_at dksX7_sayFort_1 19 rfl rfl)
theorem dX7_sayFort_44 : decode cX7_sayFort 44 = .ok (.if_icmp .ne 8, 3) := dk_160 0 8 (dk_at dksX7_sayFort_1 20 rfl rfl)
theorem dX7_sayFort_47 : decode cX7_sayFort 47 = .ok (.aload_n 0, 1) := dk_42 (dk_at dksX7_sayFort_1 23 rfl rfl)
theorem dX7_sayFort_48 : decode cX7_sayFort 48 = .ok (.iconst 4, 1) := dk_7 (dk_at dksX7_sayFort_2 0 rfl rfl)
theorem dX7_sayFort_49 : decode cX7_sayFort 49 = .ok (.invokevirtual 220, 3) := dk_182 0 220 (dk_at dksX7_sayFort_2 1 rfl rfl)
theorem dX7_sayFort_52 : decode cX7_sayFort 52 = .ok (.iinc 2 1, 3) := dk_132 2 1 (dk_at dksX7_sayFort_2 4 rfl rfl)
theorem dX7_sayFort_55 : decode cX7_sayFort 55 = .ok (.goto (-38), 3) := dk_167 255 218 (dk_at dksX7_sayFort_2 7 rfl rfl)
theorem dX7_sayFort_58 : decode cX7_sayFort 58 = .ok (.aload_n 0, 1) := dk_42 (dk_at dksX7_sayFort_2 10 rfl rfl)
theorem dX7_sayFort_59 : decode cX7_sayFort 59 = .ok (.getfield 199, 3) := dk_180 0 199 (dk_at dksX7_sayFort_2 11 rfl rfl)
theorem dX7_sayFort_62 : decode cX7_sayFort 62 = .ok (.ifCond .eq 4, 3) := dk_153 0 4 (dk_at dksX7_sayFort_2 14 rfl rfl)
theorem dX7_sayFort_65 : decode cX7_sayFort 65 = .ok (.return_, 1) := dk_177 (dk_at dksX7_sayFort_2 17 rfl rfl)
theorem dX7_sayFort_66 : decode cX7_sayFort 66 = .ok (.aload_n 0, 1) := dk_42 (dk_at dksX7_sayFort_2 18 rfl rfl)
theorem dX7_sayFort_67 : decode cX7_sayFort 67 = .ok (.invokevirtual 224, 3) := dk_182 0 224 (dk_at dksX7_sayFort_2 19 rfl rfl)
theorem dX7_sayFort_70 : decode cX7_sayFort 70 = .ok (.aload_n 0, 1) := dk_42 (dk_at dksX7_sayFort_2 22 rfl rfl)
theorem dX7_sayFort_71 : decode cX7_sayFort 71 = .ok (.getfield 56, 3) := dk_180 0 56 (dk_at dksX7_sayFort_3 0 rfl rfl)
theorem dX7_sayFort_74 : decode cX7_sayFort 74 = .ok (.iconst 3, 1) := dk_6 (dk_at dksX7_sayFort_3 3 rfl rfl)
theorem dX7_sayFort_75 : decode cX7_sayFort 75 = .ok (.aload_n 0, 1) := dk_42 (dk_at dksX7_sayFort_3 4 rfl rfl)
theorem dX7_sayFort_76 : decode cX7_sayFort 76 = .ok (.getfield 29, 3) := dk_180 0 29 (dk_at dksX7_sayFort_3 5 rfl rfl)
theorem dX7_sayFort_79 : decode cX7_sayFort 79 = .ok (.bipush 11, 2) := dk_16 11 (dk_at dksX7_sayFort_3 8 rfl rfl)
theorem dX7_sayFort_81 : decode cX7_sayFort 81 = .ok (.iaload, 1) := dk_46 (dk_at dksX7_sayFort_3 10 rfl rfl)
theorem dX7_sayFort_82 : decode cX7_sayFort 82 = .ok (.iadd, 1) := dk_96 (dk_at dksX7_sayFort_3 11 rfl rfl)
theorem dX7_sayFort_83 : decode cX7_sayFort 83 = .ok (.iload_n 1, 1) := dk_27 (dk_at dksX7_sayFort_3 12 rfl rfl)
theorem dX7_sayFort_84 : decode cX7_sayFort 84 = .ok (.iastore, 1) := dk_79 (dk_at dksX7_sayFort_3 13 rfl rfl)
theorem dX7_sayFort_85 : decode cX7_sayFort 85 = .ok (.aload_n 0, 1) := dk_42 (dk_at dksX7_sayFort_3 14 rfl rfl)
theorem dX7_sayFort_86 : decode cX7_sayFort 86 = .ok (.getfield 29, 3) := dk_180 0 29 (dk_at dksX7_sayFort_3 15 rfl rfl)
theorem dX7_sayFort_89 : decode cX7_sayFort 89 = .ok (.bipush 11, 2) := dk_16 11 (dk_at dksX7_sayFort_3 18 rfl rfl)
theorem dX7_sayFort_91 : decode cX7_sayFort 91 = .ok (.dup2, 1) := dk_92 (dk_at dksX7_sayFort_3 20 rfl rfl)
theorem dX7_sayFort_92 : decode cX7_sayFort 92 = .ok (.iaload, 1) := dk_46 (dk_at dksX7_sayFort_3 21 rfl rfl)
theorem dX7_sayFort_93 : decode cX7_sayFort 93 = .ok (.iconst 1, 1) := dk_4 (dk_at dksX7_sayFort_3 22 rfl rfl)
theorem dX7_sayFort_94 : decode cX7_sayFort 94 = .ok (.iadd, 1) := dk_96 (dk_at dksX7_sayFort_3 23 rfl rfl)
theorem dX7_sayFort_95 : decode cX7_sayFort 95 = .ok (.iastore, 1) := dk_79 (dk_at dksX7_sayFort_4 0 rfl rfl)
theorem dX7_sayFort_96 : decode cX7_sayFort 96 = .ok (.return_, 1) := dk_177 (dk_at dksX7_sayFort_4 1 rfl rfl)
abbrev cX7_takeOver : ByteArray := prog_18_method_39_code
def yX7_takeOver : MethodName := ⟨RX7, "takeOver", "()V"⟩
def dkwX7_takeOver_11 : List UInt8 := [42, 3, 181, 1, 71, 42, 3, 181, 1, 74, 177]
abbrev dktX7_takeOver_11 : List UInt8 := dkwX7_takeOver_11 ++ []
def dkwX7_takeOver_10 : List UInt8 := [180, 0, 88, 27, 3, 79, 42, 180, 0, 90, 27, 3, 79, 132, 1, 1, 167, 255, 174, 42, 3, 181, 1, 68]
abbrev dktX7_takeOver_10 : List UInt8 := dkwX7_takeOver_10 ++ dktX7_takeOver_11
def dkwX7_takeOver_9 : List UInt8 := [5, 46, 162, 0, 12, 42, 180, 0, 53, 27, 46, 167, 0, 4, 3, 79, 42, 180, 0, 86, 27, 3, 79, 42]
abbrev dktX7_takeOver_9 : List UInt8 := dkwX7_takeOver_9 ++ dktX7_takeOver_10
def dkwX7_takeOver_8 : List UInt8 := [162, 0, 12, 42, 180, 0, 50, 27, 46, 167, 0, 4, 2, 79, 42, 180, 0, 83, 27, 27, 42, 180, 0, 29]
abbrev dktX7_takeOver_8 : List UInt8 := dkwX7_takeOver_8 ++ dktX7_takeOver_9
def dkwX7_takeOver_7 : List UInt8 := [167, 255, 188, 3, 60, 27, 16, 6, 162, 0, 82, 42, 180, 0, 80, 27, 27, 42, 180, 0, 29, 5, 46]
abbrev dktX7_takeOver_7 : List UInt8 := dkwX7_takeOver_7 ++ dktX7_takeOver_8
def dkwX7_takeOver_6 : List UInt8 := [162, 0, 12, 42, 180, 0, 36, 27, 46, 167, 0, 4, 3, 79, 42, 180, 0, 77, 27, 3, 79, 132, 1, 1]
abbrev dktX7_takeOver_6 : List UInt8 := dkwX7_takeOver_6 ++ dktX7_takeOver_7
def dkwX7_takeOver_5 : List UInt8 := [180, 0, 33, 27, 46, 167, 0, 4, 3, 79, 42, 180, 0, 74, 27, 27, 42, 180, 0, 29, 3, 46]
abbrev dktX7_takeOver_5 : List UInt8 := dkwX7_takeOver_5 ++ dktX7_takeOver_6
def dkwX7_takeOver_4 : List UInt8 := [27, 16, 8, 162, 0, 68, 42, 180, 0, 72, 27, 27, 42, 180, 0, 29, 3, 46, 162, 0, 12, 42]
abbrev dktX7_takeOver_4 : List UInt8 := dkwX7_takeOver_4 ++ dktX7_takeOver_5
def dkwX7_takeOver_3 : List UInt8 := [42, 180, 0, 59, 184, 1, 56, 42, 3, 181, 1, 60, 42, 3, 181, 1, 62, 42, 3, 181, 1, 65, 3, 60]
abbrev dktX7_takeOver_3 : List UInt8 := dkwX7_takeOver_3 ++ dktX7_takeOver_4
def dkwX7_takeOver_2 : List UInt8 := [184, 1, 56, 42, 180, 0, 50, 184, 1, 56, 42, 180, 0, 53, 184, 1, 56, 42, 180, 0, 56, 184, 1, 56]
abbrev dktX7_takeOver_2 : List UInt8 := dkwX7_takeOver_2 ++ dktX7_takeOver_3
def dkwX7_takeOver_1 : List UInt8 := [180, 0, 39, 184, 1, 56, 42, 180, 0, 42, 184, 1, 56, 42, 180, 0, 45, 184, 1, 56, 42, 180, 0, 48]
abbrev dktX7_takeOver_1 : List UInt8 := dkwX7_takeOver_1 ++ dktX7_takeOver_2
def dkwX7_takeOver_0 : List UInt8 := [42, 180, 0, 29, 184, 1, 56, 42, 180, 0, 33, 184, 1, 56, 42, 180, 0, 36, 184, 1, 56, 42]
abbrev dktX7_takeOver_0 : List UInt8 := dkwX7_takeOver_0 ++ dktX7_takeOver_1
theorem dksX7_takeOver_0 : cX7_takeOver.data.toList.drop 0 = dktX7_takeOver_0 := by decide +kernel
theorem dksX7_takeOver_1 : cX7_takeOver.data.toList.drop 22 = dktX7_takeOver_1 := dk_seg dksX7_takeOver_0 22 rfl rfl
theorem dksX7_takeOver_2 : cX7_takeOver.data.toList.drop 46 = dktX7_takeOver_2 := dk_seg dksX7_takeOver_1 24 rfl rfl
theorem dksX7_takeOver_3 : cX7_takeOver.data.toList.drop 70 = dktX7_takeOver_3 := dk_seg dksX7_takeOver_2 24 rfl rfl
theorem dksX7_takeOver_4 : cX7_takeOver.data.toList.drop 94 = dktX7_takeOver_4 := dk_seg dksX7_takeOver_3 24 rfl rfl
theorem dksX7_takeOver_5 : cX7_takeOver.data.toList.drop 116 = dktX7_takeOver_5 := dk_seg dksX7_takeOver_4 22 rfl rfl
theorem dksX7_takeOver_6 : cX7_takeOver.data.toList.drop 138 = dktX7_takeOver_6 := dk_seg dksX7_takeOver_5 22 rfl rfl
theorem dksX7_takeOver_7 : cX7_takeOver.data.toList.drop 162 = dktX7_takeOver_7 := dk_seg dksX7_takeOver_6 24 rfl rfl
theorem dksX7_takeOver_8 : cX7_takeOver.data.toList.drop 185 = dktX7_takeOver_8 := dk_seg dksX7_takeOver_7 23 rfl rfl
theorem dksX7_takeOver_9 : cX7_takeOver.data.toList.drop 209 = dktX7_takeOver_9 := dk_seg dksX7_takeOver_8 24 rfl rfl
theorem dksX7_takeOver_10 : cX7_takeOver.data.toList.drop 233 = dktX7_takeOver_10 := dk_seg dksX7_takeOver_9 24 rfl rfl
theorem dksX7_takeOver_11 : cX7_takeOver.data.toList.drop 257 = dktX7_takeOver_11 := dk_seg dksX7_takeOver_10 24 rfl rfl
theorem dX7_takeOver_0 : decode cX7_takeOver 0 = .ok (.aload_n 0, 1) := dk_42 (dk_at dksX7_takeOver_0 0 rfl rfl)
theorem dX7_takeOver_1 : decode cX7_takeOver 1 = .ok (.getfield 29, 3) := dk_180 0 29 (dk_at dksX7_takeOver_0 1 rfl rfl)
theorem dX7_takeOver_4 : decode cX7_takeOver 4 = .ok (.invokestatic 312, 3) := dk_184 1 56 (dk_at dksX7_takeOver_0 4 rfl rfl)
theorem dX7_takeOver_7 : decode cX7_takeOver 7 = .ok (.aload_n 0, 1) := dk_42 (dk_at dksX7_takeOver_0 7 rfl rfl)
theorem dX7_takeOver_8 : decode cX7_takeOver 8 = .ok (.getfield 33, 3) := dk_180 0 33 (dk_at dksX7_takeOver_0 8 rfl rfl)
theorem dX7_takeOver_11 : decode cX7_takeOver 11 = .ok (.invokestatic 312, 3) := dk_184 1 56 (dk_at dksX7_takeOver_0 11 rfl rfl)
theorem dX7_takeOver_14 : decode cX7_takeOver 14 = .ok (.aload_n 0, 1) := dk_42 (dk_at dksX7_takeOver_0 14 rfl rfl)
theorem dX7_takeOver_15 : decode cX7_takeOver 15 = .ok (.getfield 36, 3) := dk_180 0 36 (dk_at dksX7_takeOver_0 15 rfl rfl)
theorem dX7_takeOver_18 : decode cX7_takeOver 18 = .ok (.invokestatic 312, 3) := dk_184 1 56 (dk_at dksX7_takeOver_0 18 rfl rfl)
theorem dX7_takeOver_21 : decode cX7_takeOver 21 = .ok (.aload_n 0, 1) := dk_42 (dk_at dksX7_takeOver_0 21 rfl rfl)
theorem dX7_takeOver_22 : decode cX7_takeOver 22 = .ok (.getfield 39, 3) := dk_180 0 39 (dk_at dksX7_takeOver_1 0 rfl rfl)
theorem dX7_takeOver_25 : decode cX7_takeOver 25 = .ok (.invokestatic 312, 3) := dk_184 1 56 (dk_at dksX7_takeOver_1 3 rfl rfl)
theorem dX7_takeOver_28 : decode cX7_takeOver 28 = .ok (.aload_n 0, 1) := dk_42 (dk_at dksX7_takeOver_1 6 rfl rfl)
theorem dX7_takeOver_29 : decode cX7_takeOver 29 = .ok (.getfield 42, 3) := dk_180 0 42 (dk_at dksX7_takeOver_1 7 rfl rfl)
theorem dX7_takeOver_32 : decode cX7_takeOver 32 = .ok (.invokestatic 312, 3) := dk_184 1 56 (dk_at dksX7_takeOver_1 10 rfl rfl)
theorem dX7_takeOver_35 : decode cX7_takeOver 35 = .ok (.aload_n 0, 1) := dk_42 (dk_at dksX7_takeOver_1 13 rfl rfl)
theorem dX7_takeOver_36 : decode cX7_takeOver 36 = .ok (.getfield 45, 3) := dk_180 0 45 (dk_at dksX7_takeOver_1 14 rfl rfl)
theorem dX7_takeOver_39 : decode cX7_takeOver 39 = .ok (.invokestatic 312, 3) := dk_184 1 56 (dk_at dksX7_takeOver_1 17 rfl rfl)
theorem dX7_takeOver_42 : decode cX7_takeOver 42 = .ok (.aload_n 0, 1) := dk_42 (dk_at dksX7_takeOver_1 20 rfl rfl)
theorem dX7_takeOver_43 : decode cX7_takeOver 43 = .ok (.getfield 48, 3) := dk_180 0 48 (dk_at dksX7_takeOver_1 21 rfl rfl)
theorem dX7_takeOver_46 : decode cX7_takeOver 46 = .ok (.invokestatic 312, 3) := dk_184 1 56 (dk_at dksX7_takeOver_2 0 rfl rfl)
theorem dX7_takeOver_49 : decode cX7_takeOver 49 = .ok (.aload_n 0, 1) := dk_42 (dk_at dksX7_takeOver_2 3 rfl rfl)
theorem dX7_takeOver_50 : decode cX7_takeOver 50 = .ok (.getfield 50, 3) := dk_180 0 50 (dk_at dksX7_takeOver_2 4 rfl rfl)
theorem dX7_takeOver_53 : decode cX7_takeOver 53 = .ok (.invokestatic 312, 3) := dk_184 1 56 (dk_at dksX7_takeOver_2 7 rfl rfl)
theorem dX7_takeOver_56 : decode cX7_takeOver 56 = .ok (.aload_n 0, 1) := dk_42 (dk_at dksX7_takeOver_2 10 rfl rfl)
theorem dX7_takeOver_57 : decode cX7_takeOver 57 = .ok (.getfield 53, 3) := dk_180 0 53 (dk_at dksX7_takeOver_2 11 rfl rfl)
theorem dX7_takeOver_60 : decode cX7_takeOver 60 = .ok (.invokestatic 312, 3) := dk_184 1 56 (dk_at dksX7_takeOver_2 14 rfl rfl)
theorem dX7_takeOver_63 : decode cX7_takeOver 63 = .ok (.aload_n 0, 1) := dk_42 (dk_at dksX7_takeOver_2 17 rfl rfl)
theorem dX7_takeOver_64 : decode cX7_takeOver 64 = .ok (.getfield 56, 3) := dk_180 0 56 (dk_at dksX7_takeOver_2 18 rfl rfl)
theorem dX7_takeOver_67 : decode cX7_takeOver 67 = .ok (.invokestatic 312, 3) := dk_184 1 56 (dk_at dksX7_takeOver_2 21 rfl rfl)
theorem dX7_takeOver_70 : decode cX7_takeOver 70 = .ok (.aload_n 0, 1) := dk_42 (dk_at dksX7_takeOver_3 0 rfl rfl)
theorem dX7_takeOver_71 : decode cX7_takeOver 71 = .ok (.getfield 59, 3) := dk_180 0 59 (dk_at dksX7_takeOver_3 1 rfl rfl)
theorem dX7_takeOver_74 : decode cX7_takeOver 74 = .ok (.invokestatic 312, 3) := dk_184 1 56 (dk_at dksX7_takeOver_3 4 rfl rfl)
theorem dX7_takeOver_77 : decode cX7_takeOver 77 = .ok (.aload_n 0, 1) := dk_42 (dk_at dksX7_takeOver_3 7 rfl rfl)
theorem dX7_takeOver_78 : decode cX7_takeOver 78 = .ok (.iconst 0, 1) := dk_3 (dk_at dksX7_takeOver_3 8 rfl rfl)
theorem dX7_takeOver_79 : decode cX7_takeOver 79 = .ok (.putfield 316, 3) := dk_181 1 60 (dk_at dksX7_takeOver_3 9 rfl rfl)
theorem dX7_takeOver_82 : decode cX7_takeOver 82 = .ok (.aload_n 0, 1) := dk_42 (dk_at dksX7_takeOver_3 12 rfl rfl)
theorem dX7_takeOver_83 : decode cX7_takeOver 83 = .ok (.iconst 0, 1) := dk_3 (dk_at dksX7_takeOver_3 13 rfl rfl)
theorem dX7_takeOver_84 : decode cX7_takeOver 84 = .ok (.putfield 318, 3) := dk_181 1 62 (dk_at dksX7_takeOver_3 14 rfl rfl)
theorem dX7_takeOver_87 : decode cX7_takeOver 87 = .ok (.aload_n 0, 1) := dk_42 (dk_at dksX7_takeOver_3 17 rfl rfl)
theorem dX7_takeOver_88 : decode cX7_takeOver 88 = .ok (.iconst 0, 1) := dk_3 (dk_at dksX7_takeOver_3 18 rfl rfl)
theorem dX7_takeOver_89 : decode cX7_takeOver 89 = .ok (.putfield 321, 3) := dk_181 1 65 (dk_at dksX7_takeOver_3 19 rfl rfl)
theorem dX7_takeOver_92 : decode cX7_takeOver 92 = .ok (.iconst 0, 1) := dk_3 (dk_at dksX7_takeOver_3 22 rfl rfl)
theorem dX7_takeOver_93 : decode cX7_takeOver 93 = .ok (.istore_n 1, 1) := dk_60 (dk_at dksX7_takeOver_3 23 rfl rfl)
theorem dX7_takeOver_94 : decode cX7_takeOver 94 = .ok (.iload_n 1, 1) := dk_27 (dk_at dksX7_takeOver_4 0 rfl rfl)
theorem dX7_takeOver_95 : decode cX7_takeOver 95 = .ok (.bipush 8, 2) := dk_16 8 (dk_at dksX7_takeOver_4 1 rfl rfl)
theorem dX7_takeOver_97 : decode cX7_takeOver 97 = .ok (.if_icmp .ge 68, 3) := dk_162 0 68 (dk_at dksX7_takeOver_4 3 rfl rfl)
theorem dX7_takeOver_100 : decode cX7_takeOver 100 = .ok (.aload_n 0, 1) := dk_42 (dk_at dksX7_takeOver_4 6 rfl rfl)
theorem dX7_takeOver_101 : decode cX7_takeOver 101 = .ok (.getfield 72, 3) := dk_180 0 72 (dk_at dksX7_takeOver_4 7 rfl rfl)
theorem dX7_takeOver_104 : decode cX7_takeOver 104 = .ok (.iload_n 1, 1) := dk_27 (dk_at dksX7_takeOver_4 10 rfl rfl)
theorem dX7_takeOver_105 : decode cX7_takeOver 105 = .ok (.iload_n 1, 1) := dk_27 (dk_at dksX7_takeOver_4 11 rfl rfl)
theorem dX7_takeOver_106 : decode cX7_takeOver 106 = .ok (.aload_n 0, 1) := dk_42 (dk_at dksX7_takeOver_4 12 rfl rfl)
theorem dX7_takeOver_107 : decode cX7_takeOver 107 = .ok (.getfield 29, 3) := dk_180 0 29 (dk_at dksX7_takeOver_4 13 rfl rfl)
theorem dX7_takeOver_110 : decode cX7_takeOver 110 = .ok (.iconst 0, 1) := dk_3 (dk_at dksX7_takeOver_4 16 rfl rfl)
theorem dX7_takeOver_111 : decode cX7_takeOver 111 = .ok (.iaload, 1) := dk_46 (dk_at dksX7_takeOver_4 17 rfl rfl)
theorem dX7_takeOver_112 : decode cX7_takeOver 112 = .ok (.if_icmp .ge 12, 3) := dk_162 0 12 (dk_at dksX7_takeOver_4 18 rfl rfl)
theorem dX7_takeOver_115 : decode cX7_takeOver 115 = .ok (.aload_n 0, 1) := dk_42 (dk_at dksX7_takeOver_4 21 rfl rfl)
theorem dX7_takeOver_116 : decode cX7_takeOver 116 = .ok (.getfield 33, 3) := dk_180 0 33 (dk_at dksX7_takeOver_5 0 rfl rfl)
theorem dX7_takeOver_119 : decode cX7_takeOver 119 = .ok (.iload_n 1, 1) := dk_27 (dk_at dksX7_takeOver_5 3 rfl rfl)
theorem dX7_takeOver_120 : decode cX7_takeOver 120 = .ok (.iaload, 1) := dk_46 (dk_at dksX7_takeOver_5 4 rfl rfl)
theorem dX7_takeOver_121 : decode cX7_takeOver 121 = .ok (.goto 4, 3) := dk_167 0 4 (dk_at dksX7_takeOver_5 5 rfl rfl)
theorem dX7_takeOver_124 : decode cX7_takeOver 124 = .ok (.iconst 0, 1) := dk_3 (dk_at dksX7_takeOver_5 8 rfl rfl)
theorem dX7_takeOver_125 : decode cX7_takeOver 125 = .ok (.iastore, 1) := dk_79 (dk_at dksX7_takeOver_5 9 rfl rfl)
theorem dX7_takeOver_126 : decode cX7_takeOver 126 = .ok (.aload_n 0, 1) := dk_42 (dk_at dksX7_takeOver_5 10 rfl rfl)
theorem dX7_takeOver_127 : decode cX7_takeOver 127 = .ok (.getfield 74, 3) := dk_180 0 74 (dk_at dksX7_takeOver_5 11 rfl rfl)
theorem dX7_takeOver_130 : decode cX7_takeOver 130 = .ok (.iload_n 1, 1) := dk_27 (dk_at dksX7_takeOver_5 14 rfl rfl)
theorem dX7_takeOver_131 : decode cX7_takeOver 131 = .ok (.iload_n 1, 1) := dk_27 (dk_at dksX7_takeOver_5 15 rfl rfl)
theorem dX7_takeOver_132 : decode cX7_takeOver 132 = .ok (.aload_n 0, 1) := dk_42 (dk_at dksX7_takeOver_5 16 rfl rfl)
theorem dX7_takeOver_133 : decode cX7_takeOver 133 = .ok (.getfield 29, 3) := dk_180 0 29 (dk_at dksX7_takeOver_5 17 rfl rfl)
theorem dX7_takeOver_136 : decode cX7_takeOver 136 = .ok (.iconst 0, 1) := dk_3 (dk_at dksX7_takeOver_5 20 rfl rfl)
theorem dX7_takeOver_137 : decode cX7_takeOver 137 = .ok (.iaload, 1) := dk_46 (dk_at dksX7_takeOver_5 21 rfl rfl)
theorem dX7_takeOver_138 : decode cX7_takeOver 138 = .ok (.if_icmp .ge 12, 3) := dk_162 0 12 (dk_at dksX7_takeOver_6 0 rfl rfl)
theorem dX7_takeOver_141 : decode cX7_takeOver 141 = .ok (.aload_n 0, 1) := dk_42 (dk_at dksX7_takeOver_6 3 rfl rfl)
theorem dX7_takeOver_142 : decode cX7_takeOver 142 = .ok (.getfield 36, 3) := dk_180 0 36 (dk_at dksX7_takeOver_6 4 rfl rfl)
theorem dX7_takeOver_145 : decode cX7_takeOver 145 = .ok (.iload_n 1, 1) := dk_27 (dk_at dksX7_takeOver_6 7 rfl rfl)
theorem dX7_takeOver_146 : decode cX7_takeOver 146 = .ok (.iaload, 1) := dk_46 (dk_at dksX7_takeOver_6 8 rfl rfl)
theorem dX7_takeOver_147 : decode cX7_takeOver 147 = .ok (.goto 4, 3) := dk_167 0 4 (dk_at dksX7_takeOver_6 9 rfl rfl)
theorem dX7_takeOver_150 : decode cX7_takeOver 150 = .ok (.iconst 0, 1) := dk_3 (dk_at dksX7_takeOver_6 12 rfl rfl)
theorem dX7_takeOver_151 : decode cX7_takeOver 151 = .ok (.iastore, 1) := dk_79 (dk_at dksX7_takeOver_6 13 rfl rfl)
theorem dX7_takeOver_152 : decode cX7_takeOver 152 = .ok (.aload_n 0, 1) := dk_42 (dk_at dksX7_takeOver_6 14 rfl rfl)
theorem dX7_takeOver_153 : decode cX7_takeOver 153 = .ok (.getfield 77, 3) := dk_180 0 77 (dk_at dksX7_takeOver_6 15 rfl rfl)
theorem dX7_takeOver_156 : decode cX7_takeOver 156 = .ok (.iload_n 1, 1) := dk_27 (dk_at dksX7_takeOver_6 18 rfl rfl)
theorem dX7_takeOver_157 : decode cX7_takeOver 157 = .ok (.iconst 0, 1) := dk_3 (dk_at dksX7_takeOver_6 19 rfl rfl)
theorem dX7_takeOver_158 : decode cX7_takeOver 158 = .ok (.iastore, 1) := dk_79 (dk_at dksX7_takeOver_6 20 rfl rfl)
theorem dX7_takeOver_159 : decode cX7_takeOver 159 = .ok (.iinc 1 1, 3) := dk_132 1 1 (dk_at dksX7_takeOver_6 21 rfl rfl)
theorem dX7_takeOver_162 : decode cX7_takeOver 162 = .ok (.goto (-68), 3) := dk_167 255 188 (dk_at dksX7_takeOver_7 0 rfl rfl)
theorem dX7_takeOver_165 : decode cX7_takeOver 165 = .ok (.iconst 0, 1) := dk_3 (dk_at dksX7_takeOver_7 3 rfl rfl)
theorem dX7_takeOver_166 : decode cX7_takeOver 166 = .ok (.istore_n 1, 1) := dk_60 (dk_at dksX7_takeOver_7 4 rfl rfl)
theorem dX7_takeOver_167 : decode cX7_takeOver 167 = .ok (.iload_n 1, 1) := dk_27 (dk_at dksX7_takeOver_7 5 rfl rfl)
theorem dX7_takeOver_168 : decode cX7_takeOver 168 = .ok (.bipush 6, 2) := dk_16 6 (dk_at dksX7_takeOver_7 6 rfl rfl)
theorem dX7_takeOver_170 : decode cX7_takeOver 170 = .ok (.if_icmp .ge 82, 3) := dk_162 0 82 (dk_at dksX7_takeOver_7 8 rfl rfl)
theorem dX7_takeOver_173 : decode cX7_takeOver 173 = .ok (.aload_n 0, 1) := dk_42 (dk_at dksX7_takeOver_7 11 rfl rfl)
theorem dX7_takeOver_174 : decode cX7_takeOver 174 = .ok (.getfield 80, 3) := dk_180 0 80 (dk_at dksX7_takeOver_7 12 rfl rfl)
theorem dX7_takeOver_177 : decode cX7_takeOver 177 = .ok (.iload_n 1, 1) := dk_27 (dk_at dksX7_takeOver_7 15 rfl rfl)
theorem dX7_takeOver_178 : decode cX7_takeOver 178 = .ok (.iload_n 1, 1) := dk_27 (dk_at dksX7_takeOver_7 16 rfl rfl)
theorem dX7_takeOver_179 : decode cX7_takeOver 179 = .ok (.aload_n 0, 1) := dk_42 (dk_at dksX7_takeOver_7 17 rfl rfl)
theorem dX7_takeOver_180 : decode cX7_takeOver 180 = .ok (.getfield 29, 3) := dk_180 0 29 (dk_at dksX7_takeOver_7 18 rfl rfl)
theorem dX7_takeOver_183 : decode cX7_takeOver 183 = .ok (.iconst 2, 1) := dk_5 (dk_at dksX7_takeOver_7 21 rfl rfl)
theorem dX7_takeOver_184 : decode cX7_takeOver 184 = .ok (.iaload, 1) := dk_46 (dk_at dksX7_takeOver_7 22 rfl rfl)
theorem dX7_takeOver_185 : decode cX7_takeOver 185 = .ok (.if_icmp .ge 12, 3) := dk_162 0 12 (dk_at dksX7_takeOver_8 0 rfl rfl)
theorem dX7_takeOver_188 : decode cX7_takeOver 188 = .ok (.aload_n 0, 1) := dk_42 (dk_at dksX7_takeOver_8 3 rfl rfl)
theorem dX7_takeOver_189 : decode cX7_takeOver 189 = .ok (.getfield 50, 3) := dk_180 0 50 (dk_at dksX7_takeOver_8 4 rfl rfl)
theorem dX7_takeOver_192 : decode cX7_takeOver 192 = .ok (.iload_n 1, 1) := dk_27 (dk_at dksX7_takeOver_8 7 rfl rfl)
theorem dX7_takeOver_193 : decode cX7_takeOver 193 = .ok (.iaload, 1) := dk_46 (dk_at dksX7_takeOver_8 8 rfl rfl)
theorem dX7_takeOver_194 : decode cX7_takeOver 194 = .ok (.goto 4, 3) := dk_167 0 4 (dk_at dksX7_takeOver_8 9 rfl rfl)
theorem dX7_takeOver_197 : decode cX7_takeOver 197 = .ok (.iconst (-1), 1) := dk_2 (dk_at dksX7_takeOver_8 12 rfl rfl)
theorem dX7_takeOver_198 : decode cX7_takeOver 198 = .ok (.iastore, 1) := dk_79 (dk_at dksX7_takeOver_8 13 rfl rfl)
theorem dX7_takeOver_199 : decode cX7_takeOver 199 = .ok (.aload_n 0, 1) := dk_42 (dk_at dksX7_takeOver_8 14 rfl rfl)
theorem dX7_takeOver_200 : decode cX7_takeOver 200 = .ok (.getfield 83, 3) := dk_180 0 83 (dk_at dksX7_takeOver_8 15 rfl rfl)
theorem dX7_takeOver_203 : decode cX7_takeOver 203 = .ok (.iload_n 1, 1) := dk_27 (dk_at dksX7_takeOver_8 18 rfl rfl)
theorem dX7_takeOver_204 : decode cX7_takeOver 204 = .ok (.iload_n 1, 1) := dk_27 (dk_at dksX7_takeOver_8 19 rfl rfl)
theorem dX7_takeOver_205 : decode cX7_takeOver 205 = .ok (.aload_n 0, 1) := dk_42 (dk_at dksX7_takeOver_8 20 rfl rfl)
theorem dX7_takeOver_206 : decode cX7_takeOver 206 = .ok (.getfield 29, 3) := dk_180 0 29 (dk_at dksX7_takeOver_8 21 rfl rfl)
theorem dX7_takeOver_209 : decode cX7_takeOver 209 = .ok (.iconst 2, 1) := dk_5 (dk_at dksX7_takeOver_9 0 rfl rfl)
theorem dX7_takeOver_210 : decode cX7_takeOver 210 = .ok (.iaload, 1) := dk_46 (dk_at dksX7_takeOver_9 1 rfl rfl)
theorem dX7_takeOver_211 : decode cX7_takeOver 211 = .ok (.if_icmp .ge 12, 3) := dk_162 0 12 (dk_at dksX7_takeOver_9 2 rfl rfl)
theorem dX7_takeOver_214 : decode cX7_takeOver 214 = .ok (.aload_n 0, 1) := dk_42 (dk_at dksX7_takeOver_9 5 rfl rfl)
theorem dX7_takeOver_215 : decode cX7_takeOver 215 = .ok (.getfield 53, 3) := dk_180 0 53 (dk_at dksX7_takeOver_9 6 rfl rfl)
theorem dX7_takeOver_218 : decode cX7_takeOver 218 = .ok (.iload_n 1, 1) := dk_27 (dk_at dksX7_takeOver_9 9 rfl rfl)
theorem dX7_takeOver_219 : decode cX7_takeOver 219 = .ok (.iaload, 1) := dk_46 (dk_at dksX7_takeOver_9 10 rfl rfl)
theorem dX7_takeOver_220 : decode cX7_takeOver 220 = .ok (.goto 4, 3) := dk_167 0 4 (dk_at dksX7_takeOver_9 11 rfl rfl)
theorem dX7_takeOver_223 : decode cX7_takeOver 223 = .ok (.iconst 0, 1) := dk_3 (dk_at dksX7_takeOver_9 14 rfl rfl)
theorem dX7_takeOver_224 : decode cX7_takeOver 224 = .ok (.iastore, 1) := dk_79 (dk_at dksX7_takeOver_9 15 rfl rfl)
theorem dX7_takeOver_225 : decode cX7_takeOver 225 = .ok (.aload_n 0, 1) := dk_42 (dk_at dksX7_takeOver_9 16 rfl rfl)
theorem dX7_takeOver_226 : decode cX7_takeOver 226 = .ok (.getfield 86, 3) := dk_180 0 86 (dk_at dksX7_takeOver_9 17 rfl rfl)
theorem dX7_takeOver_229 : decode cX7_takeOver 229 = .ok (.iload_n 1, 1) := dk_27 (dk_at dksX7_takeOver_9 20 rfl rfl)
theorem dX7_takeOver_230 : decode cX7_takeOver 230 = .ok (.iconst 0, 1) := dk_3 (dk_at dksX7_takeOver_9 21 rfl rfl)
theorem dX7_takeOver_231 : decode cX7_takeOver 231 = .ok (.iastore, 1) := dk_79 (dk_at dksX7_takeOver_9 22 rfl rfl)
theorem dX7_takeOver_232 : decode cX7_takeOver 232 = .ok (.aload_n 0, 1) := dk_42 (dk_at dksX7_takeOver_9 23 rfl rfl)
theorem dX7_takeOver_233 : decode cX7_takeOver 233 = .ok (.getfield 88, 3) := dk_180 0 88 (dk_at dksX7_takeOver_10 0 rfl rfl)
theorem dX7_takeOver_236 : decode cX7_takeOver 236 = .ok (.iload_n 1, 1) := dk_27 (dk_at dksX7_takeOver_10 3 rfl rfl)
theorem dX7_takeOver_237 : decode cX7_takeOver 237 = .ok (.iconst 0, 1) := dk_3 (dk_at dksX7_takeOver_10 4 rfl rfl)
theorem dX7_takeOver_238 : decode cX7_takeOver 238 = .ok (.iastore, 1) := dk_79 (dk_at dksX7_takeOver_10 5 rfl rfl)
theorem dX7_takeOver_239 : decode cX7_takeOver 239 = .ok (.aload_n 0, 1) := dk_42 (dk_at dksX7_takeOver_10 6 rfl rfl)
theorem dX7_takeOver_240 : decode cX7_takeOver 240 = .ok (.getfield 90, 3) := dk_180 0 90 (dk_at dksX7_takeOver_10 7 rfl rfl)
theorem dX7_takeOver_243 : decode cX7_takeOver 243 = .ok (.iload_n 1, 1) := dk_27 (dk_at dksX7_takeOver_10 10 rfl rfl)
theorem dX7_takeOver_244 : decode cX7_takeOver 244 = .ok (.iconst 0, 1) := dk_3 (dk_at dksX7_takeOver_10 11 rfl rfl)
theorem dX7_takeOver_245 : decode cX7_takeOver 245 = .ok (.iastore, 1) := dk_79 (dk_at dksX7_takeOver_10 12 rfl rfl)
theorem dX7_takeOver_246 : decode cX7_takeOver 246 = .ok (.iinc 1 1, 3) := dk_132 1 1 (dk_at dksX7_takeOver_10 13 rfl rfl)
theorem dX7_takeOver_249 : decode cX7_takeOver 249 = .ok (.goto (-82), 3) := dk_167 255 174 (dk_at dksX7_takeOver_10 16 rfl rfl)
theorem dX7_takeOver_252 : decode cX7_takeOver 252 = .ok (.aload_n 0, 1) := dk_42 (dk_at dksX7_takeOver_10 19 rfl rfl)
theorem dX7_takeOver_253 : decode cX7_takeOver 253 = .ok (.iconst 0, 1) := dk_3 (dk_at dksX7_takeOver_10 20 rfl rfl)
theorem dX7_takeOver_254 : decode cX7_takeOver 254 = .ok (.putfield 324, 3) := dk_181 1 68 (dk_at dksX7_takeOver_10 21 rfl rfl)
theorem dX7_takeOver_257 : decode cX7_takeOver 257 = .ok (.aload_n 0, 1) := dk_42 (dk_at dksX7_takeOver_11 0 rfl rfl)
theorem dX7_takeOver_258 : decode cX7_takeOver 258 = .ok (.iconst 0, 1) := dk_3 (dk_at dksX7_takeOver_11 1 rfl rfl)
theorem dX7_takeOver_259 : decode cX7_takeOver 259 = .ok (.putfield 327, 3) := dk_181 1 71 (dk_at dksX7_takeOver_11 2 rfl rfl)
theorem dX7_takeOver_262 : decode cX7_takeOver 262 = .ok (.aload_n 0, 1) := dk_42 (dk_at dksX7_takeOver_11 5 rfl rfl)
theorem dX7_takeOver_263 : decode cX7_takeOver 263 = .ok (.iconst 0, 1) := dk_3 (dk_at dksX7_takeOver_11 6 rfl rfl)
theorem dX7_takeOver_264 : decode cX7_takeOver 264 = .ok (.putfield 330, 3) := dk_181 1 74 (dk_at dksX7_takeOver_11 7 rfl rfl)
theorem dX7_takeOver_267 : decode cX7_takeOver 267 = .ok (.return_, 1) := dk_177 (dk_at dksX7_takeOver_11 10 rfl rfl)
abbrev cX7_takeHalf : ByteArray := prog_18_method_38_code
def yX7_takeHalf : MethodName := ⟨RX7, "takeHalf", "([I)V"⟩
def dkwX7_takeHalf_1 : List UInt8 := [167, 255, 234, 177]
abbrev dktX7_takeHalf_1 : List UInt8 := dkwX7_takeHalf_1 ++ []
def dkwX7_takeHalf_0 : List UInt8 := [3, 60, 27, 42, 190, 5, 108, 162, 0, 20, 42, 27, 42, 42, 190, 5, 108, 27, 96, 46, 79, 132, 1, 1]
abbrev dktX7_takeHalf_0 : List UInt8 := dkwX7_takeHalf_0 ++ dktX7_takeHalf_1
theorem dksX7_takeHalf_0 : cX7_takeHalf.data.toList.drop 0 = dktX7_takeHalf_0 := by decide +kernel
theorem dksX7_takeHalf_1 : cX7_takeHalf.data.toList.drop 24 = dktX7_takeHalf_1 := dk_seg dksX7_takeHalf_0 24 rfl rfl
theorem dX7_takeHalf_0 : decode cX7_takeHalf 0 = .ok (.iconst 0, 1) := dk_3 (dk_at dksX7_takeHalf_0 0 rfl rfl)
theorem dX7_takeHalf_1 : decode cX7_takeHalf 1 = .ok (.istore_n 1, 1) := dk_60 (dk_at dksX7_takeHalf_0 1 rfl rfl)
theorem dX7_takeHalf_2 : decode cX7_takeHalf 2 = .ok (.iload_n 1, 1) := dk_27 (dk_at dksX7_takeHalf_0 2 rfl rfl)
theorem dX7_takeHalf_3 : decode cX7_takeHalf 3 = .ok (.aload_n 0, 1) := dk_42 (dk_at dksX7_takeHalf_0 3 rfl rfl)
theorem dX7_takeHalf_4 : decode cX7_takeHalf 4 = .ok (.arraylength, 1) := dk_190 (dk_at dksX7_takeHalf_0 4 rfl rfl)
theorem dX7_takeHalf_5 : decode cX7_takeHalf 5 = .ok (.iconst 2, 1) := dk_5 (dk_at dksX7_takeHalf_0 5 rfl rfl)
theorem dX7_takeHalf_6 : decode cX7_takeHalf 6 = .ok (.idiv, 1) := dk_108 (dk_at dksX7_takeHalf_0 6 rfl rfl)
theorem dX7_takeHalf_7 : decode cX7_takeHalf 7 = .ok (.if_icmp .ge 20, 3) := dk_162 0 20 (dk_at dksX7_takeHalf_0 7 rfl rfl)
theorem dX7_takeHalf_10 : decode cX7_takeHalf 10 = .ok (.aload_n 0, 1) := dk_42 (dk_at dksX7_takeHalf_0 10 rfl rfl)
theorem dX7_takeHalf_11 : decode cX7_takeHalf 11 = .ok (.iload_n 1, 1) := dk_27 (dk_at dksX7_takeHalf_0 11 rfl rfl)
theorem dX7_takeHalf_12 : decode cX7_takeHalf 12 = .ok (.aload_n 0, 1) := dk_42 (dk_at dksX7_takeHalf_0 12 rfl rfl)
theorem dX7_takeHalf_13 : decode cX7_takeHalf 13 = .ok (.aload_n 0, 1) := dk_42 (dk_at dksX7_takeHalf_0 13 rfl rfl)
theorem dX7_takeHalf_14 : decode cX7_takeHalf 14 = .ok (.arraylength, 1) := dk_190 (dk_at dksX7_takeHalf_0 14 rfl rfl)
theorem dX7_takeHalf_15 : decode cX7_takeHalf 15 = .ok (.iconst 2, 1) := dk_5 (dk_at dksX7_takeHalf_0 15 rfl rfl)
theorem dX7_takeHalf_16 : decode cX7_takeHalf 16 = .ok (.idiv, 1) := dk_108 (dk_at dksX7_takeHalf_0 16 rfl rfl)
theorem dX7_takeHalf_17 : decode cX7_takeHalf 17 = .ok (.iload_n 1, 1) := dk_27 (dk_at dksX7_takeHalf_0 17 rfl rfl)
theorem dX7_takeHalf_18 : decode cX7_takeHalf 18 = .ok (.iadd, 1) := dk_96 (dk_at dksX7_takeHalf_0 18 rfl rfl)
theorem dX7_takeHalf_19 : decode cX7_takeHalf 19 = .ok (.iaload, 1) := dk_46 (dk_at dksX7_takeHalf_0 19 rfl rfl)
theorem dX7_takeHalf_20 : decode cX7_takeHalf 20 = .ok (.iastore, 1) := dk_79 (dk_at dksX7_takeHalf_0 20 rfl rfl)
theorem dX7_takeHalf_21 : decode cX7_takeHalf 21 = .ok (.iinc 1 1, 3) := dk_132 1 1 (dk_at dksX7_takeHalf_0 21 rfl rfl)
theorem dX7_takeHalf_24 : decode cX7_takeHalf 24 = .ok (.goto (-22), 3) := dk_167 255 234 (dk_at dksX7_takeHalf_1 0 rfl rfl)
theorem dX7_takeHalf_27 : decode cX7_takeHalf 27 = .ok (.return_, 1) := dk_177 (dk_at dksX7_takeHalf_1 3 rfl rfl)
abbrev cX7_fault : ByteArray := prog_18_method_40_code
def yX7_fault : MethodName := ⟨RX7, "fault", "()I"⟩
def dkwX7_fault_0 : List UInt8 := [42, 3, 181, 0, 150, 42, 180, 0, 68, 172]
abbrev dktX7_fault_0 : List UInt8 := dkwX7_fault_0 ++ []
theorem dksX7_fault_0 : cX7_fault.data.toList.drop 0 = dktX7_fault_0 := by decide +kernel
theorem dX7_fault_0 : decode cX7_fault 0 = .ok (.aload_n 0, 1) := dk_42 (dk_at dksX7_fault_0 0 rfl rfl)
theorem dX7_fault_1 : decode cX7_fault 1 = .ok (.iconst 0, 1) := dk_3 (dk_at dksX7_fault_0 1 rfl rfl)
theorem dX7_fault_2 : decode cX7_fault 2 = .ok (.putfield 150, 3) := dk_181 0 150 (dk_at dksX7_fault_0 2 rfl rfl)
theorem dX7_fault_5 : decode cX7_fault 5 = .ok (.aload_n 0, 1) := dk_42 (dk_at dksX7_fault_0 5 rfl rfl)
theorem dX7_fault_6 : decode cX7_fault 6 = .ok (.getfield 68, 3) := dk_180 0 68 (dk_at dksX7_fault_0 6 rfl rfl)
theorem dX7_fault_9 : decode cX7_fault 9 = .ok (.ireturn, 1) := dk_172 (dk_at dksX7_fault_0 9 rfl rfl)
abbrev cX7_count : ByteArray := prog_18_method_56_code
def yX7_count : MethodName := ⟨RX7, "count", "(I)I"⟩
def dkwX7_count_4 : List UInt8 := [16, 14, 100, 46, 172, 42, 4, 182, 1, 47, 172]
abbrev dktX7_count_4 : List UInt8 := dkwX7_count_4 ++ []
def dkwX7_count_3 : List UInt8 := [180, 1, 65, 172, 42, 180, 1, 68, 172, 42, 180, 1, 71, 172, 42, 180, 0, 157, 172, 42, 180, 0, 62, 27]
abbrev dktX7_count_3 : List UInt8 := dkwX7_count_3 ++ dktX7_count_4
def dkwX7_count_2 : List UInt8 := [42, 180, 0, 29, 27, 46, 172, 42, 180, 1, 60, 172, 42, 182, 1, 117, 172, 42, 180, 1, 62, 172, 42]
abbrev dktX7_count_2 : List UInt8 := dkwX7_count_2 ++ dktX7_count_3
def dkwX7_count_1 : List UInt8 := [170, 0, 0, 0, 0, 134, 0, 0, 0, 0, 0, 0, 0, 16, 0, 0, 0, 82, 0, 0, 0, 82, 0, 0, 0, 82, 0, 0, 0, 82, 0, 0, 0, 82, 0, 0, 0, 82, 0, 0, 0, 82, 0, 0, 0, 89, 0, 0, 0, 94, 0, 0, 0, 99, 0, 0, 0, 104, 0, 0, 0, 109, 0, 0, 0, 114, 0, 0, 0, 119, 0, 0, 0, 124, 0, 0, 0, 124, 0, 0, 0, 124]
abbrev dktX7_count_1 : List UInt8 := dkwX7_count_1 ++ dktX7_count_2
def dkwX7_count_0 : List UInt8 := [42, 3, 181, 0, 150, 27]
abbrev dktX7_count_0 : List UInt8 := dkwX7_count_0 ++ dktX7_count_1
theorem dksX7_count_0 : cX7_count.data.toList.drop 0 = dktX7_count_0 := by decide +kernel
theorem dksX7_count_1 : cX7_count.data.toList.drop 6 = dktX7_count_1 := dk_seg dksX7_count_0 6 rfl rfl
theorem dksX7_count_2 : cX7_count.data.toList.drop 88 = dktX7_count_2 := dk_seg dksX7_count_1 82 rfl rfl
theorem dksX7_count_3 : cX7_count.data.toList.drop 111 = dktX7_count_3 := dk_seg dksX7_count_2 23 rfl rfl
theorem dksX7_count_4 : cX7_count.data.toList.drop 135 = dktX7_count_4 := dk_seg dksX7_count_3 24 rfl rfl
theorem dX7_count_0 : decode cX7_count 0 = .ok (.aload_n 0, 1) := dk_42 (dk_at dksX7_count_0 0 rfl rfl)
theorem dX7_count_1 : decode cX7_count 1 = .ok (.iconst 0, 1) := dk_3 (dk_at dksX7_count_0 1 rfl rfl)
theorem dX7_count_2 : decode cX7_count 2 = .ok (.putfield 150, 3) := dk_181 0 150 (dk_at dksX7_count_0 2 rfl rfl)
theorem dX7_count_5 : decode cX7_count 5 = .ok (.iload_n 1, 1) := dk_27 (dk_at dksX7_count_0 5 rfl rfl)
theorem dX7_count_6 : decode cX7_count 6 = .ok (.tableswitch 134 0 16 #[82, 82, 82, 82, 82, 82, 82, 89, 94, 99, 104, 109, 114, 119, 124, 124, 124], 82) := by decide +kernel
theorem dX7_count_88 : decode cX7_count 88 = .ok (.aload_n 0, 1) := dk_42 (dk_at dksX7_count_2 0 rfl rfl)
theorem dX7_count_89 : decode cX7_count 89 = .ok (.getfield 29, 3) := dk_180 0 29 (dk_at dksX7_count_2 1 rfl rfl)
theorem dX7_count_92 : decode cX7_count 92 = .ok (.iload_n 1, 1) := dk_27 (dk_at dksX7_count_2 4 rfl rfl)
theorem dX7_count_93 : decode cX7_count 93 = .ok (.iaload, 1) := dk_46 (dk_at dksX7_count_2 5 rfl rfl)
theorem dX7_count_94 : decode cX7_count 94 = .ok (.ireturn, 1) := dk_172 (dk_at dksX7_count_2 6 rfl rfl)
theorem dX7_count_95 : decode cX7_count 95 = .ok (.aload_n 0, 1) := dk_42 (dk_at dksX7_count_2 7 rfl rfl)
theorem dX7_count_96 : decode cX7_count 96 = .ok (.getfield 316, 3) := dk_180 1 60 (dk_at dksX7_count_2 8 rfl rfl)
theorem dX7_count_99 : decode cX7_count 99 = .ok (.ireturn, 1) := dk_172 (dk_at dksX7_count_2 11 rfl rfl)
theorem dX7_count_100 : decode cX7_count 100 = .ok (.aload_n 0, 1) := dk_42 (dk_at dksX7_count_2 12 rfl rfl)
theorem dX7_count_101 : decode cX7_count 101 = .ok (.invokevirtual 373, 3) := dk_182 1 117 (dk_at dksX7_count_2 13 rfl rfl)
theorem dX7_count_104 : decode cX7_count 104 = .ok (.ireturn, 1) := dk_172 (dk_at dksX7_count_2 16 rfl rfl)
theorem dX7_count_105 : decode cX7_count 105 = .ok (.aload_n 0, 1) := dk_42 (dk_at dksX7_count_2 17 rfl rfl)
theorem dX7_count_106 : decode cX7_count 106 = .ok (.getfield 318, 3) := dk_180 1 62 (dk_at dksX7_count_2 18 rfl rfl)
theorem dX7_count_109 : decode cX7_count 109 = .ok (.ireturn, 1) := dk_172 (dk_at dksX7_count_2 21 rfl rfl)
theorem dX7_count_110 : decode cX7_count 110 = .ok (.aload_n 0, 1) := dk_42 (dk_at dksX7_count_2 22 rfl rfl)
theorem dX7_count_111 : decode cX7_count 111 = .ok (.getfield 321, 3) := dk_180 1 65 (dk_at dksX7_count_3 0 rfl rfl)
theorem dX7_count_114 : decode cX7_count 114 = .ok (.ireturn, 1) := dk_172 (dk_at dksX7_count_3 3 rfl rfl)
theorem dX7_count_115 : decode cX7_count 115 = .ok (.aload_n 0, 1) := dk_42 (dk_at dksX7_count_3 4 rfl rfl)
theorem dX7_count_116 : decode cX7_count 116 = .ok (.getfield 324, 3) := dk_180 1 68 (dk_at dksX7_count_3 5 rfl rfl)
theorem dX7_count_119 : decode cX7_count 119 = .ok (.ireturn, 1) := dk_172 (dk_at dksX7_count_3 8 rfl rfl)
theorem dX7_count_120 : decode cX7_count 120 = .ok (.aload_n 0, 1) := dk_42 (dk_at dksX7_count_3 9 rfl rfl)
theorem dX7_count_121 : decode cX7_count 121 = .ok (.getfield 327, 3) := dk_180 1 71 (dk_at dksX7_count_3 10 rfl rfl)
theorem dX7_count_124 : decode cX7_count 124 = .ok (.ireturn, 1) := dk_172 (dk_at dksX7_count_3 13 rfl rfl)
theorem dX7_count_125 : decode cX7_count 125 = .ok (.aload_n 0, 1) := dk_42 (dk_at dksX7_count_3 14 rfl rfl)
theorem dX7_count_126 : decode cX7_count 126 = .ok (.getfield 157, 3) := dk_180 0 157 (dk_at dksX7_count_3 15 rfl rfl)
theorem dX7_count_129 : decode cX7_count 129 = .ok (.ireturn, 1) := dk_172 (dk_at dksX7_count_3 18 rfl rfl)
theorem dX7_count_130 : decode cX7_count 130 = .ok (.aload_n 0, 1) := dk_42 (dk_at dksX7_count_3 19 rfl rfl)
theorem dX7_count_131 : decode cX7_count 131 = .ok (.getfield 62, 3) := dk_180 0 62 (dk_at dksX7_count_3 20 rfl rfl)
theorem dX7_count_134 : decode cX7_count 134 = .ok (.iload_n 1, 1) := dk_27 (dk_at dksX7_count_3 23 rfl rfl)
theorem dX7_count_135 : decode cX7_count 135 = .ok (.bipush 14, 2) := dk_16 14 (dk_at dksX7_count_4 0 rfl rfl)
theorem dX7_count_137 : decode cX7_count 137 = .ok (.isub, 1) := dk_100 (dk_at dksX7_count_4 2 rfl rfl)
theorem dX7_count_138 : decode cX7_count 138 = .ok (.iaload, 1) := dk_46 (dk_at dksX7_count_4 3 rfl rfl)
theorem dX7_count_139 : decode cX7_count 139 = .ok (.ireturn, 1) := dk_172 (dk_at dksX7_count_4 4 rfl rfl)
theorem dX7_count_140 : decode cX7_count 140 = .ok (.aload_n 0, 1) := dk_42 (dk_at dksX7_count_4 5 rfl rfl)
theorem dX7_count_141 : decode cX7_count 141 = .ok (.iconst 1, 1) := dk_4 (dk_at dksX7_count_4 6 rfl rfl)
theorem dX7_count_142 : decode cX7_count 142 = .ok (.invokevirtual 303, 3) := dk_182 1 47 (dk_at dksX7_count_4 7 rfl rfl)
theorem dX7_count_145 : decode cX7_count 145 = .ok (.ireturn, 1) := dk_172 (dk_at dksX7_count_4 10 rfl rfl)
abbrev cX7_allSables : ByteArray := prog_18_method_55_code
def yX7_allSables : MethodName := ⟨RX7, "allSables", "()I"⟩
def dkwX7_allSables_1 : List UInt8 := [132, 2, 1, 167, 255, 234, 27, 172]
abbrev dktX7_allSables_1 : List UInt8 := dkwX7_allSables_1 ++ []
def dkwX7_allSables_0 : List UInt8 := [3, 60, 3, 61, 28, 42, 180, 0, 29, 3, 46, 162, 0, 18, 27, 42, 180, 0, 72, 28, 46, 96, 60]
abbrev dktX7_allSables_0 : List UInt8 := dkwX7_allSables_0 ++ dktX7_allSables_1
theorem dksX7_allSables_0 : cX7_allSables.data.toList.drop 0 = dktX7_allSables_0 := by decide +kernel
theorem dksX7_allSables_1 : cX7_allSables.data.toList.drop 23 = dktX7_allSables_1 := dk_seg dksX7_allSables_0 23 rfl rfl
theorem dX7_allSables_0 : decode cX7_allSables 0 = .ok (.iconst 0, 1) := dk_3 (dk_at dksX7_allSables_0 0 rfl rfl)
theorem dX7_allSables_1 : decode cX7_allSables 1 = .ok (.istore_n 1, 1) := dk_60 (dk_at dksX7_allSables_0 1 rfl rfl)
theorem dX7_allSables_2 : decode cX7_allSables 2 = .ok (.iconst 0, 1) := dk_3 (dk_at dksX7_allSables_0 2 rfl rfl)
theorem dX7_allSables_3 : decode cX7_allSables 3 = .ok (.istore_n 2, 1) := dk_61 (dk_at dksX7_allSables_0 3 rfl rfl)
theorem dX7_allSables_4 : decode cX7_allSables 4 = .ok (.iload_n 2, 1) := dk_28 (dk_at dksX7_allSables_0 4 rfl rfl)
theorem dX7_allSables_5 : decode cX7_allSables 5 = .ok (.aload_n 0, 1) := dk_42 (dk_at dksX7_allSables_0 5 rfl rfl)
theorem dX7_allSables_6 : decode cX7_allSables 6 = .ok (.getfield 29, 3) := dk_180 0 29 (dk_at dksX7_allSables_0 6 rfl rfl)
theorem dX7_allSables_9 : decode cX7_allSables 9 = .ok (.iconst 0, 1) := dk_3 (dk_at dksX7_allSables_0 9 rfl rfl)
theorem dX7_allSables_10 : decode cX7_allSables 10 = .ok (.iaload, 1) := dk_46 (dk_at dksX7_allSables_0 10 rfl rfl)
theorem dX7_allSables_11 : decode cX7_allSables 11 = .ok (.if_icmp .ge 18, 3) := dk_162 0 18 (dk_at dksX7_allSables_0 11 rfl rfl)
theorem dX7_allSables_14 : decode cX7_allSables 14 = .ok (.iload_n 1, 1) := dk_27 (dk_at dksX7_allSables_0 14 rfl rfl)
theorem dX7_allSables_15 : decode cX7_allSables 15 = .ok (.aload_n 0, 1) := dk_42 (dk_at dksX7_allSables_0 15 rfl rfl)
theorem dX7_allSables_16 : decode cX7_allSables 16 = .ok (.getfield 72, 3) := dk_180 0 72 (dk_at dksX7_allSables_0 16 rfl rfl)
theorem dX7_allSables_19 : decode cX7_allSables 19 = .ok (.iload_n 2, 1) := dk_28 (dk_at dksX7_allSables_0 19 rfl rfl)
theorem dX7_allSables_20 : decode cX7_allSables 20 = .ok (.iaload, 1) := dk_46 (dk_at dksX7_allSables_0 20 rfl rfl)
theorem dX7_allSables_21 : decode cX7_allSables 21 = .ok (.iadd, 1) := dk_96 (dk_at dksX7_allSables_0 21 rfl rfl)
theorem dX7_allSables_22 : decode cX7_allSables 22 = .ok (.istore_n 1, 1) := dk_60 (dk_at dksX7_allSables_0 22 rfl rfl)
theorem dX7_allSables_23 : decode cX7_allSables 23 = .ok (.iinc 2 1, 3) := dk_132 2 1 (dk_at dksX7_allSables_1 0 rfl rfl)
theorem dX7_allSables_26 : decode cX7_allSables 26 = .ok (.goto (-22), 3) := dk_167 255 234 (dk_at dksX7_allSables_1 3 rfl rfl)
theorem dX7_allSables_29 : decode cX7_allSables 29 = .ok (.iload_n 1, 1) := dk_27 (dk_at dksX7_allSables_1 6 rfl rfl)
theorem dX7_allSables_30 : decode cX7_allSables 30 = .ok (.ireturn, 1) := dk_172 (dk_at dksX7_allSables_1 7 rfl rfl)
abbrev cX7_forest : ByteArray := prog_18_method_58_code
def yX7_forest : MethodName := ⟨RX7, "forest", "(II)I"⟩
def dkwX7_forest_4 : List UInt8 := [172, 42, 4, 182, 1, 47, 172]
abbrev dktX7_forest_4 : List UInt8 := dkwX7_forest_4 ++ []
def dkwX7_forest_3 : List UInt8 := [180, 0, 42, 27, 46, 172, 42, 180, 0, 77, 27, 46, 172, 42, 27, 182, 1, 84, 172, 42, 27, 182, 1, 123]
abbrev dktX7_forest_3 : List UInt8 := dkwX7_forest_3 ++ dktX7_forest_4
def dkwX7_forest_2 : List UInt8 := [42, 180, 0, 72, 27, 46, 172, 42, 180, 0, 74, 27, 46, 172, 42, 180, 0, 39, 27, 46, 172, 42]
abbrev dktX7_forest_2 : List UInt8 := dkwX7_forest_2 ++ dktX7_forest_3
def dkwX7_forest_1 : List UInt8 := [170, 0, 0, 0, 0, 0, 0, 91, 0, 0, 0, 0, 0, 0, 0, 6, 0, 0, 0, 44, 0, 0, 0, 51, 0, 0, 0, 58, 0, 0, 0, 65, 0, 0, 0, 72, 0, 0, 0, 79, 0, 0, 0, 85]
abbrev dktX7_forest_1 : List UInt8 := dkwX7_forest_1 ++ dktX7_forest_2
def dkwX7_forest_0 : List UInt8 := [42, 3, 181, 0, 150, 42, 27, 182, 1, 120, 154, 0, 9, 42, 4, 182, 1, 47, 172, 28]
abbrev dktX7_forest_0 : List UInt8 := dkwX7_forest_0 ++ dktX7_forest_1
theorem dksX7_forest_0 : cX7_forest.data.toList.drop 0 = dktX7_forest_0 := by decide +kernel
theorem dksX7_forest_1 : cX7_forest.data.toList.drop 20 = dktX7_forest_1 := dk_seg dksX7_forest_0 20 rfl rfl
theorem dksX7_forest_2 : cX7_forest.data.toList.drop 64 = dktX7_forest_2 := dk_seg dksX7_forest_1 44 rfl rfl
theorem dksX7_forest_3 : cX7_forest.data.toList.drop 86 = dktX7_forest_3 := dk_seg dksX7_forest_2 22 rfl rfl
theorem dksX7_forest_4 : cX7_forest.data.toList.drop 110 = dktX7_forest_4 := dk_seg dksX7_forest_3 24 rfl rfl
theorem dX7_forest_0 : decode cX7_forest 0 = .ok (.aload_n 0, 1) := dk_42 (dk_at dksX7_forest_0 0 rfl rfl)
theorem dX7_forest_1 : decode cX7_forest 1 = .ok (.iconst 0, 1) := dk_3 (dk_at dksX7_forest_0 1 rfl rfl)
theorem dX7_forest_2 : decode cX7_forest 2 = .ok (.putfield 150, 3) := dk_181 0 150 (dk_at dksX7_forest_0 2 rfl rfl)
theorem dX7_forest_5 : decode cX7_forest 5 = .ok (.aload_n 0, 1) := dk_42 (dk_at dksX7_forest_0 5 rfl rfl)
theorem dX7_forest_6 : decode cX7_forest 6 = .ok (.iload_n 1, 1) := dk_27 (dk_at dksX7_forest_0 6 rfl rfl)
theorem dX7_forest_7 : decode cX7_forest 7 = .ok (.invokevirtual 376, 3) := dk_182 1 120 (dk_at dksX7_forest_0 7 rfl rfl)
theorem dX7_forest_10 : decode cX7_forest 10 = .ok (.ifCond .ne 9, 3) := dk_154 0 9 (dk_at dksX7_forest_0 10 rfl rfl)
theorem dX7_forest_13 : decode cX7_forest 13 = .ok (.aload_n 0, 1) := dk_42 (dk_at dksX7_forest_0 13 rfl rfl)
theorem dX7_forest_14 : decode cX7_forest 14 = .ok (.iconst 1, 1) := dk_4 (dk_at dksX7_forest_0 14 rfl rfl)
theorem dX7_forest_15 : decode cX7_forest 15 = .ok (.invokevirtual 303, 3) := dk_182 1 47 (dk_at dksX7_forest_0 15 rfl rfl)
theorem dX7_forest_18 : decode cX7_forest 18 = .ok (.ireturn, 1) := dk_172 (dk_at dksX7_forest_0 18 rfl rfl)
theorem dX7_forest_19 : decode cX7_forest 19 = .ok (.iload_n 2, 1) := dk_28 (dk_at dksX7_forest_0 19 rfl rfl)
theorem dX7_forest_20 : decode cX7_forest 20 = .ok (.tableswitch 91 0 6 #[44, 51, 58, 65, 72, 79, 85], 44) := by decide +kernel
theorem dX7_forest_64 : decode cX7_forest 64 = .ok (.aload_n 0, 1) := dk_42 (dk_at dksX7_forest_2 0 rfl rfl)
theorem dX7_forest_65 : decode cX7_forest 65 = .ok (.getfield 72, 3) := dk_180 0 72 (dk_at dksX7_forest_2 1 rfl rfl)
theorem dX7_forest_68 : decode cX7_forest 68 = .ok (.iload_n 1, 1) := dk_27 (dk_at dksX7_forest_2 4 rfl rfl)
theorem dX7_forest_69 : decode cX7_forest 69 = .ok (.iaload, 1) := dk_46 (dk_at dksX7_forest_2 5 rfl rfl)
theorem dX7_forest_70 : decode cX7_forest 70 = .ok (.ireturn, 1) := dk_172 (dk_at dksX7_forest_2 6 rfl rfl)
theorem dX7_forest_71 : decode cX7_forest 71 = .ok (.aload_n 0, 1) := dk_42 (dk_at dksX7_forest_2 7 rfl rfl)
theorem dX7_forest_72 : decode cX7_forest 72 = .ok (.getfield 74, 3) := dk_180 0 74 (dk_at dksX7_forest_2 8 rfl rfl)
theorem dX7_forest_75 : decode cX7_forest 75 = .ok (.iload_n 1, 1) := dk_27 (dk_at dksX7_forest_2 11 rfl rfl)
theorem dX7_forest_76 : decode cX7_forest 76 = .ok (.iaload, 1) := dk_46 (dk_at dksX7_forest_2 12 rfl rfl)
theorem dX7_forest_77 : decode cX7_forest 77 = .ok (.ireturn, 1) := dk_172 (dk_at dksX7_forest_2 13 rfl rfl)
theorem dX7_forest_78 : decode cX7_forest 78 = .ok (.aload_n 0, 1) := dk_42 (dk_at dksX7_forest_2 14 rfl rfl)
theorem dX7_forest_79 : decode cX7_forest 79 = .ok (.getfield 39, 3) := dk_180 0 39 (dk_at dksX7_forest_2 15 rfl rfl)
theorem dX7_forest_82 : decode cX7_forest 82 = .ok (.iload_n 1, 1) := dk_27 (dk_at dksX7_forest_2 18 rfl rfl)
theorem dX7_forest_83 : decode cX7_forest 83 = .ok (.iaload, 1) := dk_46 (dk_at dksX7_forest_2 19 rfl rfl)
theorem dX7_forest_84 : decode cX7_forest 84 = .ok (.ireturn, 1) := dk_172 (dk_at dksX7_forest_2 20 rfl rfl)
theorem dX7_forest_85 : decode cX7_forest 85 = .ok (.aload_n 0, 1) := dk_42 (dk_at dksX7_forest_2 21 rfl rfl)
theorem dX7_forest_86 : decode cX7_forest 86 = .ok (.getfield 42, 3) := dk_180 0 42 (dk_at dksX7_forest_3 0 rfl rfl)
theorem dX7_forest_89 : decode cX7_forest 89 = .ok (.iload_n 1, 1) := dk_27 (dk_at dksX7_forest_3 3 rfl rfl)
theorem dX7_forest_90 : decode cX7_forest 90 = .ok (.iaload, 1) := dk_46 (dk_at dksX7_forest_3 4 rfl rfl)
theorem dX7_forest_91 : decode cX7_forest 91 = .ok (.ireturn, 1) := dk_172 (dk_at dksX7_forest_3 5 rfl rfl)
theorem dX7_forest_92 : decode cX7_forest 92 = .ok (.aload_n 0, 1) := dk_42 (dk_at dksX7_forest_3 6 rfl rfl)
theorem dX7_forest_93 : decode cX7_forest 93 = .ok (.getfield 77, 3) := dk_180 0 77 (dk_at dksX7_forest_3 7 rfl rfl)
theorem dX7_forest_96 : decode cX7_forest 96 = .ok (.iload_n 1, 1) := dk_27 (dk_at dksX7_forest_3 10 rfl rfl)
theorem dX7_forest_97 : decode cX7_forest 97 = .ok (.iaload, 1) := dk_46 (dk_at dksX7_forest_3 11 rfl rfl)
theorem dX7_forest_98 : decode cX7_forest 98 = .ok (.ireturn, 1) := dk_172 (dk_at dksX7_forest_3 12 rfl rfl)
theorem dX7_forest_99 : decode cX7_forest 99 = .ok (.aload_n 0, 1) := dk_42 (dk_at dksX7_forest_3 13 rfl rfl)
theorem dX7_forest_100 : decode cX7_forest 100 = .ok (.iload_n 1, 1) := dk_27 (dk_at dksX7_forest_3 14 rfl rfl)
theorem dX7_forest_101 : decode cX7_forest 101 = .ok (.invokevirtual 340, 3) := dk_182 1 84 (dk_at dksX7_forest_3 15 rfl rfl)
theorem dX7_forest_104 : decode cX7_forest 104 = .ok (.ireturn, 1) := dk_172 (dk_at dksX7_forest_3 18 rfl rfl)
theorem dX7_forest_105 : decode cX7_forest 105 = .ok (.aload_n 0, 1) := dk_42 (dk_at dksX7_forest_3 19 rfl rfl)
theorem dX7_forest_106 : decode cX7_forest 106 = .ok (.iload_n 1, 1) := dk_27 (dk_at dksX7_forest_3 20 rfl rfl)
theorem dX7_forest_107 : decode cX7_forest 107 = .ok (.invokevirtual 379, 3) := dk_182 1 123 (dk_at dksX7_forest_3 21 rfl rfl)
theorem dX7_forest_110 : decode cX7_forest 110 = .ok (.ireturn, 1) := dk_172 (dk_at dksX7_forest_4 0 rfl rfl)
theorem dX7_forest_111 : decode cX7_forest 111 = .ok (.aload_n 0, 1) := dk_42 (dk_at dksX7_forest_4 1 rfl rfl)
theorem dX7_forest_112 : decode cX7_forest 112 = .ok (.iconst 1, 1) := dk_4 (dk_at dksX7_forest_4 2 rfl rfl)
theorem dX7_forest_113 : decode cX7_forest 113 = .ok (.invokevirtual 303, 3) := dk_182 1 47 (dk_at dksX7_forest_4 3 rfl rfl)
theorem dX7_forest_116 : decode cX7_forest 116 = .ok (.ireturn, 1) := dk_172 (dk_at dksX7_forest_4 6 rfl rfl)
abbrev cX7_isForest : ByteArray := prog_18_method_6_code
def yX7_isForest : MethodName := ⟨RX7, "isForest", "(I)Z"⟩
def dkwX7_isForest_0 : List UInt8 := [27, 133, 9, 42, 180, 0, 29, 3, 46, 4, 100, 133, 184, 0, 153, 172]
abbrev dktX7_isForest_0 : List UInt8 := dkwX7_isForest_0 ++ []
theorem dksX7_isForest_0 : cX7_isForest.data.toList.drop 0 = dktX7_isForest_0 := by decide +kernel
theorem dX7_isForest_0 : decode cX7_isForest 0 = .ok (.iload_n 1, 1) := dk_27 (dk_at dksX7_isForest_0 0 rfl rfl)
theorem dX7_isForest_1 : decode cX7_isForest 1 = .ok (.i2l, 1) := dk_133 (dk_at dksX7_isForest_0 1 rfl rfl)
theorem dX7_isForest_2 : decode cX7_isForest 2 = .ok (.lconst 0, 1) := dk_9 (dk_at dksX7_isForest_0 2 rfl rfl)
theorem dX7_isForest_3 : decode cX7_isForest 3 = .ok (.aload_n 0, 1) := dk_42 (dk_at dksX7_isForest_0 3 rfl rfl)
theorem dX7_isForest_4 : decode cX7_isForest 4 = .ok (.getfield 29, 3) := dk_180 0 29 (dk_at dksX7_isForest_0 4 rfl rfl)
theorem dX7_isForest_7 : decode cX7_isForest 7 = .ok (.iconst 0, 1) := dk_3 (dk_at dksX7_isForest_0 7 rfl rfl)
theorem dX7_isForest_8 : decode cX7_isForest 8 = .ok (.iaload, 1) := dk_46 (dk_at dksX7_isForest_0 8 rfl rfl)
theorem dX7_isForest_9 : decode cX7_isForest 9 = .ok (.iconst 1, 1) := dk_4 (dk_at dksX7_isForest_0 9 rfl rfl)
theorem dX7_isForest_10 : decode cX7_isForest 10 = .ok (.isub, 1) := dk_100 (dk_at dksX7_isForest_0 10 rfl rfl)
theorem dX7_isForest_11 : decode cX7_isForest 11 = .ok (.i2l, 1) := dk_133 (dk_at dksX7_isForest_0 11 rfl rfl)
theorem dX7_isForest_12 : decode cX7_isForest 12 = .ok (.invokestatic 153, 3) := dk_184 0 153 (dk_at dksX7_isForest_0 12 rfl rfl)
theorem dX7_isForest_15 : decode cX7_isForest 15 = .ok (.ireturn, 1) := dk_172 (dk_at dksX7_isForest_0 15 rfl rfl)
abbrev cX7_isIn : ByteArray := prog_18_method_4_code
def yX7_isIn : MethodName := ⟨RX7, "isIn", "(JJJ)Z"⟩
def dkwX7_isIn_0 : List UInt8 := [30, 32, 148, 155, 0, 14, 30, 22, 4, 148, 157, 0, 7, 4, 167, 0, 4, 3, 172]
abbrev dktX7_isIn_0 : List UInt8 := dkwX7_isIn_0 ++ []
theorem dksX7_isIn_0 : cX7_isIn.data.toList.drop 0 = dktX7_isIn_0 := by decide +kernel
theorem dX7_isIn_0 : decode cX7_isIn 0 = .ok (.lload_n 0, 1) := dk_30 (dk_at dksX7_isIn_0 0 rfl rfl)
theorem dX7_isIn_1 : decode cX7_isIn 1 = .ok (.lload_n 2, 1) := dk_32 (dk_at dksX7_isIn_0 1 rfl rfl)
theorem dX7_isIn_2 : decode cX7_isIn 2 = .ok (.lcmp, 1) := dk_148 (dk_at dksX7_isIn_0 2 rfl rfl)
theorem dX7_isIn_3 : decode cX7_isIn 3 = .ok (.ifCond .lt 14, 3) := dk_155 0 14 (dk_at dksX7_isIn_0 3 rfl rfl)
theorem dX7_isIn_6 : decode cX7_isIn 6 = .ok (.lload_n 0, 1) := dk_30 (dk_at dksX7_isIn_0 6 rfl rfl)
theorem dX7_isIn_7 : decode cX7_isIn 7 = .ok (.lload 4, 2) := dk_22 4 (dk_at dksX7_isIn_0 7 rfl rfl)
theorem dX7_isIn_9 : decode cX7_isIn 9 = .ok (.lcmp, 1) := dk_148 (dk_at dksX7_isIn_0 9 rfl rfl)
theorem dX7_isIn_10 : decode cX7_isIn 10 = .ok (.ifCond .gt 7, 3) := dk_157 0 7 (dk_at dksX7_isIn_0 10 rfl rfl)
theorem dX7_isIn_13 : decode cX7_isIn 13 = .ok (.iconst 1, 1) := dk_4 (dk_at dksX7_isIn_0 13 rfl rfl)
theorem dX7_isIn_14 : decode cX7_isIn 14 = .ok (.goto 4, 3) := dk_167 0 4 (dk_at dksX7_isIn_0 14 rfl rfl)
theorem dX7_isIn_17 : decode cX7_isIn 17 = .ok (.iconst 0, 1) := dk_3 (dk_at dksX7_isIn_0 17 rfl rfl)
theorem dX7_isIn_18 : decode cX7_isIn 18 = .ok (.ireturn, 1) := dk_172 (dk_at dksX7_isIn_0 18 rfl rfl)
abbrev cX7_bandsIn : ByteArray := prog_18_method_45_code
def yX7_bandsIn : MethodName := ⟨RX7, "bandsIn", "(I)I"⟩
def dkwX7_bandsIn_1 : List UInt8 := [160, 0, 9, 4, 29, 120, 167, 0, 4, 3, 128, 61, 132, 3, 1, 167, 255, 223, 28, 172]
abbrev dktX7_bandsIn_1 : List UInt8 := dkwX7_bandsIn_1 ++ []
def dkwX7_bandsIn_0 : List UInt8 := [3, 61, 3, 62, 29, 42, 180, 0, 29, 5, 46, 162, 0, 29, 28, 42, 180, 0, 80, 29, 46, 27]
abbrev dktX7_bandsIn_0 : List UInt8 := dkwX7_bandsIn_0 ++ dktX7_bandsIn_1
theorem dksX7_bandsIn_0 : cX7_bandsIn.data.toList.drop 0 = dktX7_bandsIn_0 := by decide +kernel
theorem dksX7_bandsIn_1 : cX7_bandsIn.data.toList.drop 22 = dktX7_bandsIn_1 := dk_seg dksX7_bandsIn_0 22 rfl rfl
theorem dX7_bandsIn_0 : decode cX7_bandsIn 0 = .ok (.iconst 0, 1) := dk_3 (dk_at dksX7_bandsIn_0 0 rfl rfl)
theorem dX7_bandsIn_1 : decode cX7_bandsIn 1 = .ok (.istore_n 2, 1) := dk_61 (dk_at dksX7_bandsIn_0 1 rfl rfl)
theorem dX7_bandsIn_2 : decode cX7_bandsIn 2 = .ok (.iconst 0, 1) := dk_3 (dk_at dksX7_bandsIn_0 2 rfl rfl)
theorem dX7_bandsIn_3 : decode cX7_bandsIn 3 = .ok (.istore_n 3, 1) := dk_62 (dk_at dksX7_bandsIn_0 3 rfl rfl)
theorem dX7_bandsIn_4 : decode cX7_bandsIn 4 = .ok (.iload_n 3, 1) := dk_29 (dk_at dksX7_bandsIn_0 4 rfl rfl)
theorem dX7_bandsIn_5 : decode cX7_bandsIn 5 = .ok (.aload_n 0, 1) := dk_42 (dk_at dksX7_bandsIn_0 5 rfl rfl)
theorem dX7_bandsIn_6 : decode cX7_bandsIn 6 = .ok (.getfield 29, 3) := dk_180 0 29 (dk_at dksX7_bandsIn_0 6 rfl rfl)
theorem dX7_bandsIn_9 : decode cX7_bandsIn 9 = .ok (.iconst 2, 1) := dk_5 (dk_at dksX7_bandsIn_0 9 rfl rfl)
theorem dX7_bandsIn_10 : decode cX7_bandsIn 10 = .ok (.iaload, 1) := dk_46 (dk_at dksX7_bandsIn_0 10 rfl rfl)
theorem dX7_bandsIn_11 : decode cX7_bandsIn 11 = .ok (.if_icmp .ge 29, 3) := dk_162 0 29 (dk_at dksX7_bandsIn_0 11 rfl rfl)
theorem dX7_bandsIn_14 : decode cX7_bandsIn 14 = .ok (.iload_n 2, 1) := dk_28 (dk_at dksX7_bandsIn_0 14 rfl rfl)
theorem dX7_bandsIn_15 : decode cX7_bandsIn 15 = .ok (.aload_n 0, 1) := dk_42 (dk_at dksX7_bandsIn_0 15 rfl rfl)
theorem dX7_bandsIn_16 : decode cX7_bandsIn 16 = .ok (.getfield 80, 3) := dk_180 0 80 (dk_at dksX7_bandsIn_0 16 rfl rfl)
theorem dX7_bandsIn_19 : decode cX7_bandsIn 19 = .ok (.iload_n 3, 1) := dk_29 (dk_at dksX7_bandsIn_0 19 rfl rfl)
theorem dX7_bandsIn_20 : decode cX7_bandsIn 20 = .ok (.iaload, 1) := dk_46 (dk_at dksX7_bandsIn_0 20 rfl rfl)
theorem dX7_bandsIn_21 : decode cX7_bandsIn 21 = .ok (.iload_n 1, 1) := dk_27 (dk_at dksX7_bandsIn_0 21 rfl rfl)
theorem dX7_bandsIn_22 : decode cX7_bandsIn 22 = .ok (.if_icmp .ne 9, 3) := dk_160 0 9 (dk_at dksX7_bandsIn_1 0 rfl rfl)
theorem dX7_bandsIn_25 : decode cX7_bandsIn 25 = .ok (.iconst 1, 1) := dk_4 (dk_at dksX7_bandsIn_1 3 rfl rfl)
theorem dX7_bandsIn_26 : decode cX7_bandsIn 26 = .ok (.iload_n 3, 1) := dk_29 (dk_at dksX7_bandsIn_1 4 rfl rfl)
theorem dX7_bandsIn_27 : decode cX7_bandsIn 27 = .ok (.ishl, 1) := dk_120 (dk_at dksX7_bandsIn_1 5 rfl rfl)
theorem dX7_bandsIn_28 : decode cX7_bandsIn 28 = .ok (.goto 4, 3) := dk_167 0 4 (dk_at dksX7_bandsIn_1 6 rfl rfl)
theorem dX7_bandsIn_31 : decode cX7_bandsIn 31 = .ok (.iconst 0, 1) := dk_3 (dk_at dksX7_bandsIn_1 9 rfl rfl)
theorem dX7_bandsIn_32 : decode cX7_bandsIn 32 = .ok (.ior, 1) := dk_128 (dk_at dksX7_bandsIn_1 10 rfl rfl)
theorem dX7_bandsIn_33 : decode cX7_bandsIn 33 = .ok (.istore_n 2, 1) := dk_61 (dk_at dksX7_bandsIn_1 11 rfl rfl)
theorem dX7_bandsIn_34 : decode cX7_bandsIn 34 = .ok (.iinc 3 1, 3) := dk_132 3 1 (dk_at dksX7_bandsIn_1 12 rfl rfl)
theorem dX7_bandsIn_37 : decode cX7_bandsIn 37 = .ok (.goto (-33), 3) := dk_167 255 223 (dk_at dksX7_bandsIn_1 15 rfl rfl)
theorem dX7_bandsIn_40 : decode cX7_bandsIn 40 = .ok (.iload_n 2, 1) := dk_28 (dk_at dksX7_bandsIn_1 18 rfl rfl)
theorem dX7_bandsIn_41 : decode cX7_bandsIn 41 = .ok (.ireturn, 1) := dk_172 (dk_at dksX7_bandsIn_1 19 rfl rfl)
abbrev cX7_riversOf : ByteArray := prog_18_method_57_code
def yX7_riversOf : MethodName := ⟨RX7, "riversOf", "(I)I"⟩
def dkwX7_riversOf_1 : List UInt8 := [96, 46, 158, 0, 7, 4, 167, 0, 4, 3, 96, 61, 132, 3, 1, 167, 255, 221, 28, 172]
abbrev dktX7_riversOf_1 : List UInt8 := dkwX7_riversOf_1 ++ []
def dkwX7_riversOf_0 : List UInt8 := [3, 61, 3, 62, 29, 42, 180, 0, 29, 3, 46, 162, 0, 31, 28, 42, 180, 0, 45, 16, 8, 27, 104, 29]
abbrev dktX7_riversOf_0 : List UInt8 := dkwX7_riversOf_0 ++ dktX7_riversOf_1
theorem dksX7_riversOf_0 : cX7_riversOf.data.toList.drop 0 = dktX7_riversOf_0 := by decide +kernel
theorem dksX7_riversOf_1 : cX7_riversOf.data.toList.drop 24 = dktX7_riversOf_1 := dk_seg dksX7_riversOf_0 24 rfl rfl
theorem dX7_riversOf_0 : decode cX7_riversOf 0 = .ok (.iconst 0, 1) := dk_3 (dk_at dksX7_riversOf_0 0 rfl rfl)
theorem dX7_riversOf_1 : decode cX7_riversOf 1 = .ok (.istore_n 2, 1) := dk_61 (dk_at dksX7_riversOf_0 1 rfl rfl)
theorem dX7_riversOf_2 : decode cX7_riversOf 2 = .ok (.iconst 0, 1) := dk_3 (dk_at dksX7_riversOf_0 2 rfl rfl)
theorem dX7_riversOf_3 : decode cX7_riversOf 3 = .ok (.istore_n 3, 1) := dk_62 (dk_at dksX7_riversOf_0 3 rfl rfl)
theorem dX7_riversOf_4 : decode cX7_riversOf 4 = .ok (.iload_n 3, 1) := dk_29 (dk_at dksX7_riversOf_0 4 rfl rfl)
theorem dX7_riversOf_5 : decode cX7_riversOf 5 = .ok (.aload_n 0, 1) := dk_42 (dk_at dksX7_riversOf_0 5 rfl rfl)
theorem dX7_riversOf_6 : decode cX7_riversOf 6 = .ok (.getfield 29, 3) := dk_180 0 29 (dk_at dksX7_riversOf_0 6 rfl rfl)
theorem dX7_riversOf_9 : decode cX7_riversOf 9 = .ok (.iconst 0, 1) := dk_3 (dk_at dksX7_riversOf_0 9 rfl rfl)
theorem dX7_riversOf_10 : decode cX7_riversOf 10 = .ok (.iaload, 1) := dk_46 (dk_at dksX7_riversOf_0 10 rfl rfl)
theorem dX7_riversOf_11 : decode cX7_riversOf 11 = .ok (.if_icmp .ge 31, 3) := dk_162 0 31 (dk_at dksX7_riversOf_0 11 rfl rfl)
theorem dX7_riversOf_14 : decode cX7_riversOf 14 = .ok (.iload_n 2, 1) := dk_28 (dk_at dksX7_riversOf_0 14 rfl rfl)
theorem dX7_riversOf_15 : decode cX7_riversOf 15 = .ok (.aload_n 0, 1) := dk_42 (dk_at dksX7_riversOf_0 15 rfl rfl)
theorem dX7_riversOf_16 : decode cX7_riversOf 16 = .ok (.getfield 45, 3) := dk_180 0 45 (dk_at dksX7_riversOf_0 16 rfl rfl)
theorem dX7_riversOf_19 : decode cX7_riversOf 19 = .ok (.bipush 8, 2) := dk_16 8 (dk_at dksX7_riversOf_0 19 rfl rfl)
theorem dX7_riversOf_21 : decode cX7_riversOf 21 = .ok (.iload_n 1, 1) := dk_27 (dk_at dksX7_riversOf_0 21 rfl rfl)
theorem dX7_riversOf_22 : decode cX7_riversOf 22 = .ok (.imul, 1) := dk_104 (dk_at dksX7_riversOf_0 22 rfl rfl)
theorem dX7_riversOf_23 : decode cX7_riversOf 23 = .ok (.iload_n 3, 1) := dk_29 (dk_at dksX7_riversOf_0 23 rfl rfl)
theorem dX7_riversOf_24 : decode cX7_riversOf 24 = .ok (.iadd, 1) := dk_96 (dk_at dksX7_riversOf_1 0 rfl rfl)
theorem dX7_riversOf_25 : decode cX7_riversOf 25 = .ok (.iaload, 1) := dk_46 (dk_at dksX7_riversOf_1 1 rfl rfl)
theorem dX7_riversOf_26 : decode cX7_riversOf 26 = .ok (.ifCond .le 7, 3) := dk_158 0 7 (dk_at dksX7_riversOf_1 2 rfl rfl)
theorem dX7_riversOf_29 : decode cX7_riversOf 29 = .ok (.iconst 1, 1) := dk_4 (dk_at dksX7_riversOf_1 5 rfl rfl)
theorem dX7_riversOf_30 : decode cX7_riversOf 30 = .ok (.goto 4, 3) := dk_167 0 4 (dk_at dksX7_riversOf_1 6 rfl rfl)
theorem dX7_riversOf_33 : decode cX7_riversOf 33 = .ok (.iconst 0, 1) := dk_3 (dk_at dksX7_riversOf_1 9 rfl rfl)
theorem dX7_riversOf_34 : decode cX7_riversOf 34 = .ok (.iadd, 1) := dk_96 (dk_at dksX7_riversOf_1 10 rfl rfl)
theorem dX7_riversOf_35 : decode cX7_riversOf 35 = .ok (.istore_n 2, 1) := dk_61 (dk_at dksX7_riversOf_1 11 rfl rfl)
theorem dX7_riversOf_36 : decode cX7_riversOf 36 = .ok (.iinc 3 1, 3) := dk_132 3 1 (dk_at dksX7_riversOf_1 12 rfl rfl)
theorem dX7_riversOf_39 : decode cX7_riversOf 39 = .ok (.goto (-35), 3) := dk_167 255 221 (dk_at dksX7_riversOf_1 15 rfl rfl)
theorem dX7_riversOf_42 : decode cX7_riversOf 42 = .ok (.iload_n 2, 1) := dk_28 (dk_at dksX7_riversOf_1 18 rfl rfl)
theorem dX7_riversOf_43 : decode cX7_riversOf 43 = .ok (.ireturn, 1) := dk_172 (dk_at dksX7_riversOf_1 19 rfl rfl)
abbrev cX7_band : ByteArray := prog_18_method_59_code
def yX7_band : MethodName := ⟨RX7, "band", "(II)I"⟩
def dkwX7_band_4 : List UInt8 := [182, 1, 96, 172, 42, 4, 182, 1, 47, 172]
abbrev dktX7_band_4 : List UInt8 := dkwX7_band_4 ++ []
def dkwX7_band_3 : List UInt8 := [180, 0, 86, 27, 46, 172, 42, 180, 0, 88, 27, 46, 172, 42, 180, 0, 90, 27, 46, 172, 42, 27]
abbrev dktX7_band_3 : List UInt8 := dkwX7_band_3 ++ dktX7_band_4
def dkwX7_band_2 : List UInt8 := [42, 180, 0, 48, 27, 46, 172, 42, 180, 0, 80, 27, 46, 172, 42, 180, 0, 83, 27, 46, 172, 42]
abbrev dktX7_band_2 : List UInt8 := dkwX7_band_2 ++ dktX7_band_3
def dkwX7_band_1 : List UInt8 := [170, 0, 0, 0, 0, 0, 0, 92, 0, 0, 0, 0, 0, 0, 0, 6, 0, 0, 0, 44, 0, 0, 0, 51, 0, 0, 0, 58, 0, 0, 0, 65, 0, 0, 0, 72, 0, 0, 0, 79, 0, 0, 0, 86]
abbrev dktX7_band_1 : List UInt8 := dkwX7_band_1 ++ dktX7_band_2
def dkwX7_band_0 : List UInt8 := [42, 3, 181, 0, 150, 42, 27, 182, 1, 126, 154, 0, 9, 42, 4, 182, 1, 47, 172, 28]
abbrev dktX7_band_0 : List UInt8 := dkwX7_band_0 ++ dktX7_band_1
theorem dksX7_band_0 : cX7_band.data.toList.drop 0 = dktX7_band_0 := by decide +kernel
theorem dksX7_band_1 : cX7_band.data.toList.drop 20 = dktX7_band_1 := dk_seg dksX7_band_0 20 rfl rfl
theorem dksX7_band_2 : cX7_band.data.toList.drop 64 = dktX7_band_2 := dk_seg dksX7_band_1 44 rfl rfl
theorem dksX7_band_3 : cX7_band.data.toList.drop 86 = dktX7_band_3 := dk_seg dksX7_band_2 22 rfl rfl
theorem dksX7_band_4 : cX7_band.data.toList.drop 108 = dktX7_band_4 := dk_seg dksX7_band_3 22 rfl rfl
theorem dX7_band_0 : decode cX7_band 0 = .ok (.aload_n 0, 1) := dk_42 (dk_at dksX7_band_0 0 rfl rfl)
theorem dX7_band_1 : decode cX7_band 1 = .ok (.iconst 0, 1) := dk_3 (dk_at dksX7_band_0 1 rfl rfl)
theorem dX7_band_2 : decode cX7_band 2 = .ok (.putfield 150, 3) := dk_181 0 150 (dk_at dksX7_band_0 2 rfl rfl)
theorem dX7_band_5 : decode cX7_band 5 = .ok (.aload_n 0, 1) := dk_42 (dk_at dksX7_band_0 5 rfl rfl)
theorem dX7_band_6 : decode cX7_band 6 = .ok (.iload_n 1, 1) := dk_27 (dk_at dksX7_band_0 6 rfl rfl)
theorem dX7_band_7 : decode cX7_band 7 = .ok (.invokevirtual 382, 3) := dk_182 1 126 (dk_at dksX7_band_0 7 rfl rfl)
theorem dX7_band_10 : decode cX7_band 10 = .ok (.ifCond .ne 9, 3) := dk_154 0 9 (dk_at dksX7_band_0 10 rfl rfl)
theorem dX7_band_13 : decode cX7_band 13 = .ok (.aload_n 0, 1) := dk_42 (dk_at dksX7_band_0 13 rfl rfl)
theorem dX7_band_14 : decode cX7_band 14 = .ok (.iconst 1, 1) := dk_4 (dk_at dksX7_band_0 14 rfl rfl)
theorem dX7_band_15 : decode cX7_band 15 = .ok (.invokevirtual 303, 3) := dk_182 1 47 (dk_at dksX7_band_0 15 rfl rfl)
theorem dX7_band_18 : decode cX7_band 18 = .ok (.ireturn, 1) := dk_172 (dk_at dksX7_band_0 18 rfl rfl)
theorem dX7_band_19 : decode cX7_band 19 = .ok (.iload_n 2, 1) := dk_28 (dk_at dksX7_band_0 19 rfl rfl)
theorem dX7_band_20 : decode cX7_band 20 = .ok (.tableswitch 92 0 6 #[44, 51, 58, 65, 72, 79, 86], 44) := by decide +kernel
theorem dX7_band_64 : decode cX7_band 64 = .ok (.aload_n 0, 1) := dk_42 (dk_at dksX7_band_2 0 rfl rfl)
theorem dX7_band_65 : decode cX7_band 65 = .ok (.getfield 48, 3) := dk_180 0 48 (dk_at dksX7_band_2 1 rfl rfl)
theorem dX7_band_68 : decode cX7_band 68 = .ok (.iload_n 1, 1) := dk_27 (dk_at dksX7_band_2 4 rfl rfl)
theorem dX7_band_69 : decode cX7_band 69 = .ok (.iaload, 1) := dk_46 (dk_at dksX7_band_2 5 rfl rfl)
theorem dX7_band_70 : decode cX7_band 70 = .ok (.ireturn, 1) := dk_172 (dk_at dksX7_band_2 6 rfl rfl)
theorem dX7_band_71 : decode cX7_band 71 = .ok (.aload_n 0, 1) := dk_42 (dk_at dksX7_band_2 7 rfl rfl)
theorem dX7_band_72 : decode cX7_band 72 = .ok (.getfield 80, 3) := dk_180 0 80 (dk_at dksX7_band_2 8 rfl rfl)
theorem dX7_band_75 : decode cX7_band 75 = .ok (.iload_n 1, 1) := dk_27 (dk_at dksX7_band_2 11 rfl rfl)
theorem dX7_band_76 : decode cX7_band 76 = .ok (.iaload, 1) := dk_46 (dk_at dksX7_band_2 12 rfl rfl)
theorem dX7_band_77 : decode cX7_band 77 = .ok (.ireturn, 1) := dk_172 (dk_at dksX7_band_2 13 rfl rfl)
theorem dX7_band_78 : decode cX7_band 78 = .ok (.aload_n 0, 1) := dk_42 (dk_at dksX7_band_2 14 rfl rfl)
theorem dX7_band_79 : decode cX7_band 79 = .ok (.getfield 83, 3) := dk_180 0 83 (dk_at dksX7_band_2 15 rfl rfl)
theorem dX7_band_82 : decode cX7_band 82 = .ok (.iload_n 1, 1) := dk_27 (dk_at dksX7_band_2 18 rfl rfl)
theorem dX7_band_83 : decode cX7_band 83 = .ok (.iaload, 1) := dk_46 (dk_at dksX7_band_2 19 rfl rfl)
theorem dX7_band_84 : decode cX7_band 84 = .ok (.ireturn, 1) := dk_172 (dk_at dksX7_band_2 20 rfl rfl)
theorem dX7_band_85 : decode cX7_band 85 = .ok (.aload_n 0, 1) := dk_42 (dk_at dksX7_band_2 21 rfl rfl)
theorem dX7_band_86 : decode cX7_band 86 = .ok (.getfield 86, 3) := dk_180 0 86 (dk_at dksX7_band_3 0 rfl rfl)
theorem dX7_band_89 : decode cX7_band 89 = .ok (.iload_n 1, 1) := dk_27 (dk_at dksX7_band_3 3 rfl rfl)
theorem dX7_band_90 : decode cX7_band 90 = .ok (.iaload, 1) := dk_46 (dk_at dksX7_band_3 4 rfl rfl)
theorem dX7_band_91 : decode cX7_band 91 = .ok (.ireturn, 1) := dk_172 (dk_at dksX7_band_3 5 rfl rfl)
theorem dX7_band_92 : decode cX7_band 92 = .ok (.aload_n 0, 1) := dk_42 (dk_at dksX7_band_3 6 rfl rfl)
theorem dX7_band_93 : decode cX7_band 93 = .ok (.getfield 88, 3) := dk_180 0 88 (dk_at dksX7_band_3 7 rfl rfl)
theorem dX7_band_96 : decode cX7_band 96 = .ok (.iload_n 1, 1) := dk_27 (dk_at dksX7_band_3 10 rfl rfl)
theorem dX7_band_97 : decode cX7_band 97 = .ok (.iaload, 1) := dk_46 (dk_at dksX7_band_3 11 rfl rfl)
theorem dX7_band_98 : decode cX7_band 98 = .ok (.ireturn, 1) := dk_172 (dk_at dksX7_band_3 12 rfl rfl)
theorem dX7_band_99 : decode cX7_band 99 = .ok (.aload_n 0, 1) := dk_42 (dk_at dksX7_band_3 13 rfl rfl)
theorem dX7_band_100 : decode cX7_band 100 = .ok (.getfield 90, 3) := dk_180 0 90 (dk_at dksX7_band_3 14 rfl rfl)
theorem dX7_band_103 : decode cX7_band 103 = .ok (.iload_n 1, 1) := dk_27 (dk_at dksX7_band_3 17 rfl rfl)
theorem dX7_band_104 : decode cX7_band 104 = .ok (.iaload, 1) := dk_46 (dk_at dksX7_band_3 18 rfl rfl)
theorem dX7_band_105 : decode cX7_band 105 = .ok (.ireturn, 1) := dk_172 (dk_at dksX7_band_3 19 rfl rfl)
theorem dX7_band_106 : decode cX7_band 106 = .ok (.aload_n 0, 1) := dk_42 (dk_at dksX7_band_3 20 rfl rfl)
theorem dX7_band_107 : decode cX7_band 107 = .ok (.iload_n 1, 1) := dk_27 (dk_at dksX7_band_3 21 rfl rfl)
theorem dX7_band_108 : decode cX7_band 108 = .ok (.invokevirtual 352, 3) := dk_182 1 96 (dk_at dksX7_band_4 0 rfl rfl)
theorem dX7_band_111 : decode cX7_band 111 = .ok (.ireturn, 1) := dk_172 (dk_at dksX7_band_4 3 rfl rfl)
theorem dX7_band_112 : decode cX7_band 112 = .ok (.aload_n 0, 1) := dk_42 (dk_at dksX7_band_4 4 rfl rfl)
theorem dX7_band_113 : decode cX7_band 113 = .ok (.iconst 1, 1) := dk_4 (dk_at dksX7_band_4 5 rfl rfl)
theorem dX7_band_114 : decode cX7_band 114 = .ok (.invokevirtual 303, 3) := dk_182 1 47 (dk_at dksX7_band_4 6 rfl rfl)
theorem dX7_band_117 : decode cX7_band 117 = .ok (.ireturn, 1) := dk_172 (dk_at dksX7_band_4 9 rfl rfl)
abbrev cX7_isBand : ByteArray := prog_18_method_7_code
def yX7_isBand : MethodName := ⟨RX7, "isBand", "(I)Z"⟩
def dkwX7_isBand_0 : List UInt8 := [27, 133, 9, 42, 180, 0, 29, 5, 46, 4, 100, 133, 184, 0, 153, 172]
abbrev dktX7_isBand_0 : List UInt8 := dkwX7_isBand_0 ++ []
theorem dksX7_isBand_0 : cX7_isBand.data.toList.drop 0 = dktX7_isBand_0 := by decide +kernel
theorem dX7_isBand_0 : decode cX7_isBand 0 = .ok (.iload_n 1, 1) := dk_27 (dk_at dksX7_isBand_0 0 rfl rfl)
theorem dX7_isBand_1 : decode cX7_isBand 1 = .ok (.i2l, 1) := dk_133 (dk_at dksX7_isBand_0 1 rfl rfl)
theorem dX7_isBand_2 : decode cX7_isBand 2 = .ok (.lconst 0, 1) := dk_9 (dk_at dksX7_isBand_0 2 rfl rfl)
theorem dX7_isBand_3 : decode cX7_isBand 3 = .ok (.aload_n 0, 1) := dk_42 (dk_at dksX7_isBand_0 3 rfl rfl)
theorem dX7_isBand_4 : decode cX7_isBand 4 = .ok (.getfield 29, 3) := dk_180 0 29 (dk_at dksX7_isBand_0 4 rfl rfl)
theorem dX7_isBand_7 : decode cX7_isBand 7 = .ok (.iconst 2, 1) := dk_5 (dk_at dksX7_isBand_0 7 rfl rfl)
theorem dX7_isBand_8 : decode cX7_isBand 8 = .ok (.iaload, 1) := dk_46 (dk_at dksX7_isBand_0 8 rfl rfl)
theorem dX7_isBand_9 : decode cX7_isBand 9 = .ok (.iconst 1, 1) := dk_4 (dk_at dksX7_isBand_0 9 rfl rfl)
theorem dX7_isBand_10 : decode cX7_isBand 10 = .ok (.isub, 1) := dk_100 (dk_at dksX7_isBand_0 10 rfl rfl)
theorem dX7_isBand_11 : decode cX7_isBand 11 = .ok (.i2l, 1) := dk_133 (dk_at dksX7_isBand_0 11 rfl rfl)
theorem dX7_isBand_12 : decode cX7_isBand 12 = .ok (.invokestatic 153, 3) := dk_184 0 153 (dk_at dksX7_isBand_0 12 rfl rfl)
theorem dX7_isBand_15 : decode cX7_isBand 15 = .ok (.ireturn, 1) := dk_172 (dk_at dksX7_isBand_0 15 rfl rfl)
abbrev cX7_takes : ByteArray := prog_18_method_48_code
def yX7_takes : MethodName := ⟨RX7, "takes", "(I)I"⟩
def dkwX7_takes_6 : List UInt8 := [184, 1, 93, 172]
abbrev dktX7_takes_6 : List UInt8 := dkwX7_takes_6 ++ []
def dkwX7_takes_5 : List UInt8 := [184, 1, 87, 4, 100, 79, 42, 182, 1, 90, 62, 3, 42, 180, 0, 72, 28, 46, 29, 184, 0, 187]
abbrev dktX7_takes_5 : List UInt8 := dkwX7_takes_5 ++ dktX7_takes_6
def dkwX7_takes_4 : List UInt8 := [180, 0, 96, 8, 42, 180, 0, 86, 27, 46, 79, 42, 180, 0, 96, 16, 6, 42, 28, 182, 1, 84]
abbrev dktX7_takes_4 : List UInt8 := dkwX7_takes_4 ++ dktX7_takes_5
def dkwX7_takes_3 : List UInt8 := [79, 42, 180, 0, 96, 6, 42, 27, 182, 1, 82, 79, 42, 180, 0, 96, 7, 42, 180, 1, 60, 79, 42]
abbrev dktX7_takes_3 : List UInt8 := dkwX7_takes_3 ++ dktX7_takes_4
def dkwX7_takes_2 : List UInt8 := [79, 42, 180, 0, 96, 4, 42, 180, 0, 72, 28, 46, 79, 42, 180, 0, 96, 5, 42, 180, 0, 88, 27, 46]
abbrev dktX7_takes_2 : List UInt8 := dkwX7_takes_2 ++ dktX7_takes_3
def dkwX7_takes_1 : List UInt8 := [46, 104, 62, 42, 180, 0, 29, 16, 7, 46, 158, 0, 94, 42, 180, 0, 96, 3, 42, 180, 0, 48, 27, 46]
abbrev dktX7_takes_1 : List UInt8 := dkwX7_takes_1 ++ dktX7_takes_2
def dkwX7_takes_0 : List UInt8 := [42, 180, 0, 80, 27, 46, 61, 42, 180, 0, 77, 28, 46, 158, 0, 5, 3, 172, 6, 42, 180, 0, 48, 27]
abbrev dktX7_takes_0 : List UInt8 := dkwX7_takes_0 ++ dktX7_takes_1
theorem dksX7_takes_0 : cX7_takes.data.toList.drop 0 = dktX7_takes_0 := by decide +kernel
theorem dksX7_takes_1 : cX7_takes.data.toList.drop 24 = dktX7_takes_1 := dk_seg dksX7_takes_0 24 rfl rfl
theorem dksX7_takes_2 : cX7_takes.data.toList.drop 48 = dktX7_takes_2 := dk_seg dksX7_takes_1 24 rfl rfl
theorem dksX7_takes_3 : cX7_takes.data.toList.drop 72 = dktX7_takes_3 := dk_seg dksX7_takes_2 24 rfl rfl
theorem dksX7_takes_4 : cX7_takes.data.toList.drop 95 = dktX7_takes_4 := dk_seg dksX7_takes_3 23 rfl rfl
theorem dksX7_takes_5 : cX7_takes.data.toList.drop 117 = dktX7_takes_5 := dk_seg dksX7_takes_4 22 rfl rfl
theorem dksX7_takes_6 : cX7_takes.data.toList.drop 139 = dktX7_takes_6 := dk_seg dksX7_takes_5 22 rfl rfl
theorem dX7_takes_0 : decode cX7_takes 0 = .ok (.aload_n 0, 1) := dk_42 (dk_at dksX7_takes_0 0 rfl rfl)
theorem dX7_takes_1 : decode cX7_takes 1 = .ok (.getfield 80, 3) := dk_180 0 80 (dk_at dksX7_takes_0 1 rfl rfl)
theorem dX7_takes_4 : decode cX7_takes 4 = .ok (.iload_n 1, 1) := dk_27 (dk_at dksX7_takes_0 4 rfl rfl)
theorem dX7_takes_5 : decode cX7_takes 5 = .ok (.iaload, 1) := dk_46 (dk_at dksX7_takes_0 5 rfl rfl)
theorem dX7_takes_6 : decode cX7_takes 6 = .ok (.istore_n 2, 1) := dk_61 (dk_at dksX7_takes_0 6 rfl rfl)
theorem dX7_takes_7 : decode cX7_takes 7 = .ok (.aload_n 0, 1) := dk_42 (dk_at dksX7_takes_0 7 rfl rfl)
theorem dX7_takes_8 : decode cX7_takes 8 = .ok (.getfield 77, 3) := dk_180 0 77 (dk_at dksX7_takes_0 8 rfl rfl)
theorem dX7_takes_11 : decode cX7_takes 11 = .ok (.iload_n 2, 1) := dk_28 (dk_at dksX7_takes_0 11 rfl rfl)
theorem dX7_takes_12 : decode cX7_takes 12 = .ok (.iaload, 1) := dk_46 (dk_at dksX7_takes_0 12 rfl rfl)
theorem dX7_takes_13 : decode cX7_takes 13 = .ok (.ifCond .le 5, 3) := dk_158 0 5 (dk_at dksX7_takes_0 13 rfl rfl)
theorem dX7_takes_16 : decode cX7_takes 16 = .ok (.iconst 0, 1) := dk_3 (dk_at dksX7_takes_0 16 rfl rfl)
theorem dX7_takes_17 : decode cX7_takes 17 = .ok (.ireturn, 1) := dk_172 (dk_at dksX7_takes_0 17 rfl rfl)
theorem dX7_takes_18 : decode cX7_takes 18 = .ok (.iconst 3, 1) := dk_6 (dk_at dksX7_takes_0 18 rfl rfl)
theorem dX7_takes_19 : decode cX7_takes 19 = .ok (.aload_n 0, 1) := dk_42 (dk_at dksX7_takes_0 19 rfl rfl)
theorem dX7_takes_20 : decode cX7_takes 20 = .ok (.getfield 48, 3) := dk_180 0 48 (dk_at dksX7_takes_0 20 rfl rfl)
theorem dX7_takes_23 : decode cX7_takes 23 = .ok (.iload_n 1, 1) := dk_27 (dk_at dksX7_takes_0 23 rfl rfl)
theorem dX7_takes_24 : decode cX7_takes 24 = .ok (.iaload, 1) := dk_46 (dk_at dksX7_takes_1 0 rfl rfl)
theorem dX7_takes_25 : decode cX7_takes 25 = .ok (.imul, 1) := dk_104 (dk_at dksX7_takes_1 1 rfl rfl)
theorem dX7_takes_26 : decode cX7_takes 26 = .ok (.istore_n 3, 1) := dk_62 (dk_at dksX7_takes_1 2 rfl rfl)
theorem dX7_takes_27 : decode cX7_takes 27 = .ok (.aload_n 0, 1) := dk_42 (dk_at dksX7_takes_1 3 rfl rfl)
theorem dX7_takes_28 : decode cX7_takes 28 = .ok (.getfield 29, 3) := dk_180 0 29 (dk_at dksX7_takes_1 4 rfl rfl)
theorem dX7_takes_31 : decode cX7_takes 31 = .ok (.bipush 7, 2) := dk_16 7 (dk_at dksX7_takes_1 7 rfl rfl)
theorem dX7_takes_33 : decode cX7_takes 33 = .ok (.iaload, 1) := dk_46 (dk_at dksX7_takes_1 9 rfl rfl)
theorem dX7_takes_34 : decode cX7_takes 34 = .ok (.ifCond .le 94, 3) := dk_158 0 94 (dk_at dksX7_takes_1 10 rfl rfl)
theorem dX7_takes_37 : decode cX7_takes 37 = .ok (.aload_n 0, 1) := dk_42 (dk_at dksX7_takes_1 13 rfl rfl)
theorem dX7_takes_38 : decode cX7_takes 38 = .ok (.getfield 96, 3) := dk_180 0 96 (dk_at dksX7_takes_1 14 rfl rfl)
theorem dX7_takes_41 : decode cX7_takes 41 = .ok (.iconst 0, 1) := dk_3 (dk_at dksX7_takes_1 17 rfl rfl)
theorem dX7_takes_42 : decode cX7_takes 42 = .ok (.aload_n 0, 1) := dk_42 (dk_at dksX7_takes_1 18 rfl rfl)
theorem dX7_takes_43 : decode cX7_takes 43 = .ok (.getfield 48, 3) := dk_180 0 48 (dk_at dksX7_takes_1 19 rfl rfl)
theorem dX7_takes_46 : decode cX7_takes 46 = .ok (.iload_n 1, 1) := dk_27 (dk_at dksX7_takes_1 22 rfl rfl)
theorem dX7_takes_47 : decode cX7_takes 47 = .ok (.iaload, 1) := dk_46 (dk_at dksX7_takes_1 23 rfl rfl)
theorem dX7_takes_48 : decode cX7_takes 48 = .ok (.iastore, 1) := dk_79 (dk_at dksX7_takes_2 0 rfl rfl)
theorem dX7_takes_49 : decode cX7_takes 49 = .ok (.aload_n 0, 1) := dk_42 (dk_at dksX7_takes_2 1 rfl rfl)
theorem dX7_takes_50 : decode cX7_takes 50 = .ok (.getfield 96, 3) := dk_180 0 96 (dk_at dksX7_takes_2 2 rfl rfl)
theorem dX7_takes_53 : decode cX7_takes 53 = .ok (.iconst 1, 1) := dk_4 (dk_at dksX7_takes_2 5 rfl rfl)
theorem dX7_takes_54 : decode cX7_takes 54 = .ok (.aload_n 0, 1) := dk_42 (dk_at dksX7_takes_2 6 rfl rfl)
theorem dX7_takes_55 : decode cX7_takes 55 = .ok (.getfield 72, 3) := dk_180 0 72 (dk_at dksX7_takes_2 7 rfl rfl)
theorem dX7_takes_58 : decode cX7_takes 58 = .ok (.iload_n 2, 1) := dk_28 (dk_at dksX7_takes_2 10 rfl rfl)
theorem dX7_takes_59 : decode cX7_takes 59 = .ok (.iaload, 1) := dk_46 (dk_at dksX7_takes_2 11 rfl rfl)
theorem dX7_takes_60 : decode cX7_takes 60 = .ok (.iastore, 1) := dk_79 (dk_at dksX7_takes_2 12 rfl rfl)
theorem dX7_takes_61 : decode cX7_takes 61 = .ok (.aload_n 0, 1) := dk_42 (dk_at dksX7_takes_2 13 rfl rfl)
theorem dX7_takes_62 : decode cX7_takes 62 = .ok (.getfield 96, 3) := dk_180 0 96 (dk_at dksX7_takes_2 14 rfl rfl)
theorem dX7_takes_65 : decode cX7_takes 65 = .ok (.iconst 2, 1) := dk_5 (dk_at dksX7_takes_2 17 rfl rfl)
theorem dX7_takes_66 : decode cX7_takes 66 = .ok (.aload_n 0, 1) := dk_42 (dk_at dksX7_takes_2 18 rfl rfl)
theorem dX7_takes_67 : decode cX7_takes 67 = .ok (.getfield 88, 3) := dk_180 0 88 (dk_at dksX7_takes_2 19 rfl rfl)
theorem dX7_takes_70 : decode cX7_takes 70 = .ok (.iload_n 1, 1) := dk_27 (dk_at dksX7_takes_2 22 rfl rfl)
theorem dX7_takes_71 : decode cX7_takes 71 = .ok (.iaload, 1) := dk_46 (dk_at dksX7_takes_2 23 rfl rfl)
theorem dX7_takes_72 : decode cX7_takes 72 = .ok (.iastore, 1) := dk_79 (dk_at dksX7_takes_3 0 rfl rfl)
theorem dX7_takes_73 : decode cX7_takes 73 = .ok (.aload_n 0, 1) := dk_42 (dk_at dksX7_takes_3 1 rfl rfl)
theorem dX7_takes_74 : decode cX7_takes 74 = .ok (.getfield 96, 3) := dk_180 0 96 (dk_at dksX7_takes_3 2 rfl rfl)
theorem dX7_takes_77 : decode cX7_takes 77 = .ok (.iconst 3, 1) := dk_6 (dk_at dksX7_takes_3 5 rfl rfl)
theorem dX7_takes_78 : decode cX7_takes 78 = .ok (.aload_n 0, 1) := dk_42 (dk_at dksX7_takes_3 6 rfl rfl)
theorem dX7_takes_79 : decode cX7_takes 79 = .ok (.iload_n 1, 1) := dk_27 (dk_at dksX7_takes_3 7 rfl rfl)
theorem dX7_takes_80 : decode cX7_takes 80 = .ok (.invokevirtual 338, 3) := dk_182 1 82 (dk_at dksX7_takes_3 8 rfl rfl)
theorem dX7_takes_83 : decode cX7_takes 83 = .ok (.iastore, 1) := dk_79 (dk_at dksX7_takes_3 11 rfl rfl)
theorem dX7_takes_84 : decode cX7_takes 84 = .ok (.aload_n 0, 1) := dk_42 (dk_at dksX7_takes_3 12 rfl rfl)
theorem dX7_takes_85 : decode cX7_takes 85 = .ok (.getfield 96, 3) := dk_180 0 96 (dk_at dksX7_takes_3 13 rfl rfl)
theorem dX7_takes_88 : decode cX7_takes 88 = .ok (.iconst 4, 1) := dk_7 (dk_at dksX7_takes_3 16 rfl rfl)
theorem dX7_takes_89 : decode cX7_takes 89 = .ok (.aload_n 0, 1) := dk_42 (dk_at dksX7_takes_3 17 rfl rfl)
theorem dX7_takes_90 : decode cX7_takes 90 = .ok (.getfield 316, 3) := dk_180 1 60 (dk_at dksX7_takes_3 18 rfl rfl)
theorem dX7_takes_93 : decode cX7_takes 93 = .ok (.iastore, 1) := dk_79 (dk_at dksX7_takes_3 21 rfl rfl)
theorem dX7_takes_94 : decode cX7_takes 94 = .ok (.aload_n 0, 1) := dk_42 (dk_at dksX7_takes_3 22 rfl rfl)
theorem dX7_takes_95 : decode cX7_takes 95 = .ok (.getfield 96, 3) := dk_180 0 96 (dk_at dksX7_takes_4 0 rfl rfl)
theorem dX7_takes_98 : decode cX7_takes 98 = .ok (.iconst 5, 1) := dk_8 (dk_at dksX7_takes_4 3 rfl rfl)
theorem dX7_takes_99 : decode cX7_takes 99 = .ok (.aload_n 0, 1) := dk_42 (dk_at dksX7_takes_4 4 rfl rfl)
theorem dX7_takes_100 : decode cX7_takes 100 = .ok (.getfield 86, 3) := dk_180 0 86 (dk_at dksX7_takes_4 5 rfl rfl)
theorem dX7_takes_103 : decode cX7_takes 103 = .ok (.iload_n 1, 1) := dk_27 (dk_at dksX7_takes_4 8 rfl rfl)
theorem dX7_takes_104 : decode cX7_takes 104 = .ok (.iaload, 1) := dk_46 (dk_at dksX7_takes_4 9 rfl rfl)
theorem dX7_takes_105 : decode cX7_takes 105 = .ok (.iastore, 1) := dk_79 (dk_at dksX7_takes_4 10 rfl rfl)
theorem dX7_takes_106 : decode cX7_takes 106 = .ok (.aload_n 0, 1) := dk_42 (dk_at dksX7_takes_4 11 rfl rfl)
theorem dX7_takes_107 : decode cX7_takes 107 = .ok (.getfield 96, 3) := dk_180 0 96 (dk_at dksX7_takes_4 12 rfl rfl)
theorem dX7_takes_110 : decode cX7_takes 110 = .ok (.bipush 6, 2) := dk_16 6 (dk_at dksX7_takes_4 15 rfl rfl)
theorem dX7_takes_112 : decode cX7_takes 112 = .ok (.aload_n 0, 1) := dk_42 (dk_at dksX7_takes_4 17 rfl rfl)
theorem dX7_takes_113 : decode cX7_takes 113 = .ok (.iload_n 2, 1) := dk_28 (dk_at dksX7_takes_4 18 rfl rfl)
theorem dX7_takes_114 : decode cX7_takes 114 = .ok (.invokevirtual 340, 3) := dk_182 1 84 (dk_at dksX7_takes_4 19 rfl rfl)
theorem dX7_takes_117 : decode cX7_takes 117 = .ok (.invokestatic 343, 3) := dk_184 1 87 (dk_at dksX7_takes_5 0 rfl rfl)
theorem dX7_takes_120 : decode cX7_takes 120 = .ok (.iconst 1, 1) := dk_4 (dk_at dksX7_takes_5 3 rfl rfl)
theorem dX7_takes_121 : decode cX7_takes 121 = .ok (.isub, 1) := dk_100 (dk_at dksX7_takes_5 4 rfl rfl)
theorem dX7_takes_122 : decode cX7_takes 122 = .ok (.iastore, 1) := dk_79 (dk_at dksX7_takes_5 5 rfl rfl)
theorem dX7_takes_123 : decode cX7_takes 123 = .ok (.aload_n 0, 1) := dk_42 (dk_at dksX7_takes_5 6 rfl rfl)
theorem dX7_takes_124 : decode cX7_takes 124 = .ok (.invokevirtual 346, 3) := dk_182 1 90 (dk_at dksX7_takes_5 7 rfl rfl)
theorem dX7_takes_127 : decode cX7_takes 127 = .ok (.istore_n 3, 1) := dk_62 (dk_at dksX7_takes_5 10 rfl rfl)
theorem dX7_takes_128 : decode cX7_takes 128 = .ok (.iconst 0, 1) := dk_3 (dk_at dksX7_takes_5 11 rfl rfl)
theorem dX7_takes_129 : decode cX7_takes 129 = .ok (.aload_n 0, 1) := dk_42 (dk_at dksX7_takes_5 12 rfl rfl)
theorem dX7_takes_130 : decode cX7_takes 130 = .ok (.getfield 72, 3) := dk_180 0 72 (dk_at dksX7_takes_5 13 rfl rfl)
theorem dX7_takes_133 : decode cX7_takes 133 = .ok (.iload_n 2, 1) := dk_28 (dk_at dksX7_takes_5 16 rfl rfl)
theorem dX7_takes_134 : decode cX7_takes 134 = .ok (.iaload, 1) := dk_46 (dk_at dksX7_takes_5 17 rfl rfl)
theorem dX7_takes_135 : decode cX7_takes 135 = .ok (.iload_n 3, 1) := dk_29 (dk_at dksX7_takes_5 18 rfl rfl)
theorem dX7_takes_136 : decode cX7_takes 136 = .ok (.invokestatic 187, 3) := dk_184 0 187 (dk_at dksX7_takes_5 19 rfl rfl)
theorem dX7_takes_139 : decode cX7_takes 139 = .ok (.invokestatic 349, 3) := dk_184 1 93 (dk_at dksX7_takes_6 0 rfl rfl)
theorem dX7_takes_142 : decode cX7_takes 142 = .ok (.ireturn, 1) := dk_172 (dk_at dksX7_takes_6 3 rfl rfl)
abbrev cX7_due : ByteArray := prog_18_method_47_code
def yX7_due : MethodName := ⟨RX7, "due", "(I)I"⟩
def dkwX7_due_0 : List UInt8 := [42, 180, 0, 29, 7, 46, 42, 180, 0, 83, 27, 46, 104, 172]
abbrev dktX7_due_0 : List UInt8 := dkwX7_due_0 ++ []
theorem dksX7_due_0 : cX7_due.data.toList.drop 0 = dktX7_due_0 := by decide +kernel
theorem dX7_due_0 : decode cX7_due 0 = .ok (.aload_n 0, 1) := dk_42 (dk_at dksX7_due_0 0 rfl rfl)
theorem dX7_due_1 : decode cX7_due 1 = .ok (.getfield 29, 3) := dk_180 0 29 (dk_at dksX7_due_0 1 rfl rfl)
theorem dX7_due_4 : decode cX7_due 4 = .ok (.iconst 4, 1) := dk_7 (dk_at dksX7_due_0 4 rfl rfl)
theorem dX7_due_5 : decode cX7_due 5 = .ok (.iaload, 1) := dk_46 (dk_at dksX7_due_0 5 rfl rfl)
theorem dX7_due_6 : decode cX7_due 6 = .ok (.aload_n 0, 1) := dk_42 (dk_at dksX7_due_0 6 rfl rfl)
theorem dX7_due_7 : decode cX7_due 7 = .ok (.getfield 83, 3) := dk_180 0 83 (dk_at dksX7_due_0 7 rfl rfl)
theorem dX7_due_10 : decode cX7_due 10 = .ok (.iload_n 1, 1) := dk_27 (dk_at dksX7_due_0 10 rfl rfl)
theorem dX7_due_11 : decode cX7_due 11 = .ok (.iaload, 1) := dk_46 (dk_at dksX7_due_0 11 rfl rfl)
theorem dX7_due_12 : decode cX7_due 12 = .ok (.imul, 1) := dk_104 (dk_at dksX7_due_0 12 rfl rfl)
theorem dX7_due_13 : decode cX7_due 13 = .ok (.ireturn, 1) := dk_172 (dk_at dksX7_due_0 13 rfl rfl)
abbrev cX7_bitsOf : ByteArray := prog_18_method_46_code
def yX7_bitsOf : MethodName := ⟨RX7, "bitsOf", "(I)I"⟩
def dkwX7_bitsOf_0 : List UInt8 := [3, 60, 26, 61, 28, 153, 0, 15, 132, 1, 1, 28, 28, 4, 100, 126, 61, 167, 255, 243, 27, 172]
abbrev dktX7_bitsOf_0 : List UInt8 := dkwX7_bitsOf_0 ++ []
theorem dksX7_bitsOf_0 : cX7_bitsOf.data.toList.drop 0 = dktX7_bitsOf_0 := by decide +kernel
theorem dX7_bitsOf_0 : decode cX7_bitsOf 0 = .ok (.iconst 0, 1) := dk_3 (dk_at dksX7_bitsOf_0 0 rfl rfl)
theorem dX7_bitsOf_1 : decode cX7_bitsOf 1 = .ok (.istore_n 1, 1) := dk_60 (dk_at dksX7_bitsOf_0 1 rfl rfl)
theorem dX7_bitsOf_2 : decode cX7_bitsOf 2 = .ok (.iload_n 0, 1) := dk_26 (dk_at dksX7_bitsOf_0 2 rfl rfl)
theorem dX7_bitsOf_3 : decode cX7_bitsOf 3 = .ok (.istore_n 2, 1) := dk_61 (dk_at dksX7_bitsOf_0 3 rfl rfl)
theorem dX7_bitsOf_4 : decode cX7_bitsOf 4 = .ok (.iload_n 2, 1) := dk_28 (dk_at dksX7_bitsOf_0 4 rfl rfl)
theorem dX7_bitsOf_5 : decode cX7_bitsOf 5 = .ok (.ifCond .eq 15, 3) := dk_153 0 15 (dk_at dksX7_bitsOf_0 5 rfl rfl)
theorem dX7_bitsOf_8 : decode cX7_bitsOf 8 = .ok (.iinc 1 1, 3) := dk_132 1 1 (dk_at dksX7_bitsOf_0 8 rfl rfl)
theorem dX7_bitsOf_11 : decode cX7_bitsOf 11 = .ok (.iload_n 2, 1) := dk_28 (dk_at dksX7_bitsOf_0 11 rfl rfl)
theorem dX7_bitsOf_12 : decode cX7_bitsOf 12 = .ok (.iload_n 2, 1) := dk_28 (dk_at dksX7_bitsOf_0 12 rfl rfl)
theorem dX7_bitsOf_13 : decode cX7_bitsOf 13 = .ok (.iconst 1, 1) := dk_4 (dk_at dksX7_bitsOf_0 13 rfl rfl)
theorem dX7_bitsOf_14 : decode cX7_bitsOf 14 = .ok (.isub, 1) := dk_100 (dk_at dksX7_bitsOf_0 14 rfl rfl)
theorem dX7_bitsOf_15 : decode cX7_bitsOf 15 = .ok (.iand, 1) := dk_126 (dk_at dksX7_bitsOf_0 15 rfl rfl)
theorem dX7_bitsOf_16 : decode cX7_bitsOf 16 = .ok (.istore_n 2, 1) := dk_61 (dk_at dksX7_bitsOf_0 16 rfl rfl)
theorem dX7_bitsOf_17 : decode cX7_bitsOf 17 = .ok (.goto (-13), 3) := dk_167 255 243 (dk_at dksX7_bitsOf_0 17 rfl rfl)
theorem dX7_bitsOf_20 : decode cX7_bitsOf 20 = .ok (.iload_n 1, 1) := dk_27 (dk_at dksX7_bitsOf_0 20 rfl rfl)
theorem dX7_bitsOf_21 : decode cX7_bitsOf 21 = .ok (.ireturn, 1) := dk_172 (dk_at dksX7_bitsOf_0 21 rfl rfl)
abbrev cX7_valueNow : ByteArray := prog_18_method_44_code
def yX7_valueNow : MethodName := ⟨RX7, "valueNow", "()I"⟩
def dkwX7_valueNow_5 : List UInt8 := [79, 132, 2, 1, 167, 255, 139, 42, 180, 0, 99, 3, 46, 172]
abbrev dktX7_valueNow_5 : List UInt8 := dkwX7_valueNow_5 ++ []
def dkwX7_valueNow_4 : List UInt8 := [180, 0, 99, 27, 4, 100, 29, 42, 180, 0, 99, 27, 4, 100, 46, 42, 180, 0, 99, 27, 46, 184, 1, 78]
abbrev dktX7_valueNow_4 : List UInt8 := dkwX7_valueNow_4 ++ dktX7_valueNow_5
def dkwX7_valueNow_3 : List UInt8 := [180, 0, 99, 27, 4, 100, 46, 153, 0, 7, 3, 167, 0, 4, 4, 79, 167, 0, 32, 132, 1, 255, 42]
abbrev dktX7_valueNow_3 : List UInt8 := dkwX7_valueNow_3 ++ dktX7_valueNow_4
def dkwX7_valueNow_2 : List UInt8 := [100, 46, 79, 132, 1, 1, 167, 0, 65, 29, 16, 228, 160, 0, 30, 42, 180, 0, 99, 27, 4, 100, 42]
abbrev dktX7_valueNow_2 : List UInt8 := dkwX7_valueNow_2 ++ dktX7_valueNow_3
def dkwX7_valueNow_1 : List UInt8 := [16, 236, 164, 0, 31, 42, 180, 0, 99, 27, 29, 155, 0, 7, 29, 167, 0, 11, 42, 180, 0, 96, 2, 29]
abbrev dktX7_valueNow_1 : List UInt8 := dkwX7_valueNow_1 ++ dktX7_valueNow_2
def dkwX7_valueNow_0 : List UInt8 := [3, 60, 3, 61, 28, 42, 180, 0, 29, 16, 7, 46, 162, 0, 112, 42, 180, 0, 59, 28, 46, 62, 29]
abbrev dktX7_valueNow_0 : List UInt8 := dkwX7_valueNow_0 ++ dktX7_valueNow_1
theorem dksX7_valueNow_0 : cX7_valueNow.data.toList.drop 0 = dktX7_valueNow_0 := by decide +kernel
theorem dksX7_valueNow_1 : cX7_valueNow.data.toList.drop 23 = dktX7_valueNow_1 := dk_seg dksX7_valueNow_0 23 rfl rfl
theorem dksX7_valueNow_2 : cX7_valueNow.data.toList.drop 47 = dktX7_valueNow_2 := dk_seg dksX7_valueNow_1 24 rfl rfl
theorem dksX7_valueNow_3 : cX7_valueNow.data.toList.drop 70 = dktX7_valueNow_3 := dk_seg dksX7_valueNow_2 23 rfl rfl
theorem dksX7_valueNow_4 : cX7_valueNow.data.toList.drop 93 = dktX7_valueNow_4 := dk_seg dksX7_valueNow_3 23 rfl rfl
theorem dksX7_valueNow_5 : cX7_valueNow.data.toList.drop 117 = dktX7_valueNow_5 := dk_seg dksX7_valueNow_4 24 rfl rfl
theorem dX7_valueNow_0 : decode cX7_valueNow 0 = .ok (.iconst 0, 1) := dk_3 (dk_at dksX7_valueNow_0 0 rfl rfl)
theorem dX7_valueNow_1 : decode cX7_valueNow 1 = .ok (.istore_n 1, 1) := dk_60 (dk_at dksX7_valueNow_0 1 rfl rfl)
theorem dX7_valueNow_2 : decode cX7_valueNow 2 = .ok (.iconst 0, 1) := dk_3 (dk_at dksX7_valueNow_0 2 rfl rfl)
theorem dX7_valueNow_3 : decode cX7_valueNow 3 = .ok (.istore_n 2, 1) := dk_61 (dk_at dksX7_valueNow_0 3 rfl rfl)
theorem dX7_valueNow_4 : decode cX7_valueNow 4 = .ok (.iload_n 2, 1) := dk_28 (dk_at dksX7_valueNow_0 4 rfl rfl)
theorem dX7_valueNow_5 : decode cX7_valueNow 5 = .ok (.aload_n 0, 1) := dk_42 (dk_at dksX7_valueNow_0 5 rfl rfl)
theorem dX7_valueNow_6 : decode cX7_valueNow 6 = .ok (.getfield 29, 3) := dk_180 0 29 (dk_at dksX7_valueNow_0 6 rfl rfl)
theorem dX7_valueNow_9 : decode cX7_valueNow 9 = .ok (.bipush 7, 2) := dk_16 7 (dk_at dksX7_valueNow_0 9 rfl rfl)
theorem dX7_valueNow_11 : decode cX7_valueNow 11 = .ok (.iaload, 1) := dk_46 (dk_at dksX7_valueNow_0 11 rfl rfl)
theorem dX7_valueNow_12 : decode cX7_valueNow 12 = .ok (.if_icmp .ge 112, 3) := dk_162 0 112 (dk_at dksX7_valueNow_0 12 rfl rfl)
theorem dX7_valueNow_15 : decode cX7_valueNow 15 = .ok (.aload_n 0, 1) := dk_42 (dk_at dksX7_valueNow_0 15 rfl rfl)
theorem dX7_valueNow_16 : decode cX7_valueNow 16 = .ok (.getfield 59, 3) := dk_180 0 59 (dk_at dksX7_valueNow_0 16 rfl rfl)
theorem dX7_valueNow_19 : decode cX7_valueNow 19 = .ok (.iload_n 2, 1) := dk_28 (dk_at dksX7_valueNow_0 19 rfl rfl)
theorem dX7_valueNow_20 : decode cX7_valueNow 20 = .ok (.iaload, 1) := dk_46 (dk_at dksX7_valueNow_0 20 rfl rfl)
theorem dX7_valueNow_21 : decode cX7_valueNow 21 = .ok (.istore_n 3, 1) := dk_62 (dk_at dksX7_valueNow_0 21 rfl rfl)
theorem dX7_valueNow_22 : decode cX7_valueNow 22 = .ok (.iload_n 3, 1) := dk_29 (dk_at dksX7_valueNow_0 22 rfl rfl)
theorem dX7_valueNow_23 : decode cX7_valueNow 23 = .ok (.bipush (-20), 2) := dk_16 236 (dk_at dksX7_valueNow_1 0 rfl rfl)
theorem dX7_valueNow_25 : decode cX7_valueNow 25 = .ok (.if_icmp .le 31, 3) := dk_164 0 31 (dk_at dksX7_valueNow_1 2 rfl rfl)
theorem dX7_valueNow_28 : decode cX7_valueNow 28 = .ok (.aload_n 0, 1) := dk_42 (dk_at dksX7_valueNow_1 5 rfl rfl)
theorem dX7_valueNow_29 : decode cX7_valueNow 29 = .ok (.getfield 99, 3) := dk_180 0 99 (dk_at dksX7_valueNow_1 6 rfl rfl)
theorem dX7_valueNow_32 : decode cX7_valueNow 32 = .ok (.iload_n 1, 1) := dk_27 (dk_at dksX7_valueNow_1 9 rfl rfl)
theorem dX7_valueNow_33 : decode cX7_valueNow 33 = .ok (.iload_n 3, 1) := dk_29 (dk_at dksX7_valueNow_1 10 rfl rfl)
theorem dX7_valueNow_34 : decode cX7_valueNow 34 = .ok (.ifCond .lt 7, 3) := dk_155 0 7 (dk_at dksX7_valueNow_1 11 rfl rfl)
theorem dX7_valueNow_37 : decode cX7_valueNow 37 = .ok (.iload_n 3, 1) := dk_29 (dk_at dksX7_valueNow_1 14 rfl rfl)
theorem dX7_valueNow_38 : decode cX7_valueNow 38 = .ok (.goto 11, 3) := dk_167 0 11 (dk_at dksX7_valueNow_1 15 rfl rfl)
theorem dX7_valueNow_41 : decode cX7_valueNow 41 = .ok (.aload_n 0, 1) := dk_42 (dk_at dksX7_valueNow_1 18 rfl rfl)
theorem dX7_valueNow_42 : decode cX7_valueNow 42 = .ok (.getfield 96, 3) := dk_180 0 96 (dk_at dksX7_valueNow_1 19 rfl rfl)
theorem dX7_valueNow_45 : decode cX7_valueNow 45 = .ok (.iconst (-1), 1) := dk_2 (dk_at dksX7_valueNow_1 22 rfl rfl)
theorem dX7_valueNow_46 : decode cX7_valueNow 46 = .ok (.iload_n 3, 1) := dk_29 (dk_at dksX7_valueNow_1 23 rfl rfl)
theorem dX7_valueNow_47 : decode cX7_valueNow 47 = .ok (.isub, 1) := dk_100 (dk_at dksX7_valueNow_2 0 rfl rfl)
theorem dX7_valueNow_48 : decode cX7_valueNow 48 = .ok (.iaload, 1) := dk_46 (dk_at dksX7_valueNow_2 1 rfl rfl)
theorem dX7_valueNow_49 : decode cX7_valueNow 49 = .ok (.iastore, 1) := dk_79 (dk_at dksX7_valueNow_2 2 rfl rfl)
theorem dX7_valueNow_50 : decode cX7_valueNow 50 = .ok (.iinc 1 1, 3) := dk_132 1 1 (dk_at dksX7_valueNow_2 3 rfl rfl)
theorem dX7_valueNow_53 : decode cX7_valueNow 53 = .ok (.goto 65, 3) := dk_167 0 65 (dk_at dksX7_valueNow_2 6 rfl rfl)
theorem dX7_valueNow_56 : decode cX7_valueNow 56 = .ok (.iload_n 3, 1) := dk_29 (dk_at dksX7_valueNow_2 9 rfl rfl)
theorem dX7_valueNow_57 : decode cX7_valueNow 57 = .ok (.bipush (-28), 2) := dk_16 228 (dk_at dksX7_valueNow_2 10 rfl rfl)
theorem dX7_valueNow_59 : decode cX7_valueNow 59 = .ok (.if_icmp .ne 30, 3) := dk_160 0 30 (dk_at dksX7_valueNow_2 12 rfl rfl)
theorem dX7_valueNow_62 : decode cX7_valueNow 62 = .ok (.aload_n 0, 1) := dk_42 (dk_at dksX7_valueNow_2 15 rfl rfl)
theorem dX7_valueNow_63 : decode cX7_valueNow 63 = .ok (.getfield 99, 3) := dk_180 0 99 (dk_at dksX7_valueNow_2 16 rfl rfl)
theorem dX7_valueNow_66 : decode cX7_valueNow 66 = .ok (.iload_n 1, 1) := dk_27 (dk_at dksX7_valueNow_2 19 rfl rfl)
theorem dX7_valueNow_67 : decode cX7_valueNow 67 = .ok (.iconst 1, 1) := dk_4 (dk_at dksX7_valueNow_2 20 rfl rfl)
theorem dX7_valueNow_68 : decode cX7_valueNow 68 = .ok (.isub, 1) := dk_100 (dk_at dksX7_valueNow_2 21 rfl rfl)
theorem dX7_valueNow_69 : decode cX7_valueNow 69 = .ok (.aload_n 0, 1) := dk_42 (dk_at dksX7_valueNow_2 22 rfl rfl)
theorem dX7_valueNow_70 : decode cX7_valueNow 70 = .ok (.getfield 99, 3) := dk_180 0 99 (dk_at dksX7_valueNow_3 0 rfl rfl)
theorem dX7_valueNow_73 : decode cX7_valueNow 73 = .ok (.iload_n 1, 1) := dk_27 (dk_at dksX7_valueNow_3 3 rfl rfl)
theorem dX7_valueNow_74 : decode cX7_valueNow 74 = .ok (.iconst 1, 1) := dk_4 (dk_at dksX7_valueNow_3 4 rfl rfl)
theorem dX7_valueNow_75 : decode cX7_valueNow 75 = .ok (.isub, 1) := dk_100 (dk_at dksX7_valueNow_3 5 rfl rfl)
theorem dX7_valueNow_76 : decode cX7_valueNow 76 = .ok (.iaload, 1) := dk_46 (dk_at dksX7_valueNow_3 6 rfl rfl)
theorem dX7_valueNow_77 : decode cX7_valueNow 77 = .ok (.ifCond .eq 7, 3) := dk_153 0 7 (dk_at dksX7_valueNow_3 7 rfl rfl)
theorem dX7_valueNow_80 : decode cX7_valueNow 80 = .ok (.iconst 0, 1) := dk_3 (dk_at dksX7_valueNow_3 10 rfl rfl)
theorem dX7_valueNow_81 : decode cX7_valueNow 81 = .ok (.goto 4, 3) := dk_167 0 4 (dk_at dksX7_valueNow_3 11 rfl rfl)
theorem dX7_valueNow_84 : decode cX7_valueNow 84 = .ok (.iconst 1, 1) := dk_4 (dk_at dksX7_valueNow_3 14 rfl rfl)
theorem dX7_valueNow_85 : decode cX7_valueNow 85 = .ok (.iastore, 1) := dk_79 (dk_at dksX7_valueNow_3 15 rfl rfl)
theorem dX7_valueNow_86 : decode cX7_valueNow 86 = .ok (.goto 32, 3) := dk_167 0 32 (dk_at dksX7_valueNow_3 16 rfl rfl)
theorem dX7_valueNow_89 : decode cX7_valueNow 89 = .ok (.iinc 1 (-1), 3) := dk_132 1 255 (dk_at dksX7_valueNow_3 19 rfl rfl)
theorem dX7_valueNow_92 : decode cX7_valueNow 92 = .ok (.aload_n 0, 1) := dk_42 (dk_at dksX7_valueNow_3 22 rfl rfl)
theorem dX7_valueNow_93 : decode cX7_valueNow 93 = .ok (.getfield 99, 3) := dk_180 0 99 (dk_at dksX7_valueNow_4 0 rfl rfl)
theorem dX7_valueNow_96 : decode cX7_valueNow 96 = .ok (.iload_n 1, 1) := dk_27 (dk_at dksX7_valueNow_4 3 rfl rfl)
theorem dX7_valueNow_97 : decode cX7_valueNow 97 = .ok (.iconst 1, 1) := dk_4 (dk_at dksX7_valueNow_4 4 rfl rfl)
theorem dX7_valueNow_98 : decode cX7_valueNow 98 = .ok (.isub, 1) := dk_100 (dk_at dksX7_valueNow_4 5 rfl rfl)
theorem dX7_valueNow_99 : decode cX7_valueNow 99 = .ok (.iload_n 3, 1) := dk_29 (dk_at dksX7_valueNow_4 6 rfl rfl)
theorem dX7_valueNow_100 : decode cX7_valueNow 100 = .ok (.aload_n 0, 1) := dk_42 (dk_at dksX7_valueNow_4 7 rfl rfl)
theorem dX7_valueNow_101 : decode cX7_valueNow 101 = .ok (.getfield 99, 3) := dk_180 0 99 (dk_at dksX7_valueNow_4 8 rfl rfl)
theorem dX7_valueNow_104 : decode cX7_valueNow 104 = .ok (.iload_n 1, 1) := dk_27 (dk_at dksX7_valueNow_4 11 rfl rfl)
theorem dX7_valueNow_105 : decode cX7_valueNow 105 = .ok (.iconst 1, 1) := dk_4 (dk_at dksX7_valueNow_4 12 rfl rfl)
theorem dX7_valueNow_106 : decode cX7_valueNow 106 = .ok (.isub, 1) := dk_100 (dk_at dksX7_valueNow_4 13 rfl rfl)
theorem dX7_valueNow_107 : decode cX7_valueNow 107 = .ok (.iaload, 1) := dk_46 (dk_at dksX7_valueNow_4 14 rfl rfl)
theorem dX7_valueNow_108 : decode cX7_valueNow 108 = .ok (.aload_n 0, 1) := dk_42 (dk_at dksX7_valueNow_4 15 rfl rfl)
theorem dX7_valueNow_109 : decode cX7_valueNow 109 = .ok (.getfield 99, 3) := dk_180 0 99 (dk_at dksX7_valueNow_4 16 rfl rfl)
theorem dX7_valueNow_112 : decode cX7_valueNow 112 = .ok (.iload_n 1, 1) := dk_27 (dk_at dksX7_valueNow_4 19 rfl rfl)
theorem dX7_valueNow_113 : decode cX7_valueNow 113 = .ok (.iaload, 1) := dk_46 (dk_at dksX7_valueNow_4 20 rfl rfl)
theorem dX7_valueNow_114 : decode cX7_valueNow 114 = .ok (.invokestatic 334, 3) := dk_184 1 78 (dk_at dksX7_valueNow_4 21 rfl rfl)
theorem dX7_valueNow_117 : decode cX7_valueNow 117 = .ok (.iastore, 1) := dk_79 (dk_at dksX7_valueNow_5 0 rfl rfl)
theorem dX7_valueNow_118 : decode cX7_valueNow 118 = .ok (.iinc 2 1, 3) := dk_132 2 1 (dk_at dksX7_valueNow_5 1 rfl rfl)
theorem dX7_valueNow_121 : decode cX7_valueNow 121 = .ok (.goto (-117), 3) := dk_167 255 139 (dk_at dksX7_valueNow_5 4 rfl rfl)
theorem dX7_valueNow_124 : decode cX7_valueNow 124 = .ok (.aload_n 0, 1) := dk_42 (dk_at dksX7_valueNow_5 7 rfl rfl)
theorem dX7_valueNow_125 : decode cX7_valueNow 125 = .ok (.getfield 99, 3) := dk_180 0 99 (dk_at dksX7_valueNow_5 8 rfl rfl)
theorem dX7_valueNow_128 : decode cX7_valueNow 128 = .ok (.iconst 0, 1) := dk_3 (dk_at dksX7_valueNow_5 11 rfl rfl)
theorem dX7_valueNow_129 : decode cX7_valueNow 129 = .ok (.iaload, 1) := dk_46 (dk_at dksX7_valueNow_5 12 rfl rfl)
theorem dX7_valueNow_130 : decode cX7_valueNow 130 = .ok (.ireturn, 1) := dk_172 (dk_at dksX7_valueNow_5 13 rfl rfl)
abbrev cX7_reckon : ByteArray := prog_18_method_43_code
def yX7_reckon : MethodName := ⟨RX7, "reckon", "(III)I"⟩
def dkwX7_reckon_5 : List UInt8 := [167, 0, 4, 3, 172]
abbrev dktX7_reckon_5 : List UInt8 := dkwX7_reckon_5 ++ []
def dkwX7_reckon_4 : List UInt8 := [153, 0, 11, 28, 153, 0, 7, 4, 167, 0, 4, 3, 172, 27, 154, 0, 7, 28, 153, 0, 7, 4]
abbrev dktX7_reckon_4 : List UInt8 := dkwX7_reckon_4 ++ dktX7_reckon_5
def dkwX7_reckon_3 : List UInt8 := [27, 28, 162, 0, 7, 4, 167, 0, 4, 3, 172, 27, 28, 160, 0, 7, 4, 167, 0, 4, 3, 172, 27]
abbrev dktX7_reckon_3 : List UInt8 := dkwX7_reckon_3 ++ dktX7_reckon_4
def dkwX7_reckon_2 : List UInt8 := [27, 28, 96, 172, 27, 28, 100, 172, 27, 28, 104, 172, 28, 154, 0, 7, 3, 167, 0, 6, 27, 28, 108, 172]
abbrev dktX7_reckon_2 : List UInt8 := dkwX7_reckon_2 ++ dktX7_reckon_3
def dkwX7_reckon_1 : List UInt8 := [170, 0, 0, 0, 0, 0, 103, 255, 255, 255, 230, 255, 255, 255, 236, 0, 0, 0, 89, 0, 0, 0, 78, 0, 0, 0, 67, 0, 0, 0, 55, 0, 0, 0, 51, 0, 0, 0, 47, 0, 0, 0, 43]
abbrev dktX7_reckon_1 : List UInt8 := dkwX7_reckon_1 ++ dktX7_reckon_2
def dkwX7_reckon_0 : List UInt8 := [26]
abbrev dktX7_reckon_0 : List UInt8 := dkwX7_reckon_0 ++ dktX7_reckon_1
theorem dksX7_reckon_0 : cX7_reckon.data.toList.drop 0 = dktX7_reckon_0 := by decide +kernel
theorem dksX7_reckon_1 : cX7_reckon.data.toList.drop 1 = dktX7_reckon_1 := dk_seg dksX7_reckon_0 1 rfl rfl
theorem dksX7_reckon_2 : cX7_reckon.data.toList.drop 44 = dktX7_reckon_2 := dk_seg dksX7_reckon_1 43 rfl rfl
theorem dksX7_reckon_3 : cX7_reckon.data.toList.drop 68 = dktX7_reckon_3 := dk_seg dksX7_reckon_2 24 rfl rfl
theorem dksX7_reckon_4 : cX7_reckon.data.toList.drop 91 = dktX7_reckon_4 := dk_seg dksX7_reckon_3 23 rfl rfl
theorem dksX7_reckon_5 : cX7_reckon.data.toList.drop 113 = dktX7_reckon_5 := dk_seg dksX7_reckon_4 22 rfl rfl
theorem dX7_reckon_0 : decode cX7_reckon 0 = .ok (.iload_n 0, 1) := dk_26 (dk_at dksX7_reckon_0 0 rfl rfl)
theorem dX7_reckon_1 : decode cX7_reckon 1 = .ok (.tableswitch 103 (-26) (-20) #[89, 78, 67, 55, 51, 47, 43], 43) := by decide +kernel
theorem dX7_reckon_44 : decode cX7_reckon 44 = .ok (.iload_n 1, 1) := dk_27 (dk_at dksX7_reckon_2 0 rfl rfl)
theorem dX7_reckon_45 : decode cX7_reckon 45 = .ok (.iload_n 2, 1) := dk_28 (dk_at dksX7_reckon_2 1 rfl rfl)
theorem dX7_reckon_46 : decode cX7_reckon 46 = .ok (.iadd, 1) := dk_96 (dk_at dksX7_reckon_2 2 rfl rfl)
theorem dX7_reckon_47 : decode cX7_reckon 47 = .ok (.ireturn, 1) := dk_172 (dk_at dksX7_reckon_2 3 rfl rfl)
theorem dX7_reckon_48 : decode cX7_reckon 48 = .ok (.iload_n 1, 1) := dk_27 (dk_at dksX7_reckon_2 4 rfl rfl)
theorem dX7_reckon_49 : decode cX7_reckon 49 = .ok (.iload_n 2, 1) := dk_28 (dk_at dksX7_reckon_2 5 rfl rfl)
theorem dX7_reckon_50 : decode cX7_reckon 50 = .ok (.isub, 1) := dk_100 (dk_at dksX7_reckon_2 6 rfl rfl)
theorem dX7_reckon_51 : decode cX7_reckon 51 = .ok (.ireturn, 1) := dk_172 (dk_at dksX7_reckon_2 7 rfl rfl)
theorem dX7_reckon_52 : decode cX7_reckon 52 = .ok (.iload_n 1, 1) := dk_27 (dk_at dksX7_reckon_2 8 rfl rfl)
theorem dX7_reckon_53 : decode cX7_reckon 53 = .ok (.iload_n 2, 1) := dk_28 (dk_at dksX7_reckon_2 9 rfl rfl)
theorem dX7_reckon_54 : decode cX7_reckon 54 = .ok (.imul, 1) := dk_104 (dk_at dksX7_reckon_2 10 rfl rfl)
theorem dX7_reckon_55 : decode cX7_reckon 55 = .ok (.ireturn, 1) := dk_172 (dk_at dksX7_reckon_2 11 rfl rfl)
theorem dX7_reckon_56 : decode cX7_reckon 56 = .ok (.iload_n 2, 1) := dk_28 (dk_at dksX7_reckon_2 12 rfl rfl)
theorem dX7_reckon_57 : decode cX7_reckon 57 = .ok (.ifCond .ne 7, 3) := dk_154 0 7 (dk_at dksX7_reckon_2 13 rfl rfl)
theorem dX7_reckon_60 : decode cX7_reckon 60 = .ok (.iconst 0, 1) := dk_3 (dk_at dksX7_reckon_2 16 rfl rfl)
theorem dX7_reckon_61 : decode cX7_reckon 61 = .ok (.goto 6, 3) := dk_167 0 6 (dk_at dksX7_reckon_2 17 rfl rfl)
theorem dX7_reckon_64 : decode cX7_reckon 64 = .ok (.iload_n 1, 1) := dk_27 (dk_at dksX7_reckon_2 20 rfl rfl)
theorem dX7_reckon_65 : decode cX7_reckon 65 = .ok (.iload_n 2, 1) := dk_28 (dk_at dksX7_reckon_2 21 rfl rfl)
theorem dX7_reckon_66 : decode cX7_reckon 66 = .ok (.idiv, 1) := dk_108 (dk_at dksX7_reckon_2 22 rfl rfl)
theorem dX7_reckon_67 : decode cX7_reckon 67 = .ok (.ireturn, 1) := dk_172 (dk_at dksX7_reckon_2 23 rfl rfl)
theorem dX7_reckon_68 : decode cX7_reckon 68 = .ok (.iload_n 1, 1) := dk_27 (dk_at dksX7_reckon_3 0 rfl rfl)
theorem dX7_reckon_69 : decode cX7_reckon 69 = .ok (.iload_n 2, 1) := dk_28 (dk_at dksX7_reckon_3 1 rfl rfl)
theorem dX7_reckon_70 : decode cX7_reckon 70 = .ok (.if_icmp .ge 7, 3) := dk_162 0 7 (dk_at dksX7_reckon_3 2 rfl rfl)
theorem dX7_reckon_73 : decode cX7_reckon 73 = .ok (.iconst 1, 1) := dk_4 (dk_at dksX7_reckon_3 5 rfl rfl)
theorem dX7_reckon_74 : decode cX7_reckon 74 = .ok (.goto 4, 3) := dk_167 0 4 (dk_at dksX7_reckon_3 6 rfl rfl)
theorem dX7_reckon_77 : decode cX7_reckon 77 = .ok (.iconst 0, 1) := dk_3 (dk_at dksX7_reckon_3 9 rfl rfl)
theorem dX7_reckon_78 : decode cX7_reckon 78 = .ok (.ireturn, 1) := dk_172 (dk_at dksX7_reckon_3 10 rfl rfl)
theorem dX7_reckon_79 : decode cX7_reckon 79 = .ok (.iload_n 1, 1) := dk_27 (dk_at dksX7_reckon_3 11 rfl rfl)
theorem dX7_reckon_80 : decode cX7_reckon 80 = .ok (.iload_n 2, 1) := dk_28 (dk_at dksX7_reckon_3 12 rfl rfl)
theorem dX7_reckon_81 : decode cX7_reckon 81 = .ok (.if_icmp .ne 7, 3) := dk_160 0 7 (dk_at dksX7_reckon_3 13 rfl rfl)
theorem dX7_reckon_84 : decode cX7_reckon 84 = .ok (.iconst 1, 1) := dk_4 (dk_at dksX7_reckon_3 16 rfl rfl)
theorem dX7_reckon_85 : decode cX7_reckon 85 = .ok (.goto 4, 3) := dk_167 0 4 (dk_at dksX7_reckon_3 17 rfl rfl)
theorem dX7_reckon_88 : decode cX7_reckon 88 = .ok (.iconst 0, 1) := dk_3 (dk_at dksX7_reckon_3 20 rfl rfl)
theorem dX7_reckon_89 : decode cX7_reckon 89 = .ok (.ireturn, 1) := dk_172 (dk_at dksX7_reckon_3 21 rfl rfl)
theorem dX7_reckon_90 : decode cX7_reckon 90 = .ok (.iload_n 1, 1) := dk_27 (dk_at dksX7_reckon_3 22 rfl rfl)
theorem dX7_reckon_91 : decode cX7_reckon 91 = .ok (.ifCond .eq 11, 3) := dk_153 0 11 (dk_at dksX7_reckon_4 0 rfl rfl)
theorem dX7_reckon_94 : decode cX7_reckon 94 = .ok (.iload_n 2, 1) := dk_28 (dk_at dksX7_reckon_4 3 rfl rfl)
theorem dX7_reckon_95 : decode cX7_reckon 95 = .ok (.ifCond .eq 7, 3) := dk_153 0 7 (dk_at dksX7_reckon_4 4 rfl rfl)
theorem dX7_reckon_98 : decode cX7_reckon 98 = .ok (.iconst 1, 1) := dk_4 (dk_at dksX7_reckon_4 7 rfl rfl)
theorem dX7_reckon_99 : decode cX7_reckon 99 = .ok (.goto 4, 3) := dk_167 0 4 (dk_at dksX7_reckon_4 8 rfl rfl)
theorem dX7_reckon_102 : decode cX7_reckon 102 = .ok (.iconst 0, 1) := dk_3 (dk_at dksX7_reckon_4 11 rfl rfl)
theorem dX7_reckon_103 : decode cX7_reckon 103 = .ok (.ireturn, 1) := dk_172 (dk_at dksX7_reckon_4 12 rfl rfl)
theorem dX7_reckon_104 : decode cX7_reckon 104 = .ok (.iload_n 1, 1) := dk_27 (dk_at dksX7_reckon_4 13 rfl rfl)
theorem dX7_reckon_105 : decode cX7_reckon 105 = .ok (.ifCond .ne 7, 3) := dk_154 0 7 (dk_at dksX7_reckon_4 14 rfl rfl)
theorem dX7_reckon_108 : decode cX7_reckon 108 = .ok (.iload_n 2, 1) := dk_28 (dk_at dksX7_reckon_4 17 rfl rfl)
theorem dX7_reckon_109 : decode cX7_reckon 109 = .ok (.ifCond .eq 7, 3) := dk_153 0 7 (dk_at dksX7_reckon_4 18 rfl rfl)
theorem dX7_reckon_112 : decode cX7_reckon 112 = .ok (.iconst 1, 1) := dk_4 (dk_at dksX7_reckon_4 21 rfl rfl)
theorem dX7_reckon_113 : decode cX7_reckon 113 = .ok (.goto 4, 3) := dk_167 0 4 (dk_at dksX7_reckon_5 0 rfl rfl)
theorem dX7_reckon_116 : decode cX7_reckon 116 = .ok (.iconst 0, 1) := dk_3 (dk_at dksX7_reckon_5 3 rfl rfl)
theorem dX7_reckon_117 : decode cX7_reckon 117 = .ok (.ireturn, 1) := dk_172 (dk_at dksX7_reckon_5 4 rfl rfl)
abbrev cX7_years : ByteArray := prog_18_method_62_code
def yX7_years : MethodName := ⟨RX7, "years", "(I)I"⟩
def dkwX7_years_2 : List UInt8 := [180, 1, 60, 172]
abbrev dktX7_years_2 : List UInt8 := dkwX7_years_2 ++ []
def dkwX7_years_1 : List UInt8 := [17, 3, 231, 164, 0, 9, 42, 4, 182, 1, 135, 172, 42, 182, 1, 138, 42, 27, 182, 1, 141, 42]
abbrev dktX7_years_1 : List UInt8 := dkwX7_years_1 ++ dktX7_years_2
def dkwX7_years_0 : List UInt8 := [42, 3, 181, 0, 150, 27, 133, 10, 20, 1, 133, 184, 0, 153, 153, 0, 15, 42, 180, 1, 60, 27, 96]
abbrev dktX7_years_0 : List UInt8 := dkwX7_years_0 ++ dktX7_years_1
theorem dksX7_years_0 : cX7_years.data.toList.drop 0 = dktX7_years_0 := by decide +kernel
theorem dksX7_years_1 : cX7_years.data.toList.drop 23 = dktX7_years_1 := dk_seg dksX7_years_0 23 rfl rfl
theorem dksX7_years_2 : cX7_years.data.toList.drop 45 = dktX7_years_2 := dk_seg dksX7_years_1 22 rfl rfl
theorem dX7_years_0 : decode cX7_years 0 = .ok (.aload_n 0, 1) := dk_42 (dk_at dksX7_years_0 0 rfl rfl)
theorem dX7_years_1 : decode cX7_years 1 = .ok (.iconst 0, 1) := dk_3 (dk_at dksX7_years_0 1 rfl rfl)
theorem dX7_years_2 : decode cX7_years 2 = .ok (.putfield 150, 3) := dk_181 0 150 (dk_at dksX7_years_0 2 rfl rfl)
theorem dX7_years_5 : decode cX7_years 5 = .ok (.iload_n 1, 1) := dk_27 (dk_at dksX7_years_0 5 rfl rfl)
theorem dX7_years_6 : decode cX7_years 6 = .ok (.i2l, 1) := dk_133 (dk_at dksX7_years_0 6 rfl rfl)
theorem dX7_years_7 : decode cX7_years 7 = .ok (.lconst 1, 1) := dk_10 (dk_at dksX7_years_0 7 rfl rfl)
theorem dX7_years_8 : decode cX7_years 8 = .ok (.ldc2_w 389, 3) := dk_20 1 133 (dk_at dksX7_years_0 8 rfl rfl)
theorem dX7_years_11 : decode cX7_years 11 = .ok (.invokestatic 153, 3) := dk_184 0 153 (dk_at dksX7_years_0 11 rfl rfl)
theorem dX7_years_14 : decode cX7_years 14 = .ok (.ifCond .eq 15, 3) := dk_153 0 15 (dk_at dksX7_years_0 14 rfl rfl)
theorem dX7_years_17 : decode cX7_years 17 = .ok (.aload_n 0, 1) := dk_42 (dk_at dksX7_years_0 17 rfl rfl)
theorem dX7_years_18 : decode cX7_years 18 = .ok (.getfield 316, 3) := dk_180 1 60 (dk_at dksX7_years_0 18 rfl rfl)
theorem dX7_years_21 : decode cX7_years 21 = .ok (.iload_n 1, 1) := dk_27 (dk_at dksX7_years_0 21 rfl rfl)
theorem dX7_years_22 : decode cX7_years 22 = .ok (.iadd, 1) := dk_96 (dk_at dksX7_years_0 22 rfl rfl)
theorem dX7_years_23 : decode cX7_years 23 = .ok (.sipush 999, 3) := dk_17 3 231 (dk_at dksX7_years_1 0 rfl rfl)
theorem dX7_years_26 : decode cX7_years 26 = .ok (.if_icmp .le 9, 3) := dk_164 0 9 (dk_at dksX7_years_1 3 rfl rfl)
theorem dX7_years_29 : decode cX7_years 29 = .ok (.aload_n 0, 1) := dk_42 (dk_at dksX7_years_1 6 rfl rfl)
theorem dX7_years_30 : decode cX7_years 30 = .ok (.iconst 1, 1) := dk_4 (dk_at dksX7_years_1 7 rfl rfl)
theorem dX7_years_31 : decode cX7_years 31 = .ok (.invokevirtual 391, 3) := dk_182 1 135 (dk_at dksX7_years_1 8 rfl rfl)
theorem dX7_years_34 : decode cX7_years 34 = .ok (.ireturn, 1) := dk_172 (dk_at dksX7_years_1 11 rfl rfl)
theorem dX7_years_35 : decode cX7_years 35 = .ok (.aload_n 0, 1) := dk_42 (dk_at dksX7_years_1 12 rfl rfl)
theorem dX7_years_36 : decode cX7_years 36 = .ok (.invokevirtual 394, 3) := dk_182 1 138 (dk_at dksX7_years_1 13 rfl rfl)
theorem dX7_years_39 : decode cX7_years 39 = .ok (.aload_n 0, 1) := dk_42 (dk_at dksX7_years_1 16 rfl rfl)
theorem dX7_years_40 : decode cX7_years 40 = .ok (.iload_n 1, 1) := dk_27 (dk_at dksX7_years_1 17 rfl rfl)
theorem dX7_years_41 : decode cX7_years 41 = .ok (.invokevirtual 397, 3) := dk_182 1 141 (dk_at dksX7_years_1 18 rfl rfl)
theorem dX7_years_44 : decode cX7_years 44 = .ok (.aload_n 0, 1) := dk_42 (dk_at dksX7_years_1 21 rfl rfl)
theorem dX7_years_45 : decode cX7_years 45 = .ok (.getfield 316, 3) := dk_180 1 60 (dk_at dksX7_years_2 0 rfl rfl)
theorem dX7_years_48 : decode cX7_years 48 = .ok (.ireturn, 1) := dk_172 (dk_at dksX7_years_2 3 rfl rfl)
abbrev cX7_refuse : ByteArray := prog_18_method_60_code
def yX7_refuse : MethodName := ⟨RX7, "refuse", "(I)I"⟩
def dkwX7_refuse_0 : List UInt8 := [42, 180, 0, 62, 27, 92, 46, 4, 96, 79, 2, 172]
abbrev dktX7_refuse_0 : List UInt8 := dkwX7_refuse_0 ++ []
theorem dksX7_refuse_0 : cX7_refuse.data.toList.drop 0 = dktX7_refuse_0 := by decide +kernel
theorem dX7_refuse_0 : decode cX7_refuse 0 = .ok (.aload_n 0, 1) := dk_42 (dk_at dksX7_refuse_0 0 rfl rfl)
theorem dX7_refuse_1 : decode cX7_refuse 1 = .ok (.getfield 62, 3) := dk_180 0 62 (dk_at dksX7_refuse_0 1 rfl rfl)
theorem dX7_refuse_4 : decode cX7_refuse 4 = .ok (.iload_n 1, 1) := dk_27 (dk_at dksX7_refuse_0 4 rfl rfl)
theorem dX7_refuse_5 : decode cX7_refuse 5 = .ok (.dup2, 1) := dk_92 (dk_at dksX7_refuse_0 5 rfl rfl)
theorem dX7_refuse_6 : decode cX7_refuse 6 = .ok (.iaload, 1) := dk_46 (dk_at dksX7_refuse_0 6 rfl rfl)
theorem dX7_refuse_7 : decode cX7_refuse 7 = .ok (.iconst 1, 1) := dk_4 (dk_at dksX7_refuse_0 7 rfl rfl)
theorem dX7_refuse_8 : decode cX7_refuse 8 = .ok (.iadd, 1) := dk_96 (dk_at dksX7_refuse_0 8 rfl rfl)
theorem dX7_refuse_9 : decode cX7_refuse 9 = .ok (.iastore, 1) := dk_79 (dk_at dksX7_refuse_0 9 rfl rfl)
theorem dX7_refuse_10 : decode cX7_refuse 10 = .ok (.iconst (-1), 1) := dk_2 (dk_at dksX7_refuse_0 10 rfl rfl)
theorem dX7_refuse_11 : decode cX7_refuse 11 = .ok (.ireturn, 1) := dk_172 (dk_at dksX7_refuse_0 11 rfl rfl)
abbrev cX7_keep : ByteArray := prog_18_method_61_code
def yX7_keep : MethodName := ⟨RX7, "keep", "()V"⟩
def dkwX7_keep_3 : List UInt8 := [89, 180, 1, 68, 4, 96, 181, 1, 68, 177]
abbrev dktX7_keep_3 : List UInt8 := dkwX7_keep_3 ++ []
def dkwX7_keep_2 : List UInt8 := [180, 1, 68, 4, 100, 181, 1, 68, 42, 42, 180, 0, 93, 16, 57, 42, 180, 1, 68, 104, 182, 1, 129, 42]
abbrev dktX7_keep_2 : List UInt8 := dkwX7_keep_2 ++ dktX7_keep_3
def dkwX7_keep_1 : List UInt8 := [180, 0, 93, 27, 16, 57, 100, 42, 180, 0, 93, 27, 46, 79, 132, 1, 1, 167, 255, 229, 42, 89]
abbrev dktX7_keep_1 : List UInt8 := dkwX7_keep_1 ++ dktX7_keep_2
def dkwX7_keep_0 : List UInt8 := [42, 180, 1, 68, 16, 40, 160, 0, 46, 16, 57, 60, 27, 42, 180, 0, 93, 190, 162, 0, 24, 42]
abbrev dktX7_keep_0 : List UInt8 := dkwX7_keep_0 ++ dktX7_keep_1
theorem dksX7_keep_0 : cX7_keep.data.toList.drop 0 = dktX7_keep_0 := by decide +kernel
theorem dksX7_keep_1 : cX7_keep.data.toList.drop 22 = dktX7_keep_1 := dk_seg dksX7_keep_0 22 rfl rfl
theorem dksX7_keep_2 : cX7_keep.data.toList.drop 44 = dktX7_keep_2 := dk_seg dksX7_keep_1 22 rfl rfl
theorem dksX7_keep_3 : cX7_keep.data.toList.drop 68 = dktX7_keep_3 := dk_seg dksX7_keep_2 24 rfl rfl
theorem dX7_keep_0 : decode cX7_keep 0 = .ok (.aload_n 0, 1) := dk_42 (dk_at dksX7_keep_0 0 rfl rfl)
theorem dX7_keep_1 : decode cX7_keep 1 = .ok (.getfield 324, 3) := dk_180 1 68 (dk_at dksX7_keep_0 1 rfl rfl)
theorem dX7_keep_4 : decode cX7_keep 4 = .ok (.bipush 40, 2) := dk_16 40 (dk_at dksX7_keep_0 4 rfl rfl)
theorem dX7_keep_6 : decode cX7_keep 6 = .ok (.if_icmp .ne 46, 3) := dk_160 0 46 (dk_at dksX7_keep_0 6 rfl rfl)
theorem dX7_keep_9 : decode cX7_keep 9 = .ok (.bipush 57, 2) := dk_16 57 (dk_at dksX7_keep_0 9 rfl rfl)
theorem dX7_keep_11 : decode cX7_keep 11 = .ok (.istore_n 1, 1) := dk_60 (dk_at dksX7_keep_0 11 rfl rfl)
theorem dX7_keep_12 : decode cX7_keep 12 = .ok (.iload_n 1, 1) := dk_27 (dk_at dksX7_keep_0 12 rfl rfl)
theorem dX7_keep_13 : decode cX7_keep 13 = .ok (.aload_n 0, 1) := dk_42 (dk_at dksX7_keep_0 13 rfl rfl)
theorem dX7_keep_14 : decode cX7_keep 14 = .ok (.getfield 93, 3) := dk_180 0 93 (dk_at dksX7_keep_0 14 rfl rfl)
theorem dX7_keep_17 : decode cX7_keep 17 = .ok (.arraylength, 1) := dk_190 (dk_at dksX7_keep_0 17 rfl rfl)
theorem dX7_keep_18 : decode cX7_keep 18 = .ok (.if_icmp .ge 24, 3) := dk_162 0 24 (dk_at dksX7_keep_0 18 rfl rfl)
theorem dX7_keep_21 : decode cX7_keep 21 = .ok (.aload_n 0, 1) := dk_42 (dk_at dksX7_keep_0 21 rfl rfl)
theorem dX7_keep_22 : decode cX7_keep 22 = .ok (.getfield 93, 3) := dk_180 0 93 (dk_at dksX7_keep_1 0 rfl rfl)
theorem dX7_keep_25 : decode cX7_keep 25 = .ok (.iload_n 1, 1) := dk_27 (dk_at dksX7_keep_1 3 rfl rfl)
theorem dX7_keep_26 : decode cX7_keep 26 = .ok (.bipush 57, 2) := dk_16 57 (dk_at dksX7_keep_1 4 rfl rfl)
theorem dX7_keep_28 : decode cX7_keep 28 = .ok (.isub, 1) := dk_100 (dk_at dksX7_keep_1 6 rfl rfl)
theorem dX7_keep_29 : decode cX7_keep 29 = .ok (.aload_n 0, 1) := dk_42 (dk_at dksX7_keep_1 7 rfl rfl)
theorem dX7_keep_30 : decode cX7_keep 30 = .ok (.getfield 93, 3) := dk_180 0 93 (dk_at dksX7_keep_1 8 rfl rfl)
theorem dX7_keep_33 : decode cX7_keep 33 = .ok (.iload_n 1, 1) := dk_27 (dk_at dksX7_keep_1 11 rfl rfl)
theorem dX7_keep_34 : decode cX7_keep 34 = .ok (.iaload, 1) := dk_46 (dk_at dksX7_keep_1 12 rfl rfl)
theorem dX7_keep_35 : decode cX7_keep 35 = .ok (.iastore, 1) := dk_79 (dk_at dksX7_keep_1 13 rfl rfl)
theorem dX7_keep_36 : decode cX7_keep 36 = .ok (.iinc 1 1, 3) := dk_132 1 1 (dk_at dksX7_keep_1 14 rfl rfl)
theorem dX7_keep_39 : decode cX7_keep 39 = .ok (.goto (-27), 3) := dk_167 255 229 (dk_at dksX7_keep_1 17 rfl rfl)
theorem dX7_keep_42 : decode cX7_keep 42 = .ok (.aload_n 0, 1) := dk_42 (dk_at dksX7_keep_1 20 rfl rfl)
theorem dX7_keep_43 : decode cX7_keep 43 = .ok (.dup, 1) := dk_89 (dk_at dksX7_keep_1 21 rfl rfl)
theorem dX7_keep_44 : decode cX7_keep 44 = .ok (.getfield 324, 3) := dk_180 1 68 (dk_at dksX7_keep_2 0 rfl rfl)
theorem dX7_keep_47 : decode cX7_keep 47 = .ok (.iconst 1, 1) := dk_4 (dk_at dksX7_keep_2 3 rfl rfl)
theorem dX7_keep_48 : decode cX7_keep 48 = .ok (.isub, 1) := dk_100 (dk_at dksX7_keep_2 4 rfl rfl)
theorem dX7_keep_49 : decode cX7_keep 49 = .ok (.putfield 324, 3) := dk_181 1 68 (dk_at dksX7_keep_2 5 rfl rfl)
theorem dX7_keep_52 : decode cX7_keep 52 = .ok (.aload_n 0, 1) := dk_42 (dk_at dksX7_keep_2 8 rfl rfl)
theorem dX7_keep_53 : decode cX7_keep 53 = .ok (.aload_n 0, 1) := dk_42 (dk_at dksX7_keep_2 9 rfl rfl)
theorem dX7_keep_54 : decode cX7_keep 54 = .ok (.getfield 93, 3) := dk_180 0 93 (dk_at dksX7_keep_2 10 rfl rfl)
theorem dX7_keep_57 : decode cX7_keep 57 = .ok (.bipush 57, 2) := dk_16 57 (dk_at dksX7_keep_2 13 rfl rfl)
theorem dX7_keep_59 : decode cX7_keep 59 = .ok (.aload_n 0, 1) := dk_42 (dk_at dksX7_keep_2 15 rfl rfl)
theorem dX7_keep_60 : decode cX7_keep 60 = .ok (.getfield 324, 3) := dk_180 1 68 (dk_at dksX7_keep_2 16 rfl rfl)
theorem dX7_keep_63 : decode cX7_keep 63 = .ok (.imul, 1) := dk_104 (dk_at dksX7_keep_2 19 rfl rfl)
theorem dX7_keep_64 : decode cX7_keep 64 = .ok (.invokevirtual 385, 3) := dk_182 1 129 (dk_at dksX7_keep_2 20 rfl rfl)
theorem dX7_keep_67 : decode cX7_keep 67 = .ok (.aload_n 0, 1) := dk_42 (dk_at dksX7_keep_2 23 rfl rfl)
theorem dX7_keep_68 : decode cX7_keep 68 = .ok (.dup, 1) := dk_89 (dk_at dksX7_keep_3 0 rfl rfl)
theorem dX7_keep_69 : decode cX7_keep 69 = .ok (.getfield 324, 3) := dk_180 1 68 (dk_at dksX7_keep_3 1 rfl rfl)
theorem dX7_keep_72 : decode cX7_keep 72 = .ok (.iconst 1, 1) := dk_4 (dk_at dksX7_keep_3 4 rfl rfl)
theorem dX7_keep_73 : decode cX7_keep 73 = .ok (.iadd, 1) := dk_96 (dk_at dksX7_keep_3 5 rfl rfl)
theorem dX7_keep_74 : decode cX7_keep 74 = .ok (.putfield 324, 3) := dk_181 1 68 (dk_at dksX7_keep_3 6 rfl rfl)
theorem dX7_keep_77 : decode cX7_keep 77 = .ok (.return_, 1) := dk_177 (dk_at dksX7_keep_3 9 rfl rfl)
abbrev cX7_pack : ByteArray := prog_18_method_41_code
def yX7_pack : MethodName := ⟨RX7, "pack", "([II)V"⟩
def dkwX7_pack_7 : List UInt8 := [96, 21, 4, 96, 42, 180, 0, 90, 21, 4, 46, 79, 132, 4, 1, 167, 255, 169, 177]
abbrev dktX7_pack_7 : List UInt8 := dkwX7_pack_7 ++ []
def dkwX7_pack_6 : List UInt8 := [21, 4, 46, 79, 43, 29, 16, 18, 96, 21, 4, 96, 42, 180, 0, 88, 21, 4, 46, 79, 43, 29, 16, 24]
abbrev dktX7_pack_6 : List UInt8 := dkwX7_pack_6 ++ dktX7_pack_7
def dkwX7_pack_5 : List UInt8 := [21, 4, 96, 42, 180, 0, 83, 21, 4, 46, 79, 43, 29, 16, 12, 96, 21, 4, 96, 42, 180, 0, 86]
abbrev dktX7_pack_5 : List UInt8 := dkwX7_pack_5 ++ dktX7_pack_6
def dkwX7_pack_4 : List UInt8 := [16, 6, 162, 0, 86, 43, 29, 21, 4, 96, 42, 180, 0, 80, 21, 4, 46, 79, 43, 29, 16, 6, 96]
abbrev dktX7_pack_4 : List UInt8 := dkwX7_pack_4 ++ dktX7_pack_5
def dkwX7_pack_3 : List UInt8 := [180, 0, 77, 29, 46, 79, 132, 3, 1, 167, 255, 202, 28, 6, 96, 16, 24, 96, 62, 3, 54, 4, 21, 4]
abbrev dktX7_pack_3 : List UInt8 := dkwX7_pack_3 ++ dktX7_pack_4
def dkwX7_pack_2 : List UInt8 := [6, 96, 16, 8, 96, 29, 96, 42, 180, 0, 74, 29, 46, 79, 43, 28, 6, 96, 16, 16, 96, 29, 96, 42]
abbrev dktX7_pack_2 : List UInt8 := dkwX7_pack_2 ++ dktX7_pack_3
def dkwX7_pack_1 : List UInt8 := [79, 3, 62, 29, 16, 8, 162, 0, 54, 43, 28, 6, 96, 29, 96, 42, 180, 0, 72, 29, 46, 79, 43, 28]
abbrev dktX7_pack_1 : List UInt8 := dkwX7_pack_1 ++ dktX7_pack_2
def dkwX7_pack_0 : List UInt8 := [43, 28, 42, 180, 1, 60, 79, 43, 28, 4, 96, 42, 180, 1, 62, 79, 43, 28, 5, 96, 42, 180, 1, 65]
abbrev dktX7_pack_0 : List UInt8 := dkwX7_pack_0 ++ dktX7_pack_1
theorem dksX7_pack_0 : cX7_pack.data.toList.drop 0 = dktX7_pack_0 := by decide +kernel
theorem dksX7_pack_1 : cX7_pack.data.toList.drop 24 = dktX7_pack_1 := dk_seg dksX7_pack_0 24 rfl rfl
theorem dksX7_pack_2 : cX7_pack.data.toList.drop 48 = dktX7_pack_2 := dk_seg dksX7_pack_1 24 rfl rfl
theorem dksX7_pack_3 : cX7_pack.data.toList.drop 72 = dktX7_pack_3 := dk_seg dksX7_pack_2 24 rfl rfl
theorem dksX7_pack_4 : cX7_pack.data.toList.drop 96 = dktX7_pack_4 := dk_seg dksX7_pack_3 24 rfl rfl
theorem dksX7_pack_5 : cX7_pack.data.toList.drop 119 = dktX7_pack_5 := dk_seg dksX7_pack_4 23 rfl rfl
theorem dksX7_pack_6 : cX7_pack.data.toList.drop 142 = dktX7_pack_6 := dk_seg dksX7_pack_5 23 rfl rfl
theorem dksX7_pack_7 : cX7_pack.data.toList.drop 166 = dktX7_pack_7 := dk_seg dksX7_pack_6 24 rfl rfl
theorem dX7_pack_0 : decode cX7_pack 0 = .ok (.aload_n 1, 1) := dk_43 (dk_at dksX7_pack_0 0 rfl rfl)
theorem dX7_pack_1 : decode cX7_pack 1 = .ok (.iload_n 2, 1) := dk_28 (dk_at dksX7_pack_0 1 rfl rfl)
theorem dX7_pack_2 : decode cX7_pack 2 = .ok (.aload_n 0, 1) := dk_42 (dk_at dksX7_pack_0 2 rfl rfl)
theorem dX7_pack_3 : decode cX7_pack 3 = .ok (.getfield 316, 3) := dk_180 1 60 (dk_at dksX7_pack_0 3 rfl rfl)
theorem dX7_pack_6 : decode cX7_pack 6 = .ok (.iastore, 1) := dk_79 (dk_at dksX7_pack_0 6 rfl rfl)
theorem dX7_pack_7 : decode cX7_pack 7 = .ok (.aload_n 1, 1) := dk_43 (dk_at dksX7_pack_0 7 rfl rfl)
theorem dX7_pack_8 : decode cX7_pack 8 = .ok (.iload_n 2, 1) := dk_28 (dk_at dksX7_pack_0 8 rfl rfl)
theorem dX7_pack_9 : decode cX7_pack 9 = .ok (.iconst 1, 1) := dk_4 (dk_at dksX7_pack_0 9 rfl rfl)
theorem dX7_pack_10 : decode cX7_pack 10 = .ok (.iadd, 1) := dk_96 (dk_at dksX7_pack_0 10 rfl rfl)
theorem dX7_pack_11 : decode cX7_pack 11 = .ok (.aload_n 0, 1) := dk_42 (dk_at dksX7_pack_0 11 rfl rfl)
theorem dX7_pack_12 : decode cX7_pack 12 = .ok (.getfield 318, 3) := dk_180 1 62 (dk_at dksX7_pack_0 12 rfl rfl)
theorem dX7_pack_15 : decode cX7_pack 15 = .ok (.iastore, 1) := dk_79 (dk_at dksX7_pack_0 15 rfl rfl)
theorem dX7_pack_16 : decode cX7_pack 16 = .ok (.aload_n 1, 1) := dk_43 (dk_at dksX7_pack_0 16 rfl rfl)
theorem dX7_pack_17 : decode cX7_pack 17 = .ok (.iload_n 2, 1) := dk_28 (dk_at dksX7_pack_0 17 rfl rfl)
theorem dX7_pack_18 : decode cX7_pack 18 = .ok (.iconst 2, 1) := dk_5 (dk_at dksX7_pack_0 18 rfl rfl)
theorem dX7_pack_19 : decode cX7_pack 19 = .ok (.iadd, 1) := dk_96 (dk_at dksX7_pack_0 19 rfl rfl)
theorem dX7_pack_20 : decode cX7_pack 20 = .ok (.aload_n 0, 1) := dk_42 (dk_at dksX7_pack_0 20 rfl rfl)
theorem dX7_pack_21 : decode cX7_pack 21 = .ok (.getfield 321, 3) := dk_180 1 65 (dk_at dksX7_pack_0 21 rfl rfl)
theorem dX7_pack_24 : decode cX7_pack 24 = .ok (.iastore, 1) := dk_79 (dk_at dksX7_pack_1 0 rfl rfl)
theorem dX7_pack_25 : decode cX7_pack 25 = .ok (.iconst 0, 1) := dk_3 (dk_at dksX7_pack_1 1 rfl rfl)
theorem dX7_pack_26 : decode cX7_pack 26 = .ok (.istore_n 3, 1) := dk_62 (dk_at dksX7_pack_1 2 rfl rfl)
theorem dX7_pack_27 : decode cX7_pack 27 = .ok (.iload_n 3, 1) := dk_29 (dk_at dksX7_pack_1 3 rfl rfl)
theorem dX7_pack_28 : decode cX7_pack 28 = .ok (.bipush 8, 2) := dk_16 8 (dk_at dksX7_pack_1 4 rfl rfl)
theorem dX7_pack_30 : decode cX7_pack 30 = .ok (.if_icmp .ge 54, 3) := dk_162 0 54 (dk_at dksX7_pack_1 6 rfl rfl)
theorem dX7_pack_33 : decode cX7_pack 33 = .ok (.aload_n 1, 1) := dk_43 (dk_at dksX7_pack_1 9 rfl rfl)
theorem dX7_pack_34 : decode cX7_pack 34 = .ok (.iload_n 2, 1) := dk_28 (dk_at dksX7_pack_1 10 rfl rfl)
theorem dX7_pack_35 : decode cX7_pack 35 = .ok (.iconst 3, 1) := dk_6 (dk_at dksX7_pack_1 11 rfl rfl)
theorem dX7_pack_36 : decode cX7_pack 36 = .ok (.iadd, 1) := dk_96 (dk_at dksX7_pack_1 12 rfl rfl)
theorem dX7_pack_37 : decode cX7_pack 37 = .ok (.iload_n 3, 1) := dk_29 (dk_at dksX7_pack_1 13 rfl rfl)
theorem dX7_pack_38 : decode cX7_pack 38 = .ok (.iadd, 1) := dk_96 (dk_at dksX7_pack_1 14 rfl rfl)
theorem dX7_pack_39 : decode cX7_pack 39 = .ok (.aload_n 0, 1) := dk_42 (dk_at dksX7_pack_1 15 rfl rfl)
theorem dX7_pack_40 : decode cX7_pack 40 = .ok (.getfield 72, 3) := dk_180 0 72 (dk_at dksX7_pack_1 16 rfl rfl)
theorem dX7_pack_43 : decode cX7_pack 43 = .ok (.iload_n 3, 1) := dk_29 (dk_at dksX7_pack_1 19 rfl rfl)
theorem dX7_pack_44 : decode cX7_pack 44 = .ok (.iaload, 1) := dk_46 (dk_at dksX7_pack_1 20 rfl rfl)
theorem dX7_pack_45 : decode cX7_pack 45 = .ok (.iastore, 1) := dk_79 (dk_at dksX7_pack_1 21 rfl rfl)
theorem dX7_pack_46 : decode cX7_pack 46 = .ok (.aload_n 1, 1) := dk_43 (dk_at dksX7_pack_1 22 rfl rfl)
theorem dX7_pack_47 : decode cX7_pack 47 = .ok (.iload_n 2, 1) := dk_28 (dk_at dksX7_pack_1 23 rfl rfl)
theorem dX7_pack_48 : decode cX7_pack 48 = .ok (.iconst 3, 1) := dk_6 (dk_at dksX7_pack_2 0 rfl rfl)
theorem dX7_pack_49 : decode cX7_pack 49 = .ok (.iadd, 1) := dk_96 (dk_at dksX7_pack_2 1 rfl rfl)
theorem dX7_pack_50 : decode cX7_pack 50 = .ok (.bipush 8, 2) := dk_16 8 (dk_at dksX7_pack_2 2 rfl rfl)
theorem dX7_pack_52 : decode cX7_pack 52 = .ok (.iadd, 1) := dk_96 (dk_at dksX7_pack_2 4 rfl rfl)
theorem dX7_pack_53 : decode cX7_pack 53 = .ok (.iload_n 3, 1) := dk_29 (dk_at dksX7_pack_2 5 rfl rfl)
theorem dX7_pack_54 : decode cX7_pack 54 = .ok (.iadd, 1) := dk_96 (dk_at dksX7_pack_2 6 rfl rfl)
theorem dX7_pack_55 : decode cX7_pack 55 = .ok (.aload_n 0, 1) := dk_42 (dk_at dksX7_pack_2 7 rfl rfl)
theorem dX7_pack_56 : decode cX7_pack 56 = .ok (.getfield 74, 3) := dk_180 0 74 (dk_at dksX7_pack_2 8 rfl rfl)
theorem dX7_pack_59 : decode cX7_pack 59 = .ok (.iload_n 3, 1) := dk_29 (dk_at dksX7_pack_2 11 rfl rfl)
theorem dX7_pack_60 : decode cX7_pack 60 = .ok (.iaload, 1) := dk_46 (dk_at dksX7_pack_2 12 rfl rfl)
theorem dX7_pack_61 : decode cX7_pack 61 = .ok (.iastore, 1) := dk_79 (dk_at dksX7_pack_2 13 rfl rfl)
theorem dX7_pack_62 : decode cX7_pack 62 = .ok (.aload_n 1, 1) := dk_43 (dk_at dksX7_pack_2 14 rfl rfl)
theorem dX7_pack_63 : decode cX7_pack 63 = .ok (.iload_n 2, 1) := dk_28 (dk_at dksX7_pack_2 15 rfl rfl)
theorem dX7_pack_64 : decode cX7_pack 64 = .ok (.iconst 3, 1) := dk_6 (dk_at dksX7_pack_2 16 rfl rfl)
theorem dX7_pack_65 : decode cX7_pack 65 = .ok (.iadd, 1) := dk_96 (dk_at dksX7_pack_2 17 rfl rfl)
theorem dX7_pack_66 : decode cX7_pack 66 = .ok (.bipush 16, 2) := dk_16 16 (dk_at dksX7_pack_2 18 rfl rfl)
theorem dX7_pack_68 : decode cX7_pack 68 = .ok (.iadd, 1) := dk_96 (dk_at dksX7_pack_2 20 rfl rfl)
theorem dX7_pack_69 : decode cX7_pack 69 = .ok (.iload_n 3, 1) := dk_29 (dk_at dksX7_pack_2 21 rfl rfl)
theorem dX7_pack_70 : decode cX7_pack 70 = .ok (.iadd, 1) := dk_96 (dk_at dksX7_pack_2 22 rfl rfl)
theorem dX7_pack_71 : decode cX7_pack 71 = .ok (.aload_n 0, 1) := dk_42 (dk_at dksX7_pack_2 23 rfl rfl)
theorem dX7_pack_72 : decode cX7_pack 72 = .ok (.getfield 77, 3) := dk_180 0 77 (dk_at dksX7_pack_3 0 rfl rfl)
theorem dX7_pack_75 : decode cX7_pack 75 = .ok (.iload_n 3, 1) := dk_29 (dk_at dksX7_pack_3 3 rfl rfl)
theorem dX7_pack_76 : decode cX7_pack 76 = .ok (.iaload, 1) := dk_46 (dk_at dksX7_pack_3 4 rfl rfl)
theorem dX7_pack_77 : decode cX7_pack 77 = .ok (.iastore, 1) := dk_79 (dk_at dksX7_pack_3 5 rfl rfl)
theorem dX7_pack_78 : decode cX7_pack 78 = .ok (.iinc 3 1, 3) := dk_132 3 1 (dk_at dksX7_pack_3 6 rfl rfl)
theorem dX7_pack_81 : decode cX7_pack 81 = .ok (.goto (-54), 3) := dk_167 255 202 (dk_at dksX7_pack_3 9 rfl rfl)
theorem dX7_pack_84 : decode cX7_pack 84 = .ok (.iload_n 2, 1) := dk_28 (dk_at dksX7_pack_3 12 rfl rfl)
theorem dX7_pack_85 : decode cX7_pack 85 = .ok (.iconst 3, 1) := dk_6 (dk_at dksX7_pack_3 13 rfl rfl)
theorem dX7_pack_86 : decode cX7_pack 86 = .ok (.iadd, 1) := dk_96 (dk_at dksX7_pack_3 14 rfl rfl)
theorem dX7_pack_87 : decode cX7_pack 87 = .ok (.bipush 24, 2) := dk_16 24 (dk_at dksX7_pack_3 15 rfl rfl)
theorem dX7_pack_89 : decode cX7_pack 89 = .ok (.iadd, 1) := dk_96 (dk_at dksX7_pack_3 17 rfl rfl)
theorem dX7_pack_90 : decode cX7_pack 90 = .ok (.istore_n 3, 1) := dk_62 (dk_at dksX7_pack_3 18 rfl rfl)
theorem dX7_pack_91 : decode cX7_pack 91 = .ok (.iconst 0, 1) := dk_3 (dk_at dksX7_pack_3 19 rfl rfl)
theorem dX7_pack_92 : decode cX7_pack 92 = .ok (.istore 4, 2) := dk_54 4 (dk_at dksX7_pack_3 20 rfl rfl)
theorem dX7_pack_94 : decode cX7_pack 94 = .ok (.iload 4, 2) := dk_21 4 (dk_at dksX7_pack_3 22 rfl rfl)
theorem dX7_pack_96 : decode cX7_pack 96 = .ok (.bipush 6, 2) := dk_16 6 (dk_at dksX7_pack_4 0 rfl rfl)
theorem dX7_pack_98 : decode cX7_pack 98 = .ok (.if_icmp .ge 86, 3) := dk_162 0 86 (dk_at dksX7_pack_4 2 rfl rfl)
theorem dX7_pack_101 : decode cX7_pack 101 = .ok (.aload_n 1, 1) := dk_43 (dk_at dksX7_pack_4 5 rfl rfl)
theorem dX7_pack_102 : decode cX7_pack 102 = .ok (.iload_n 3, 1) := dk_29 (dk_at dksX7_pack_4 6 rfl rfl)
theorem dX7_pack_103 : decode cX7_pack 103 = .ok (.iload 4, 2) := dk_21 4 (dk_at dksX7_pack_4 7 rfl rfl)
theorem dX7_pack_105 : decode cX7_pack 105 = .ok (.iadd, 1) := dk_96 (dk_at dksX7_pack_4 9 rfl rfl)
theorem dX7_pack_106 : decode cX7_pack 106 = .ok (.aload_n 0, 1) := dk_42 (dk_at dksX7_pack_4 10 rfl rfl)
theorem dX7_pack_107 : decode cX7_pack 107 = .ok (.getfield 80, 3) := dk_180 0 80 (dk_at dksX7_pack_4 11 rfl rfl)
theorem dX7_pack_110 : decode cX7_pack 110 = .ok (.iload 4, 2) := dk_21 4 (dk_at dksX7_pack_4 14 rfl rfl)
theorem dX7_pack_112 : decode cX7_pack 112 = .ok (.iaload, 1) := dk_46 (dk_at dksX7_pack_4 16 rfl rfl)
theorem dX7_pack_113 : decode cX7_pack 113 = .ok (.iastore, 1) := dk_79 (dk_at dksX7_pack_4 17 rfl rfl)
theorem dX7_pack_114 : decode cX7_pack 114 = .ok (.aload_n 1, 1) := dk_43 (dk_at dksX7_pack_4 18 rfl rfl)
theorem dX7_pack_115 : decode cX7_pack 115 = .ok (.iload_n 3, 1) := dk_29 (dk_at dksX7_pack_4 19 rfl rfl)
theorem dX7_pack_116 : decode cX7_pack 116 = .ok (.bipush 6, 2) := dk_16 6 (dk_at dksX7_pack_4 20 rfl rfl)
theorem dX7_pack_118 : decode cX7_pack 118 = .ok (.iadd, 1) := dk_96 (dk_at dksX7_pack_4 22 rfl rfl)
theorem dX7_pack_119 : decode cX7_pack 119 = .ok (.iload 4, 2) := dk_21 4 (dk_at dksX7_pack_5 0 rfl rfl)
theorem dX7_pack_121 : decode cX7_pack 121 = .ok (.iadd, 1) := dk_96 (dk_at dksX7_pack_5 2 rfl rfl)
theorem dX7_pack_122 : decode cX7_pack 122 = .ok (.aload_n 0, 1) := dk_42 (dk_at dksX7_pack_5 3 rfl rfl)
theorem dX7_pack_123 : decode cX7_pack 123 = .ok (.getfield 83, 3) := dk_180 0 83 (dk_at dksX7_pack_5 4 rfl rfl)
theorem dX7_pack_126 : decode cX7_pack 126 = .ok (.iload 4, 2) := dk_21 4 (dk_at dksX7_pack_5 7 rfl rfl)
theorem dX7_pack_128 : decode cX7_pack 128 = .ok (.iaload, 1) := dk_46 (dk_at dksX7_pack_5 9 rfl rfl)
theorem dX7_pack_129 : decode cX7_pack 129 = .ok (.iastore, 1) := dk_79 (dk_at dksX7_pack_5 10 rfl rfl)
theorem dX7_pack_130 : decode cX7_pack 130 = .ok (.aload_n 1, 1) := dk_43 (dk_at dksX7_pack_5 11 rfl rfl)
theorem dX7_pack_131 : decode cX7_pack 131 = .ok (.iload_n 3, 1) := dk_29 (dk_at dksX7_pack_5 12 rfl rfl)
theorem dX7_pack_132 : decode cX7_pack 132 = .ok (.bipush 12, 2) := dk_16 12 (dk_at dksX7_pack_5 13 rfl rfl)
theorem dX7_pack_134 : decode cX7_pack 134 = .ok (.iadd, 1) := dk_96 (dk_at dksX7_pack_5 15 rfl rfl)
theorem dX7_pack_135 : decode cX7_pack 135 = .ok (.iload 4, 2) := dk_21 4 (dk_at dksX7_pack_5 16 rfl rfl)
theorem dX7_pack_137 : decode cX7_pack 137 = .ok (.iadd, 1) := dk_96 (dk_at dksX7_pack_5 18 rfl rfl)
theorem dX7_pack_138 : decode cX7_pack 138 = .ok (.aload_n 0, 1) := dk_42 (dk_at dksX7_pack_5 19 rfl rfl)
theorem dX7_pack_139 : decode cX7_pack 139 = .ok (.getfield 86, 3) := dk_180 0 86 (dk_at dksX7_pack_5 20 rfl rfl)
theorem dX7_pack_142 : decode cX7_pack 142 = .ok (.iload 4, 2) := dk_21 4 (dk_at dksX7_pack_6 0 rfl rfl)
theorem dX7_pack_144 : decode cX7_pack 144 = .ok (.iaload, 1) := dk_46 (dk_at dksX7_pack_6 2 rfl rfl)
theorem dX7_pack_145 : decode cX7_pack 145 = .ok (.iastore, 1) := dk_79 (dk_at dksX7_pack_6 3 rfl rfl)
theorem dX7_pack_146 : decode cX7_pack 146 = .ok (.aload_n 1, 1) := dk_43 (dk_at dksX7_pack_6 4 rfl rfl)
theorem dX7_pack_147 : decode cX7_pack 147 = .ok (.iload_n 3, 1) := dk_29 (dk_at dksX7_pack_6 5 rfl rfl)
theorem dX7_pack_148 : decode cX7_pack 148 = .ok (.bipush 18, 2) := dk_16 18 (dk_at dksX7_pack_6 6 rfl rfl)
theorem dX7_pack_150 : decode cX7_pack 150 = .ok (.iadd, 1) := dk_96 (dk_at dksX7_pack_6 8 rfl rfl)
theorem dX7_pack_151 : decode cX7_pack 151 = .ok (.iload 4, 2) := dk_21 4 (dk_at dksX7_pack_6 9 rfl rfl)
theorem dX7_pack_153 : decode cX7_pack 153 = .ok (.iadd, 1) := dk_96 (dk_at dksX7_pack_6 11 rfl rfl)
theorem dX7_pack_154 : decode cX7_pack 154 = .ok (.aload_n 0, 1) := dk_42 (dk_at dksX7_pack_6 12 rfl rfl)
theorem dX7_pack_155 : decode cX7_pack 155 = .ok (.getfield 88, 3) := dk_180 0 88 (dk_at dksX7_pack_6 13 rfl rfl)
theorem dX7_pack_158 : decode cX7_pack 158 = .ok (.iload 4, 2) := dk_21 4 (dk_at dksX7_pack_6 16 rfl rfl)
theorem dX7_pack_160 : decode cX7_pack 160 = .ok (.iaload, 1) := dk_46 (dk_at dksX7_pack_6 18 rfl rfl)
theorem dX7_pack_161 : decode cX7_pack 161 = .ok (.iastore, 1) := dk_79 (dk_at dksX7_pack_6 19 rfl rfl)
theorem dX7_pack_162 : decode cX7_pack 162 = .ok (.aload_n 1, 1) := dk_43 (dk_at dksX7_pack_6 20 rfl rfl)
theorem dX7_pack_163 : decode cX7_pack 163 = .ok (.iload_n 3, 1) := dk_29 (dk_at dksX7_pack_6 21 rfl rfl)
theorem dX7_pack_164 : decode cX7_pack 164 = .ok (.bipush 24, 2) := dk_16 24 (dk_at dksX7_pack_6 22 rfl rfl)
theorem dX7_pack_166 : decode cX7_pack 166 = .ok (.iadd, 1) := dk_96 (dk_at dksX7_pack_7 0 rfl rfl)
theorem dX7_pack_167 : decode cX7_pack 167 = .ok (.iload 4, 2) := dk_21 4 (dk_at dksX7_pack_7 1 rfl rfl)
theorem dX7_pack_169 : decode cX7_pack 169 = .ok (.iadd, 1) := dk_96 (dk_at dksX7_pack_7 3 rfl rfl)
theorem dX7_pack_170 : decode cX7_pack 170 = .ok (.aload_n 0, 1) := dk_42 (dk_at dksX7_pack_7 4 rfl rfl)
theorem dX7_pack_171 : decode cX7_pack 171 = .ok (.getfield 90, 3) := dk_180 0 90 (dk_at dksX7_pack_7 5 rfl rfl)
theorem dX7_pack_174 : decode cX7_pack 174 = .ok (.iload 4, 2) := dk_21 4 (dk_at dksX7_pack_7 8 rfl rfl)
theorem dX7_pack_176 : decode cX7_pack 176 = .ok (.iaload, 1) := dk_46 (dk_at dksX7_pack_7 10 rfl rfl)
theorem dX7_pack_177 : decode cX7_pack 177 = .ok (.iastore, 1) := dk_79 (dk_at dksX7_pack_7 11 rfl rfl)
theorem dX7_pack_178 : decode cX7_pack 178 = .ok (.iinc 4 1, 3) := dk_132 4 1 (dk_at dksX7_pack_7 12 rfl rfl)
theorem dX7_pack_181 : decode cX7_pack 181 = .ok (.goto (-87), 3) := dk_167 255 169 (dk_at dksX7_pack_7 15 rfl rfl)
theorem dX7_pack_184 : decode cX7_pack 184 = .ok (.return_, 1) := dk_177 (dk_at dksX7_pack_7 18 rfl rfl)
abbrev cX7_goOn : ByteArray := prog_18_method_54_code
def yX7_goOn : MethodName := ⟨RX7, "goOn", "(I)V"⟩
def dkwX7_goOn_0 : List UInt8 := [3, 61, 28, 27, 162, 0, 13, 42, 182, 1, 114, 132, 2, 1, 167, 255, 244, 177]
abbrev dktX7_goOn_0 : List UInt8 := dkwX7_goOn_0 ++ []
theorem dksX7_goOn_0 : cX7_goOn.data.toList.drop 0 = dktX7_goOn_0 := by decide +kernel
theorem dX7_goOn_0 : decode cX7_goOn 0 = .ok (.iconst 0, 1) := dk_3 (dk_at dksX7_goOn_0 0 rfl rfl)
theorem dX7_goOn_1 : decode cX7_goOn 1 = .ok (.istore_n 2, 1) := dk_61 (dk_at dksX7_goOn_0 1 rfl rfl)
theorem dX7_goOn_2 : decode cX7_goOn 2 = .ok (.iload_n 2, 1) := dk_28 (dk_at dksX7_goOn_0 2 rfl rfl)
theorem dX7_goOn_3 : decode cX7_goOn 3 = .ok (.iload_n 1, 1) := dk_27 (dk_at dksX7_goOn_0 3 rfl rfl)
theorem dX7_goOn_4 : decode cX7_goOn 4 = .ok (.if_icmp .ge 13, 3) := dk_162 0 13 (dk_at dksX7_goOn_0 4 rfl rfl)
theorem dX7_goOn_7 : decode cX7_goOn 7 = .ok (.aload_n 0, 1) := dk_42 (dk_at dksX7_goOn_0 7 rfl rfl)
theorem dX7_goOn_8 : decode cX7_goOn 8 = .ok (.invokevirtual 370, 3) := dk_182 1 114 (dk_at dksX7_goOn_0 8 rfl rfl)
theorem dX7_goOn_11 : decode cX7_goOn 11 = .ok (.iinc 2 1, 3) := dk_132 2 1 (dk_at dksX7_goOn_0 11 rfl rfl)
theorem dX7_goOn_14 : decode cX7_goOn 14 = .ok (.goto (-12), 3) := dk_167 255 244 (dk_at dksX7_goOn_0 14 rfl rfl)
theorem dX7_goOn_17 : decode cX7_goOn 17 = .ok (.return_, 1) := dk_177 (dk_at dksX7_goOn_0 17 rfl rfl)
abbrev cX7_aYear : ByteArray := prog_18_method_53_code
def yX7_aYear : MethodName := ⟨RX7, "aYear", "()V"⟩
def dkwX7_aYear_2 : List UInt8 := [182, 1, 111, 132, 1, 1, 167, 255, 238, 42, 89, 180, 1, 60, 4, 96, 181, 1, 60, 177]
abbrev dktX7_aYear_2 : List UInt8 := dkwX7_aYear_2 ++ []
def dkwX7_aYear_1 : List UInt8 := [182, 1, 108, 132, 1, 1, 167, 255, 233, 3, 60, 27, 42, 180, 0, 29, 3, 46, 162, 0, 14, 42, 27]
abbrev dktX7_aYear_1 : List UInt8 := dkwX7_aYear_1 ++ dktX7_aYear_2
def dkwX7_aYear_0 : List UInt8 := [42, 2, 181, 1, 99, 3, 60, 27, 42, 180, 0, 29, 5, 46, 162, 0, 19, 42, 27, 182, 1, 105, 42, 27]
abbrev dktX7_aYear_0 : List UInt8 := dkwX7_aYear_0 ++ dktX7_aYear_1
theorem dksX7_aYear_0 : cX7_aYear.data.toList.drop 0 = dktX7_aYear_0 := by decide +kernel
theorem dksX7_aYear_1 : cX7_aYear.data.toList.drop 24 = dktX7_aYear_1 := dk_seg dksX7_aYear_0 24 rfl rfl
theorem dksX7_aYear_2 : cX7_aYear.data.toList.drop 47 = dktX7_aYear_2 := dk_seg dksX7_aYear_1 23 rfl rfl
theorem dX7_aYear_0 : decode cX7_aYear 0 = .ok (.aload_n 0, 1) := dk_42 (dk_at dksX7_aYear_0 0 rfl rfl)
theorem dX7_aYear_1 : decode cX7_aYear 1 = .ok (.iconst (-1), 1) := dk_2 (dk_at dksX7_aYear_0 1 rfl rfl)
theorem dX7_aYear_2 : decode cX7_aYear 2 = .ok (.putfield 355, 3) := dk_181 1 99 (dk_at dksX7_aYear_0 2 rfl rfl)
theorem dX7_aYear_5 : decode cX7_aYear 5 = .ok (.iconst 0, 1) := dk_3 (dk_at dksX7_aYear_0 5 rfl rfl)
theorem dX7_aYear_6 : decode cX7_aYear 6 = .ok (.istore_n 1, 1) := dk_60 (dk_at dksX7_aYear_0 6 rfl rfl)
theorem dX7_aYear_7 : decode cX7_aYear 7 = .ok (.iload_n 1, 1) := dk_27 (dk_at dksX7_aYear_0 7 rfl rfl)
theorem dX7_aYear_8 : decode cX7_aYear 8 = .ok (.aload_n 0, 1) := dk_42 (dk_at dksX7_aYear_0 8 rfl rfl)
theorem dX7_aYear_9 : decode cX7_aYear 9 = .ok (.getfield 29, 3) := dk_180 0 29 (dk_at dksX7_aYear_0 9 rfl rfl)
theorem dX7_aYear_12 : decode cX7_aYear 12 = .ok (.iconst 2, 1) := dk_5 (dk_at dksX7_aYear_0 12 rfl rfl)
theorem dX7_aYear_13 : decode cX7_aYear 13 = .ok (.iaload, 1) := dk_46 (dk_at dksX7_aYear_0 13 rfl rfl)
theorem dX7_aYear_14 : decode cX7_aYear 14 = .ok (.if_icmp .ge 19, 3) := dk_162 0 19 (dk_at dksX7_aYear_0 14 rfl rfl)
theorem dX7_aYear_17 : decode cX7_aYear 17 = .ok (.aload_n 0, 1) := dk_42 (dk_at dksX7_aYear_0 17 rfl rfl)
theorem dX7_aYear_18 : decode cX7_aYear 18 = .ok (.iload_n 1, 1) := dk_27 (dk_at dksX7_aYear_0 18 rfl rfl)
theorem dX7_aYear_19 : decode cX7_aYear 19 = .ok (.invokevirtual 361, 3) := dk_182 1 105 (dk_at dksX7_aYear_0 19 rfl rfl)
theorem dX7_aYear_22 : decode cX7_aYear 22 = .ok (.aload_n 0, 1) := dk_42 (dk_at dksX7_aYear_0 22 rfl rfl)
theorem dX7_aYear_23 : decode cX7_aYear 23 = .ok (.iload_n 1, 1) := dk_27 (dk_at dksX7_aYear_0 23 rfl rfl)
theorem dX7_aYear_24 : decode cX7_aYear 24 = .ok (.invokevirtual 364, 3) := dk_182 1 108 (dk_at dksX7_aYear_1 0 rfl rfl)
theorem dX7_aYear_27 : decode cX7_aYear 27 = .ok (.iinc 1 1, 3) := dk_132 1 1 (dk_at dksX7_aYear_1 3 rfl rfl)
theorem dX7_aYear_30 : decode cX7_aYear 30 = .ok (.goto (-23), 3) := dk_167 255 233 (dk_at dksX7_aYear_1 6 rfl rfl)
theorem dX7_aYear_33 : decode cX7_aYear 33 = .ok (.iconst 0, 1) := dk_3 (dk_at dksX7_aYear_1 9 rfl rfl)
theorem dX7_aYear_34 : decode cX7_aYear 34 = .ok (.istore_n 1, 1) := dk_60 (dk_at dksX7_aYear_1 10 rfl rfl)
theorem dX7_aYear_35 : decode cX7_aYear 35 = .ok (.iload_n 1, 1) := dk_27 (dk_at dksX7_aYear_1 11 rfl rfl)
theorem dX7_aYear_36 : decode cX7_aYear 36 = .ok (.aload_n 0, 1) := dk_42 (dk_at dksX7_aYear_1 12 rfl rfl)
theorem dX7_aYear_37 : decode cX7_aYear 37 = .ok (.getfield 29, 3) := dk_180 0 29 (dk_at dksX7_aYear_1 13 rfl rfl)
theorem dX7_aYear_40 : decode cX7_aYear 40 = .ok (.iconst 0, 1) := dk_3 (dk_at dksX7_aYear_1 16 rfl rfl)
theorem dX7_aYear_41 : decode cX7_aYear 41 = .ok (.iaload, 1) := dk_46 (dk_at dksX7_aYear_1 17 rfl rfl)
theorem dX7_aYear_42 : decode cX7_aYear 42 = .ok (.if_icmp .ge 14, 3) := dk_162 0 14 (dk_at dksX7_aYear_1 18 rfl rfl)
theorem dX7_aYear_45 : decode cX7_aYear 45 = .ok (.aload_n 0, 1) := dk_42 (dk_at dksX7_aYear_1 21 rfl rfl)
theorem dX7_aYear_46 : decode cX7_aYear 46 = .ok (.iload_n 1, 1) := dk_27 (dk_at dksX7_aYear_1 22 rfl rfl)
theorem dX7_aYear_47 : decode cX7_aYear 47 = .ok (.invokevirtual 367, 3) := dk_182 1 111 (dk_at dksX7_aYear_2 0 rfl rfl)
theorem dX7_aYear_50 : decode cX7_aYear 50 = .ok (.iinc 1 1, 3) := dk_132 1 1 (dk_at dksX7_aYear_2 3 rfl rfl)
theorem dX7_aYear_53 : decode cX7_aYear 53 = .ok (.goto (-18), 3) := dk_167 255 238 (dk_at dksX7_aYear_2 6 rfl rfl)
theorem dX7_aYear_56 : decode cX7_aYear 56 = .ok (.aload_n 0, 1) := dk_42 (dk_at dksX7_aYear_2 9 rfl rfl)
theorem dX7_aYear_57 : decode cX7_aYear 57 = .ok (.dup, 1) := dk_89 (dk_at dksX7_aYear_2 10 rfl rfl)
theorem dX7_aYear_58 : decode cX7_aYear 58 = .ok (.getfield 316, 3) := dk_180 1 60 (dk_at dksX7_aYear_2 11 rfl rfl)
theorem dX7_aYear_61 : decode cX7_aYear 61 = .ok (.iconst 1, 1) := dk_4 (dk_at dksX7_aYear_2 14 rfl rfl)
theorem dX7_aYear_62 : decode cX7_aYear 62 = .ok (.iadd, 1) := dk_96 (dk_at dksX7_aYear_2 15 rfl rfl)
theorem dX7_aYear_63 : decode cX7_aYear 63 = .ok (.putfield 316, 3) := dk_181 1 60 (dk_at dksX7_aYear_2 16 rfl rfl)
theorem dX7_aYear_66 : decode cX7_aYear 66 = .ok (.return_, 1) := dk_177 (dk_at dksX7_aYear_2 19 rfl rfl)
abbrev cX7_hunt : ByteArray := prog_18_method_49_code
def yX7_hunt : MethodName := ⟨RX7, "hunt", "(I)V"⟩
def dkwX7_hunt_3 : List UInt8 := [27, 17, 39, 15, 42, 180, 0, 86, 27, 46, 29, 96, 184, 0, 187, 79, 177]
abbrev dktX7_hunt_3 : List UInt8 := dkwX7_hunt_3 ++ []
def dkwX7_hunt_2 : List UInt8 := [180, 0, 74, 28, 92, 46, 21, 4, 100, 79, 42, 180, 0, 72, 28, 92, 46, 29, 100, 79, 42, 180, 0, 86]
abbrev dktX7_hunt_2 : List UInt8 := dkwX7_hunt_2 ++ dktX7_hunt_3
def dkwX7_hunt_1 : List UInt8 := [29, 104, 42, 180, 0, 72, 28, 46, 108, 54, 4, 21, 4, 158, 0, 8, 42, 28, 181, 1, 99, 42]
abbrev dktX7_hunt_1 : List UInt8 := dkwX7_hunt_1 ++ dktX7_hunt_2
def dkwX7_hunt_0 : List UInt8 := [42, 180, 0, 80, 27, 46, 61, 42, 27, 182, 1, 96, 62, 29, 154, 0, 4, 177, 42, 180, 0, 74, 28, 46]
abbrev dktX7_hunt_0 : List UInt8 := dkwX7_hunt_0 ++ dktX7_hunt_1
theorem dksX7_hunt_0 : cX7_hunt.data.toList.drop 0 = dktX7_hunt_0 := by decide +kernel
theorem dksX7_hunt_1 : cX7_hunt.data.toList.drop 24 = dktX7_hunt_1 := dk_seg dksX7_hunt_0 24 rfl rfl
theorem dksX7_hunt_2 : cX7_hunt.data.toList.drop 46 = dktX7_hunt_2 := dk_seg dksX7_hunt_1 22 rfl rfl
theorem dksX7_hunt_3 : cX7_hunt.data.toList.drop 70 = dktX7_hunt_3 := dk_seg dksX7_hunt_2 24 rfl rfl
theorem dX7_hunt_0 : decode cX7_hunt 0 = .ok (.aload_n 0, 1) := dk_42 (dk_at dksX7_hunt_0 0 rfl rfl)
theorem dX7_hunt_1 : decode cX7_hunt 1 = .ok (.getfield 80, 3) := dk_180 0 80 (dk_at dksX7_hunt_0 1 rfl rfl)
theorem dX7_hunt_4 : decode cX7_hunt 4 = .ok (.iload_n 1, 1) := dk_27 (dk_at dksX7_hunt_0 4 rfl rfl)
theorem dX7_hunt_5 : decode cX7_hunt 5 = .ok (.iaload, 1) := dk_46 (dk_at dksX7_hunt_0 5 rfl rfl)
theorem dX7_hunt_6 : decode cX7_hunt 6 = .ok (.istore_n 2, 1) := dk_61 (dk_at dksX7_hunt_0 6 rfl rfl)
theorem dX7_hunt_7 : decode cX7_hunt 7 = .ok (.aload_n 0, 1) := dk_42 (dk_at dksX7_hunt_0 7 rfl rfl)
theorem dX7_hunt_8 : decode cX7_hunt 8 = .ok (.iload_n 1, 1) := dk_27 (dk_at dksX7_hunt_0 8 rfl rfl)
theorem dX7_hunt_9 : decode cX7_hunt 9 = .ok (.invokevirtual 352, 3) := dk_182 1 96 (dk_at dksX7_hunt_0 9 rfl rfl)
theorem dX7_hunt_12 : decode cX7_hunt 12 = .ok (.istore_n 3, 1) := dk_62 (dk_at dksX7_hunt_0 12 rfl rfl)
theorem dX7_hunt_13 : decode cX7_hunt 13 = .ok (.iload_n 3, 1) := dk_29 (dk_at dksX7_hunt_0 13 rfl rfl)
theorem dX7_hunt_14 : decode cX7_hunt 14 = .ok (.ifCond .ne 4, 3) := dk_154 0 4 (dk_at dksX7_hunt_0 14 rfl rfl)
theorem dX7_hunt_17 : decode cX7_hunt 17 = .ok (.return_, 1) := dk_177 (dk_at dksX7_hunt_0 17 rfl rfl)
theorem dX7_hunt_18 : decode cX7_hunt 18 = .ok (.aload_n 0, 1) := dk_42 (dk_at dksX7_hunt_0 18 rfl rfl)
theorem dX7_hunt_19 : decode cX7_hunt 19 = .ok (.getfield 74, 3) := dk_180 0 74 (dk_at dksX7_hunt_0 19 rfl rfl)
theorem dX7_hunt_22 : decode cX7_hunt 22 = .ok (.iload_n 2, 1) := dk_28 (dk_at dksX7_hunt_0 22 rfl rfl)
theorem dX7_hunt_23 : decode cX7_hunt 23 = .ok (.iaload, 1) := dk_46 (dk_at dksX7_hunt_0 23 rfl rfl)
theorem dX7_hunt_24 : decode cX7_hunt 24 = .ok (.iload_n 3, 1) := dk_29 (dk_at dksX7_hunt_1 0 rfl rfl)
theorem dX7_hunt_25 : decode cX7_hunt 25 = .ok (.imul, 1) := dk_104 (dk_at dksX7_hunt_1 1 rfl rfl)
theorem dX7_hunt_26 : decode cX7_hunt 26 = .ok (.aload_n 0, 1) := dk_42 (dk_at dksX7_hunt_1 2 rfl rfl)
theorem dX7_hunt_27 : decode cX7_hunt 27 = .ok (.getfield 72, 3) := dk_180 0 72 (dk_at dksX7_hunt_1 3 rfl rfl)
theorem dX7_hunt_30 : decode cX7_hunt 30 = .ok (.iload_n 2, 1) := dk_28 (dk_at dksX7_hunt_1 6 rfl rfl)
theorem dX7_hunt_31 : decode cX7_hunt 31 = .ok (.iaload, 1) := dk_46 (dk_at dksX7_hunt_1 7 rfl rfl)
theorem dX7_hunt_32 : decode cX7_hunt 32 = .ok (.idiv, 1) := dk_108 (dk_at dksX7_hunt_1 8 rfl rfl)
theorem dX7_hunt_33 : decode cX7_hunt 33 = .ok (.istore 4, 2) := dk_54 4 (dk_at dksX7_hunt_1 9 rfl rfl)
theorem dX7_hunt_35 : decode cX7_hunt 35 = .ok (.iload 4, 2) := dk_21 4 (dk_at dksX7_hunt_1 11 rfl rfl)
theorem dX7_hunt_37 : decode cX7_hunt 37 = .ok (.ifCond .le 8, 3) := dk_158 0 8 (dk_at dksX7_hunt_1 13 rfl rfl)
theorem dX7_hunt_40 : decode cX7_hunt 40 = .ok (.aload_n 0, 1) := dk_42 (dk_at dksX7_hunt_1 16 rfl rfl)
theorem dX7_hunt_41 : decode cX7_hunt 41 = .ok (.iload_n 2, 1) := dk_28 (dk_at dksX7_hunt_1 17 rfl rfl)
theorem dX7_hunt_42 : decode cX7_hunt 42 = .ok (.putfield 355, 3) := dk_181 1 99 (dk_at dksX7_hunt_1 18 rfl rfl)
theorem dX7_hunt_45 : decode cX7_hunt 45 = .ok (.aload_n 0, 1) := dk_42 (dk_at dksX7_hunt_1 21 rfl rfl)
theorem dX7_hunt_46 : decode cX7_hunt 46 = .ok (.getfield 74, 3) := dk_180 0 74 (dk_at dksX7_hunt_2 0 rfl rfl)
theorem dX7_hunt_49 : decode cX7_hunt 49 = .ok (.iload_n 2, 1) := dk_28 (dk_at dksX7_hunt_2 3 rfl rfl)
theorem dX7_hunt_50 : decode cX7_hunt 50 = .ok (.dup2, 1) := dk_92 (dk_at dksX7_hunt_2 4 rfl rfl)
theorem dX7_hunt_51 : decode cX7_hunt 51 = .ok (.iaload, 1) := dk_46 (dk_at dksX7_hunt_2 5 rfl rfl)
theorem dX7_hunt_52 : decode cX7_hunt 52 = .ok (.iload 4, 2) := dk_21 4 (dk_at dksX7_hunt_2 6 rfl rfl)
theorem dX7_hunt_54 : decode cX7_hunt 54 = .ok (.isub, 1) := dk_100 (dk_at dksX7_hunt_2 8 rfl rfl)
theorem dX7_hunt_55 : decode cX7_hunt 55 = .ok (.iastore, 1) := dk_79 (dk_at dksX7_hunt_2 9 rfl rfl)
theorem dX7_hunt_56 : decode cX7_hunt 56 = .ok (.aload_n 0, 1) := dk_42 (dk_at dksX7_hunt_2 10 rfl rfl)
theorem dX7_hunt_57 : decode cX7_hunt 57 = .ok (.getfield 72, 3) := dk_180 0 72 (dk_at dksX7_hunt_2 11 rfl rfl)
theorem dX7_hunt_60 : decode cX7_hunt 60 = .ok (.iload_n 2, 1) := dk_28 (dk_at dksX7_hunt_2 14 rfl rfl)
theorem dX7_hunt_61 : decode cX7_hunt 61 = .ok (.dup2, 1) := dk_92 (dk_at dksX7_hunt_2 15 rfl rfl)
theorem dX7_hunt_62 : decode cX7_hunt 62 = .ok (.iaload, 1) := dk_46 (dk_at dksX7_hunt_2 16 rfl rfl)
theorem dX7_hunt_63 : decode cX7_hunt 63 = .ok (.iload_n 3, 1) := dk_29 (dk_at dksX7_hunt_2 17 rfl rfl)
theorem dX7_hunt_64 : decode cX7_hunt 64 = .ok (.isub, 1) := dk_100 (dk_at dksX7_hunt_2 18 rfl rfl)
theorem dX7_hunt_65 : decode cX7_hunt 65 = .ok (.iastore, 1) := dk_79 (dk_at dksX7_hunt_2 19 rfl rfl)
theorem dX7_hunt_66 : decode cX7_hunt 66 = .ok (.aload_n 0, 1) := dk_42 (dk_at dksX7_hunt_2 20 rfl rfl)
theorem dX7_hunt_67 : decode cX7_hunt 67 = .ok (.getfield 86, 3) := dk_180 0 86 (dk_at dksX7_hunt_2 21 rfl rfl)
theorem dX7_hunt_70 : decode cX7_hunt 70 = .ok (.iload_n 1, 1) := dk_27 (dk_at dksX7_hunt_3 0 rfl rfl)
theorem dX7_hunt_71 : decode cX7_hunt 71 = .ok (.sipush 9999, 3) := dk_17 39 15 (dk_at dksX7_hunt_3 1 rfl rfl)
theorem dX7_hunt_74 : decode cX7_hunt 74 = .ok (.aload_n 0, 1) := dk_42 (dk_at dksX7_hunt_3 4 rfl rfl)
theorem dX7_hunt_75 : decode cX7_hunt 75 = .ok (.getfield 86, 3) := dk_180 0 86 (dk_at dksX7_hunt_3 5 rfl rfl)
theorem dX7_hunt_78 : decode cX7_hunt 78 = .ok (.iload_n 1, 1) := dk_27 (dk_at dksX7_hunt_3 8 rfl rfl)
theorem dX7_hunt_79 : decode cX7_hunt 79 = .ok (.iaload, 1) := dk_46 (dk_at dksX7_hunt_3 9 rfl rfl)
theorem dX7_hunt_80 : decode cX7_hunt 80 = .ok (.iload_n 3, 1) := dk_29 (dk_at dksX7_hunt_3 10 rfl rfl)
theorem dX7_hunt_81 : decode cX7_hunt 81 = .ok (.iadd, 1) := dk_96 (dk_at dksX7_hunt_3 11 rfl rfl)
theorem dX7_hunt_82 : decode cX7_hunt 82 = .ok (.invokestatic 187, 3) := dk_184 0 187 (dk_at dksX7_hunt_3 12 rfl rfl)
theorem dX7_hunt_85 : decode cX7_hunt 85 = .ok (.iastore, 1) := dk_79 (dk_at dksX7_hunt_3 15 rfl rfl)
theorem dX7_hunt_86 : decode cX7_hunt 86 = .ok (.return_, 1) := dk_177 (dk_at dksX7_hunt_3 16 rfl rfl)
abbrev cX7_pay : ByteArray := prog_18_method_50_code
def yX7_pay : MethodName := ⟨RX7, "pay", "(I)V"⟩
def dkwX7_pay_5 : List UInt8 := [21, 4, 100, 79, 42, 180, 0, 90, 27, 92, 46, 4, 96, 79, 177]
abbrev dktX7_pay_5 : List UInt8 := dkwX7_pay_5 ++ []
def dkwX7_pay_4 : List UInt8 := [180, 1, 65, 42, 180, 0, 29, 8, 46, 21, 4, 104, 96, 181, 1, 65, 42, 180, 0, 88, 27, 92, 46]
abbrev dktX7_pay_4 : List UInt8 := dkwX7_pay_4 ++ dktX7_pay_5
def dkwX7_pay_3 : List UInt8 := [163, 0, 4, 177, 42, 180, 0, 88, 27, 46, 42, 180, 0, 29, 16, 6, 46, 100, 5, 108, 54, 4, 42, 89]
abbrev dktX7_pay_3 : List UInt8 := dkwX7_pay_3 ++ dktX7_pay_4
def dkwX7_pay_2 : List UInt8 := [27, 17, 39, 15, 28, 29, 100, 184, 0, 187, 79, 42, 180, 0, 88, 27, 46, 42, 180, 0, 29, 16, 6, 46]
abbrev dktX7_pay_2 : List UInt8 := dkwX7_pay_2 ++ dktX7_pay_3
def dkwX7_pay_1 : List UInt8 := [42, 180, 0, 86, 27, 92, 46, 29, 100, 79, 42, 89, 180, 1, 62, 29, 96, 181, 1, 62, 42, 180, 0, 88]
abbrev dktX7_pay_1 : List UInt8 := dkwX7_pay_1 ++ dktX7_pay_2
def dkwX7_pay_0 : List UInt8 := [42, 27, 182, 1, 82, 42, 180, 0, 88, 27, 46, 96, 61, 28, 42, 180, 0, 86, 27, 46, 184, 0, 187, 62]
abbrev dktX7_pay_0 : List UInt8 := dkwX7_pay_0 ++ dktX7_pay_1
theorem dksX7_pay_0 : cX7_pay.data.toList.drop 0 = dktX7_pay_0 := by decide +kernel
theorem dksX7_pay_1 : cX7_pay.data.toList.drop 24 = dktX7_pay_1 := dk_seg dksX7_pay_0 24 rfl rfl
theorem dksX7_pay_2 : cX7_pay.data.toList.drop 48 = dktX7_pay_2 := dk_seg dksX7_pay_1 24 rfl rfl
theorem dksX7_pay_3 : cX7_pay.data.toList.drop 72 = dktX7_pay_3 := dk_seg dksX7_pay_2 24 rfl rfl
theorem dksX7_pay_4 : cX7_pay.data.toList.drop 96 = dktX7_pay_4 := dk_seg dksX7_pay_3 24 rfl rfl
theorem dksX7_pay_5 : cX7_pay.data.toList.drop 119 = dktX7_pay_5 := dk_seg dksX7_pay_4 23 rfl rfl
theorem dX7_pay_0 : decode cX7_pay 0 = .ok (.aload_n 0, 1) := dk_42 (dk_at dksX7_pay_0 0 rfl rfl)
theorem dX7_pay_1 : decode cX7_pay 1 = .ok (.iload_n 1, 1) := dk_27 (dk_at dksX7_pay_0 1 rfl rfl)
theorem dX7_pay_2 : decode cX7_pay 2 = .ok (.invokevirtual 338, 3) := dk_182 1 82 (dk_at dksX7_pay_0 2 rfl rfl)
theorem dX7_pay_5 : decode cX7_pay 5 = .ok (.aload_n 0, 1) := dk_42 (dk_at dksX7_pay_0 5 rfl rfl)
theorem dX7_pay_6 : decode cX7_pay 6 = .ok (.getfield 88, 3) := dk_180 0 88 (dk_at dksX7_pay_0 6 rfl rfl)
theorem dX7_pay_9 : decode cX7_pay 9 = .ok (.iload_n 1, 1) := dk_27 (dk_at dksX7_pay_0 9 rfl rfl)
theorem dX7_pay_10 : decode cX7_pay 10 = .ok (.iaload, 1) := dk_46 (dk_at dksX7_pay_0 10 rfl rfl)
theorem dX7_pay_11 : decode cX7_pay 11 = .ok (.iadd, 1) := dk_96 (dk_at dksX7_pay_0 11 rfl rfl)
theorem dX7_pay_12 : decode cX7_pay 12 = .ok (.istore_n 2, 1) := dk_61 (dk_at dksX7_pay_0 12 rfl rfl)
theorem dX7_pay_13 : decode cX7_pay 13 = .ok (.iload_n 2, 1) := dk_28 (dk_at dksX7_pay_0 13 rfl rfl)
theorem dX7_pay_14 : decode cX7_pay 14 = .ok (.aload_n 0, 1) := dk_42 (dk_at dksX7_pay_0 14 rfl rfl)
theorem dX7_pay_15 : decode cX7_pay 15 = .ok (.getfield 86, 3) := dk_180 0 86 (dk_at dksX7_pay_0 15 rfl rfl)
theorem dX7_pay_18 : decode cX7_pay 18 = .ok (.iload_n 1, 1) := dk_27 (dk_at dksX7_pay_0 18 rfl rfl)
theorem dX7_pay_19 : decode cX7_pay 19 = .ok (.iaload, 1) := dk_46 (dk_at dksX7_pay_0 19 rfl rfl)
theorem dX7_pay_20 : decode cX7_pay 20 = .ok (.invokestatic 187, 3) := dk_184 0 187 (dk_at dksX7_pay_0 20 rfl rfl)
theorem dX7_pay_23 : decode cX7_pay 23 = .ok (.istore_n 3, 1) := dk_62 (dk_at dksX7_pay_0 23 rfl rfl)
theorem dX7_pay_24 : decode cX7_pay 24 = .ok (.aload_n 0, 1) := dk_42 (dk_at dksX7_pay_1 0 rfl rfl)
theorem dX7_pay_25 : decode cX7_pay 25 = .ok (.getfield 86, 3) := dk_180 0 86 (dk_at dksX7_pay_1 1 rfl rfl)
theorem dX7_pay_28 : decode cX7_pay 28 = .ok (.iload_n 1, 1) := dk_27 (dk_at dksX7_pay_1 4 rfl rfl)
theorem dX7_pay_29 : decode cX7_pay 29 = .ok (.dup2, 1) := dk_92 (dk_at dksX7_pay_1 5 rfl rfl)
theorem dX7_pay_30 : decode cX7_pay 30 = .ok (.iaload, 1) := dk_46 (dk_at dksX7_pay_1 6 rfl rfl)
theorem dX7_pay_31 : decode cX7_pay 31 = .ok (.iload_n 3, 1) := dk_29 (dk_at dksX7_pay_1 7 rfl rfl)
theorem dX7_pay_32 : decode cX7_pay 32 = .ok (.isub, 1) := dk_100 (dk_at dksX7_pay_1 8 rfl rfl)
theorem dX7_pay_33 : decode cX7_pay 33 = .ok (.iastore, 1) := dk_79 (dk_at dksX7_pay_1 9 rfl rfl)
theorem dX7_pay_34 : decode cX7_pay 34 = .ok (.aload_n 0, 1) := dk_42 (dk_at dksX7_pay_1 10 rfl rfl)
theorem dX7_pay_35 : decode cX7_pay 35 = .ok (.dup, 1) := dk_89 (dk_at dksX7_pay_1 11 rfl rfl)
theorem dX7_pay_36 : decode cX7_pay 36 = .ok (.getfield 318, 3) := dk_180 1 62 (dk_at dksX7_pay_1 12 rfl rfl)
theorem dX7_pay_39 : decode cX7_pay 39 = .ok (.iload_n 3, 1) := dk_29 (dk_at dksX7_pay_1 15 rfl rfl)
theorem dX7_pay_40 : decode cX7_pay 40 = .ok (.iadd, 1) := dk_96 (dk_at dksX7_pay_1 16 rfl rfl)
theorem dX7_pay_41 : decode cX7_pay 41 = .ok (.putfield 318, 3) := dk_181 1 62 (dk_at dksX7_pay_1 17 rfl rfl)
theorem dX7_pay_44 : decode cX7_pay 44 = .ok (.aload_n 0, 1) := dk_42 (dk_at dksX7_pay_1 20 rfl rfl)
theorem dX7_pay_45 : decode cX7_pay 45 = .ok (.getfield 88, 3) := dk_180 0 88 (dk_at dksX7_pay_1 21 rfl rfl)
theorem dX7_pay_48 : decode cX7_pay 48 = .ok (.iload_n 1, 1) := dk_27 (dk_at dksX7_pay_2 0 rfl rfl)
theorem dX7_pay_49 : decode cX7_pay 49 = .ok (.sipush 9999, 3) := dk_17 39 15 (dk_at dksX7_pay_2 1 rfl rfl)
theorem dX7_pay_52 : decode cX7_pay 52 = .ok (.iload_n 2, 1) := dk_28 (dk_at dksX7_pay_2 4 rfl rfl)
theorem dX7_pay_53 : decode cX7_pay 53 = .ok (.iload_n 3, 1) := dk_29 (dk_at dksX7_pay_2 5 rfl rfl)
theorem dX7_pay_54 : decode cX7_pay 54 = .ok (.isub, 1) := dk_100 (dk_at dksX7_pay_2 6 rfl rfl)
theorem dX7_pay_55 : decode cX7_pay 55 = .ok (.invokestatic 187, 3) := dk_184 0 187 (dk_at dksX7_pay_2 7 rfl rfl)
theorem dX7_pay_58 : decode cX7_pay 58 = .ok (.iastore, 1) := dk_79 (dk_at dksX7_pay_2 10 rfl rfl)
theorem dX7_pay_59 : decode cX7_pay 59 = .ok (.aload_n 0, 1) := dk_42 (dk_at dksX7_pay_2 11 rfl rfl)
theorem dX7_pay_60 : decode cX7_pay 60 = .ok (.getfield 88, 3) := dk_180 0 88 (dk_at dksX7_pay_2 12 rfl rfl)
theorem dX7_pay_63 : decode cX7_pay 63 = .ok (.iload_n 1, 1) := dk_27 (dk_at dksX7_pay_2 15 rfl rfl)
theorem dX7_pay_64 : decode cX7_pay 64 = .ok (.iaload, 1) := dk_46 (dk_at dksX7_pay_2 16 rfl rfl)
theorem dX7_pay_65 : decode cX7_pay 65 = .ok (.aload_n 0, 1) := dk_42 (dk_at dksX7_pay_2 17 rfl rfl)
theorem dX7_pay_66 : decode cX7_pay 66 = .ok (.getfield 29, 3) := dk_180 0 29 (dk_at dksX7_pay_2 18 rfl rfl)
theorem dX7_pay_69 : decode cX7_pay 69 = .ok (.bipush 6, 2) := dk_16 6 (dk_at dksX7_pay_2 21 rfl rfl)
theorem dX7_pay_71 : decode cX7_pay 71 = .ok (.iaload, 1) := dk_46 (dk_at dksX7_pay_2 23 rfl rfl)
theorem dX7_pay_72 : decode cX7_pay 72 = .ok (.if_icmp .gt 4, 3) := dk_163 0 4 (dk_at dksX7_pay_3 0 rfl rfl)
theorem dX7_pay_75 : decode cX7_pay 75 = .ok (.return_, 1) := dk_177 (dk_at dksX7_pay_3 3 rfl rfl)
theorem dX7_pay_76 : decode cX7_pay 76 = .ok (.aload_n 0, 1) := dk_42 (dk_at dksX7_pay_3 4 rfl rfl)
theorem dX7_pay_77 : decode cX7_pay 77 = .ok (.getfield 88, 3) := dk_180 0 88 (dk_at dksX7_pay_3 5 rfl rfl)
theorem dX7_pay_80 : decode cX7_pay 80 = .ok (.iload_n 1, 1) := dk_27 (dk_at dksX7_pay_3 8 rfl rfl)
theorem dX7_pay_81 : decode cX7_pay 81 = .ok (.iaload, 1) := dk_46 (dk_at dksX7_pay_3 9 rfl rfl)
theorem dX7_pay_82 : decode cX7_pay 82 = .ok (.aload_n 0, 1) := dk_42 (dk_at dksX7_pay_3 10 rfl rfl)
theorem dX7_pay_83 : decode cX7_pay 83 = .ok (.getfield 29, 3) := dk_180 0 29 (dk_at dksX7_pay_3 11 rfl rfl)
theorem dX7_pay_86 : decode cX7_pay 86 = .ok (.bipush 6, 2) := dk_16 6 (dk_at dksX7_pay_3 14 rfl rfl)
theorem dX7_pay_88 : decode cX7_pay 88 = .ok (.iaload, 1) := dk_46 (dk_at dksX7_pay_3 16 rfl rfl)
theorem dX7_pay_89 : decode cX7_pay 89 = .ok (.isub, 1) := dk_100 (dk_at dksX7_pay_3 17 rfl rfl)
theorem dX7_pay_90 : decode cX7_pay 90 = .ok (.iconst 2, 1) := dk_5 (dk_at dksX7_pay_3 18 rfl rfl)
theorem dX7_pay_91 : decode cX7_pay 91 = .ok (.idiv, 1) := dk_108 (dk_at dksX7_pay_3 19 rfl rfl)
theorem dX7_pay_92 : decode cX7_pay 92 = .ok (.istore 4, 2) := dk_54 4 (dk_at dksX7_pay_3 20 rfl rfl)
theorem dX7_pay_94 : decode cX7_pay 94 = .ok (.aload_n 0, 1) := dk_42 (dk_at dksX7_pay_3 22 rfl rfl)
theorem dX7_pay_95 : decode cX7_pay 95 = .ok (.dup, 1) := dk_89 (dk_at dksX7_pay_3 23 rfl rfl)
theorem dX7_pay_96 : decode cX7_pay 96 = .ok (.getfield 321, 3) := dk_180 1 65 (dk_at dksX7_pay_4 0 rfl rfl)
theorem dX7_pay_99 : decode cX7_pay 99 = .ok (.aload_n 0, 1) := dk_42 (dk_at dksX7_pay_4 3 rfl rfl)
theorem dX7_pay_100 : decode cX7_pay 100 = .ok (.getfield 29, 3) := dk_180 0 29 (dk_at dksX7_pay_4 4 rfl rfl)
theorem dX7_pay_103 : decode cX7_pay 103 = .ok (.iconst 5, 1) := dk_8 (dk_at dksX7_pay_4 7 rfl rfl)
theorem dX7_pay_104 : decode cX7_pay 104 = .ok (.iaload, 1) := dk_46 (dk_at dksX7_pay_4 8 rfl rfl)
theorem dX7_pay_105 : decode cX7_pay 105 = .ok (.iload 4, 2) := dk_21 4 (dk_at dksX7_pay_4 9 rfl rfl)
theorem dX7_pay_107 : decode cX7_pay 107 = .ok (.imul, 1) := dk_104 (dk_at dksX7_pay_4 11 rfl rfl)
theorem dX7_pay_108 : decode cX7_pay 108 = .ok (.iadd, 1) := dk_96 (dk_at dksX7_pay_4 12 rfl rfl)
theorem dX7_pay_109 : decode cX7_pay 109 = .ok (.putfield 321, 3) := dk_181 1 65 (dk_at dksX7_pay_4 13 rfl rfl)
theorem dX7_pay_112 : decode cX7_pay 112 = .ok (.aload_n 0, 1) := dk_42 (dk_at dksX7_pay_4 16 rfl rfl)
theorem dX7_pay_113 : decode cX7_pay 113 = .ok (.getfield 88, 3) := dk_180 0 88 (dk_at dksX7_pay_4 17 rfl rfl)
theorem dX7_pay_116 : decode cX7_pay 116 = .ok (.iload_n 1, 1) := dk_27 (dk_at dksX7_pay_4 20 rfl rfl)
theorem dX7_pay_117 : decode cX7_pay 117 = .ok (.dup2, 1) := dk_92 (dk_at dksX7_pay_4 21 rfl rfl)
theorem dX7_pay_118 : decode cX7_pay 118 = .ok (.iaload, 1) := dk_46 (dk_at dksX7_pay_4 22 rfl rfl)
theorem dX7_pay_119 : decode cX7_pay 119 = .ok (.iload 4, 2) := dk_21 4 (dk_at dksX7_pay_5 0 rfl rfl)
theorem dX7_pay_121 : decode cX7_pay 121 = .ok (.isub, 1) := dk_100 (dk_at dksX7_pay_5 2 rfl rfl)
theorem dX7_pay_122 : decode cX7_pay 122 = .ok (.iastore, 1) := dk_79 (dk_at dksX7_pay_5 3 rfl rfl)
theorem dX7_pay_123 : decode cX7_pay 123 = .ok (.aload_n 0, 1) := dk_42 (dk_at dksX7_pay_5 4 rfl rfl)
theorem dX7_pay_124 : decode cX7_pay 124 = .ok (.getfield 90, 3) := dk_180 0 90 (dk_at dksX7_pay_5 5 rfl rfl)
theorem dX7_pay_127 : decode cX7_pay 127 = .ok (.iload_n 1, 1) := dk_27 (dk_at dksX7_pay_5 8 rfl rfl)
theorem dX7_pay_128 : decode cX7_pay 128 = .ok (.dup2, 1) := dk_92 (dk_at dksX7_pay_5 9 rfl rfl)
theorem dX7_pay_129 : decode cX7_pay 129 = .ok (.iaload, 1) := dk_46 (dk_at dksX7_pay_5 10 rfl rfl)
theorem dX7_pay_130 : decode cX7_pay 130 = .ok (.iconst 1, 1) := dk_4 (dk_at dksX7_pay_5 11 rfl rfl)
theorem dX7_pay_131 : decode cX7_pay 131 = .ok (.iadd, 1) := dk_96 (dk_at dksX7_pay_5 12 rfl rfl)
theorem dX7_pay_132 : decode cX7_pay 132 = .ok (.iastore, 1) := dk_79 (dk_at dksX7_pay_5 13 rfl rfl)
theorem dX7_pay_133 : decode cX7_pay 133 = .ok (.return_, 1) := dk_177 (dk_at dksX7_pay_5 14 rfl rfl)
abbrev cX7_grow : ByteArray := prog_18_method_52_code
def yX7_grow : MethodName := ⟨RX7, "grow", "(I)V"⟩
def dkwX7_grow_3 : List UInt8 := [184, 1, 93, 79, 177]
abbrev dktX7_grow_3 : List UInt8 := dkwX7_grow_3 ++ []
def dkwX7_grow_2 : List UInt8 := [16, 100, 108, 96, 184, 0, 187, 79, 42, 180, 0, 77, 27, 3, 42, 180, 0, 77, 27, 46, 4, 100]
abbrev dktX7_grow_2 : List UInt8 := dkwX7_grow_2 ++ dktX7_grow_3
def dkwX7_grow_1 : List UInt8 := [180, 0, 72, 27, 46, 42, 180, 0, 74, 27, 46, 42, 180, 0, 74, 27, 46, 42, 180, 0, 42, 27, 46, 104]
abbrev dktX7_grow_1 : List UInt8 := dkwX7_grow_1 ++ dktX7_grow_2
def dkwX7_grow_0 : List UInt8 := [42, 180, 0, 72, 27, 42, 27, 42, 180, 0, 72, 27, 46, 182, 1, 102, 79, 42, 180, 0, 74, 27, 42]
abbrev dktX7_grow_0 : List UInt8 := dkwX7_grow_0 ++ dktX7_grow_1
theorem dksX7_grow_0 : cX7_grow.data.toList.drop 0 = dktX7_grow_0 := by decide +kernel
theorem dksX7_grow_1 : cX7_grow.data.toList.drop 23 = dktX7_grow_1 := dk_seg dksX7_grow_0 23 rfl rfl
theorem dksX7_grow_2 : cX7_grow.data.toList.drop 47 = dktX7_grow_2 := dk_seg dksX7_grow_1 24 rfl rfl
theorem dksX7_grow_3 : cX7_grow.data.toList.drop 69 = dktX7_grow_3 := dk_seg dksX7_grow_2 22 rfl rfl
theorem dX7_grow_0 : decode cX7_grow 0 = .ok (.aload_n 0, 1) := dk_42 (dk_at dksX7_grow_0 0 rfl rfl)
theorem dX7_grow_1 : decode cX7_grow 1 = .ok (.getfield 72, 3) := dk_180 0 72 (dk_at dksX7_grow_0 1 rfl rfl)
theorem dX7_grow_4 : decode cX7_grow 4 = .ok (.iload_n 1, 1) := dk_27 (dk_at dksX7_grow_0 4 rfl rfl)
theorem dX7_grow_5 : decode cX7_grow 5 = .ok (.aload_n 0, 1) := dk_42 (dk_at dksX7_grow_0 5 rfl rfl)
theorem dX7_grow_6 : decode cX7_grow 6 = .ok (.iload_n 1, 1) := dk_27 (dk_at dksX7_grow_0 6 rfl rfl)
theorem dX7_grow_7 : decode cX7_grow 7 = .ok (.aload_n 0, 1) := dk_42 (dk_at dksX7_grow_0 7 rfl rfl)
theorem dX7_grow_8 : decode cX7_grow 8 = .ok (.getfield 72, 3) := dk_180 0 72 (dk_at dksX7_grow_0 8 rfl rfl)
theorem dX7_grow_11 : decode cX7_grow 11 = .ok (.iload_n 1, 1) := dk_27 (dk_at dksX7_grow_0 11 rfl rfl)
theorem dX7_grow_12 : decode cX7_grow 12 = .ok (.iaload, 1) := dk_46 (dk_at dksX7_grow_0 12 rfl rfl)
theorem dX7_grow_13 : decode cX7_grow 13 = .ok (.invokevirtual 358, 3) := dk_182 1 102 (dk_at dksX7_grow_0 13 rfl rfl)
theorem dX7_grow_16 : decode cX7_grow 16 = .ok (.iastore, 1) := dk_79 (dk_at dksX7_grow_0 16 rfl rfl)
theorem dX7_grow_17 : decode cX7_grow 17 = .ok (.aload_n 0, 1) := dk_42 (dk_at dksX7_grow_0 17 rfl rfl)
theorem dX7_grow_18 : decode cX7_grow 18 = .ok (.getfield 74, 3) := dk_180 0 74 (dk_at dksX7_grow_0 18 rfl rfl)
theorem dX7_grow_21 : decode cX7_grow 21 = .ok (.iload_n 1, 1) := dk_27 (dk_at dksX7_grow_0 21 rfl rfl)
theorem dX7_grow_22 : decode cX7_grow 22 = .ok (.aload_n 0, 1) := dk_42 (dk_at dksX7_grow_0 22 rfl rfl)
theorem dX7_grow_23 : decode cX7_grow 23 = .ok (.getfield 72, 3) := dk_180 0 72 (dk_at dksX7_grow_1 0 rfl rfl)
theorem dX7_grow_26 : decode cX7_grow 26 = .ok (.iload_n 1, 1) := dk_27 (dk_at dksX7_grow_1 3 rfl rfl)
theorem dX7_grow_27 : decode cX7_grow 27 = .ok (.iaload, 1) := dk_46 (dk_at dksX7_grow_1 4 rfl rfl)
theorem dX7_grow_28 : decode cX7_grow 28 = .ok (.aload_n 0, 1) := dk_42 (dk_at dksX7_grow_1 5 rfl rfl)
theorem dX7_grow_29 : decode cX7_grow 29 = .ok (.getfield 74, 3) := dk_180 0 74 (dk_at dksX7_grow_1 6 rfl rfl)
theorem dX7_grow_32 : decode cX7_grow 32 = .ok (.iload_n 1, 1) := dk_27 (dk_at dksX7_grow_1 9 rfl rfl)
theorem dX7_grow_33 : decode cX7_grow 33 = .ok (.iaload, 1) := dk_46 (dk_at dksX7_grow_1 10 rfl rfl)
theorem dX7_grow_34 : decode cX7_grow 34 = .ok (.aload_n 0, 1) := dk_42 (dk_at dksX7_grow_1 11 rfl rfl)
theorem dX7_grow_35 : decode cX7_grow 35 = .ok (.getfield 74, 3) := dk_180 0 74 (dk_at dksX7_grow_1 12 rfl rfl)
theorem dX7_grow_38 : decode cX7_grow 38 = .ok (.iload_n 1, 1) := dk_27 (dk_at dksX7_grow_1 15 rfl rfl)
theorem dX7_grow_39 : decode cX7_grow 39 = .ok (.iaload, 1) := dk_46 (dk_at dksX7_grow_1 16 rfl rfl)
theorem dX7_grow_40 : decode cX7_grow 40 = .ok (.aload_n 0, 1) := dk_42 (dk_at dksX7_grow_1 17 rfl rfl)
theorem dX7_grow_41 : decode cX7_grow 41 = .ok (.getfield 42, 3) := dk_180 0 42 (dk_at dksX7_grow_1 18 rfl rfl)
theorem dX7_grow_44 : decode cX7_grow 44 = .ok (.iload_n 1, 1) := dk_27 (dk_at dksX7_grow_1 21 rfl rfl)
theorem dX7_grow_45 : decode cX7_grow 45 = .ok (.iaload, 1) := dk_46 (dk_at dksX7_grow_1 22 rfl rfl)
theorem dX7_grow_46 : decode cX7_grow 46 = .ok (.imul, 1) := dk_104 (dk_at dksX7_grow_1 23 rfl rfl)
theorem dX7_grow_47 : decode cX7_grow 47 = .ok (.bipush 100, 2) := dk_16 100 (dk_at dksX7_grow_2 0 rfl rfl)
theorem dX7_grow_49 : decode cX7_grow 49 = .ok (.idiv, 1) := dk_108 (dk_at dksX7_grow_2 2 rfl rfl)
theorem dX7_grow_50 : decode cX7_grow 50 = .ok (.iadd, 1) := dk_96 (dk_at dksX7_grow_2 3 rfl rfl)
theorem dX7_grow_51 : decode cX7_grow 51 = .ok (.invokestatic 187, 3) := dk_184 0 187 (dk_at dksX7_grow_2 4 rfl rfl)
theorem dX7_grow_54 : decode cX7_grow 54 = .ok (.iastore, 1) := dk_79 (dk_at dksX7_grow_2 7 rfl rfl)
theorem dX7_grow_55 : decode cX7_grow 55 = .ok (.aload_n 0, 1) := dk_42 (dk_at dksX7_grow_2 8 rfl rfl)
theorem dX7_grow_56 : decode cX7_grow 56 = .ok (.getfield 77, 3) := dk_180 0 77 (dk_at dksX7_grow_2 9 rfl rfl)
theorem dX7_grow_59 : decode cX7_grow 59 = .ok (.iload_n 1, 1) := dk_27 (dk_at dksX7_grow_2 12 rfl rfl)
theorem dX7_grow_60 : decode cX7_grow 60 = .ok (.iconst 0, 1) := dk_3 (dk_at dksX7_grow_2 13 rfl rfl)
theorem dX7_grow_61 : decode cX7_grow 61 = .ok (.aload_n 0, 1) := dk_42 (dk_at dksX7_grow_2 14 rfl rfl)
theorem dX7_grow_62 : decode cX7_grow 62 = .ok (.getfield 77, 3) := dk_180 0 77 (dk_at dksX7_grow_2 15 rfl rfl)
theorem dX7_grow_65 : decode cX7_grow 65 = .ok (.iload_n 1, 1) := dk_27 (dk_at dksX7_grow_2 18 rfl rfl)
theorem dX7_grow_66 : decode cX7_grow 66 = .ok (.iaload, 1) := dk_46 (dk_at dksX7_grow_2 19 rfl rfl)
theorem dX7_grow_67 : decode cX7_grow 67 = .ok (.iconst 1, 1) := dk_4 (dk_at dksX7_grow_2 20 rfl rfl)
theorem dX7_grow_68 : decode cX7_grow 68 = .ok (.isub, 1) := dk_100 (dk_at dksX7_grow_2 21 rfl rfl)
theorem dX7_grow_69 : decode cX7_grow 69 = .ok (.invokestatic 349, 3) := dk_184 1 93 (dk_at dksX7_grow_3 0 rfl rfl)
theorem dX7_grow_72 : decode cX7_grow 72 = .ok (.iastore, 1) := dk_79 (dk_at dksX7_grow_3 3 rfl rfl)
theorem dX7_grow_73 : decode cX7_grow 73 = .ok (.return_, 1) := dk_177 (dk_at dksX7_grow_3 4 rfl rfl)
abbrev cX7_grown : ByteArray := prog_18_method_51_code
def yX7_grown : MethodName := ⟨RX7, "grown", "(II)I"⟩
def dkwX7_grown_1 : List UInt8 := [184, 1, 93, 172]
abbrev dktX7_grown_1 : List UInt8 := dkwX7_grown_1 ++ []
def dkwX7_grown_0 : List UInt8 := [28, 42, 180, 0, 39, 27, 46, 28, 28, 42, 180, 0, 42, 27, 46, 104, 16, 100, 108, 96, 184, 0, 187]
abbrev dktX7_grown_0 : List UInt8 := dkwX7_grown_0 ++ dktX7_grown_1
theorem dksX7_grown_0 : cX7_grown.data.toList.drop 0 = dktX7_grown_0 := by decide +kernel
theorem dksX7_grown_1 : cX7_grown.data.toList.drop 23 = dktX7_grown_1 := dk_seg dksX7_grown_0 23 rfl rfl
theorem dX7_grown_0 : decode cX7_grown 0 = .ok (.iload_n 2, 1) := dk_28 (dk_at dksX7_grown_0 0 rfl rfl)
theorem dX7_grown_1 : decode cX7_grown 1 = .ok (.aload_n 0, 1) := dk_42 (dk_at dksX7_grown_0 1 rfl rfl)
theorem dX7_grown_2 : decode cX7_grown 2 = .ok (.getfield 39, 3) := dk_180 0 39 (dk_at dksX7_grown_0 2 rfl rfl)
theorem dX7_grown_5 : decode cX7_grown 5 = .ok (.iload_n 1, 1) := dk_27 (dk_at dksX7_grown_0 5 rfl rfl)
theorem dX7_grown_6 : decode cX7_grown 6 = .ok (.iaload, 1) := dk_46 (dk_at dksX7_grown_0 6 rfl rfl)
theorem dX7_grown_7 : decode cX7_grown 7 = .ok (.iload_n 2, 1) := dk_28 (dk_at dksX7_grown_0 7 rfl rfl)
theorem dX7_grown_8 : decode cX7_grown 8 = .ok (.iload_n 2, 1) := dk_28 (dk_at dksX7_grown_0 8 rfl rfl)
theorem dX7_grown_9 : decode cX7_grown 9 = .ok (.aload_n 0, 1) := dk_42 (dk_at dksX7_grown_0 9 rfl rfl)
theorem dX7_grown_10 : decode cX7_grown 10 = .ok (.getfield 42, 3) := dk_180 0 42 (dk_at dksX7_grown_0 10 rfl rfl)
theorem dX7_grown_13 : decode cX7_grown 13 = .ok (.iload_n 1, 1) := dk_27 (dk_at dksX7_grown_0 13 rfl rfl)
theorem dX7_grown_14 : decode cX7_grown 14 = .ok (.iaload, 1) := dk_46 (dk_at dksX7_grown_0 14 rfl rfl)
theorem dX7_grown_15 : decode cX7_grown 15 = .ok (.imul, 1) := dk_104 (dk_at dksX7_grown_0 15 rfl rfl)
theorem dX7_grown_16 : decode cX7_grown 16 = .ok (.bipush 100, 2) := dk_16 100 (dk_at dksX7_grown_0 16 rfl rfl)
theorem dX7_grown_18 : decode cX7_grown 18 = .ok (.idiv, 1) := dk_108 (dk_at dksX7_grown_0 18 rfl rfl)
theorem dX7_grown_19 : decode cX7_grown 19 = .ok (.iadd, 1) := dk_96 (dk_at dksX7_grown_0 19 rfl rfl)
theorem dX7_grown_20 : decode cX7_grown 20 = .ok (.invokestatic 187, 3) := dk_184 0 187 (dk_at dksX7_grown_0 20 rfl rfl)
theorem dX7_grown_23 : decode cX7_grown 23 = .ok (.invokestatic 349, 3) := dk_184 1 93 (dk_at dksX7_grown_1 0 rfl rfl)
theorem dX7_grown_26 : decode cX7_grown 26 = .ok (.ireturn, 1) := dk_172 (dk_at dksX7_grown_1 3 rfl rfl)
abbrev cX7_move : ByteArray := prog_18_method_63_code
def yX7_move : MethodName := ⟨RX7, "move", "(II)I"⟩
def dkwX7_move_3 : List UInt8 := [172]
abbrev dktX7_move_3 : List UInt8 := dkwX7_move_3 ++ []
def dkwX7_move_2 : List UInt8 := [4, 182, 1, 135, 172, 42, 182, 1, 138, 42, 180, 0, 80, 27, 46, 62, 42, 180, 0, 80, 27, 28, 79, 29]
abbrev dktX7_move_2 : List UInt8 := dkwX7_move_2 ++ dktX7_move_3
def dkwX7_move_1 : List UInt8 := [182, 1, 47, 172, 42, 180, 0, 45, 16, 8, 42, 180, 0, 80, 27, 46, 104, 28, 96, 46, 154, 0, 9, 42]
abbrev dktX7_move_1 : List UInt8 := dkwX7_move_1 ++ dktX7_move_2
def dkwX7_move_0 : List UInt8 := [42, 3, 181, 0, 150, 42, 27, 182, 1, 126, 153, 0, 11, 42, 28, 182, 1, 120, 154, 0, 9, 42, 4]
abbrev dktX7_move_0 : List UInt8 := dkwX7_move_0 ++ dktX7_move_1
theorem dksX7_move_0 : cX7_move.data.toList.drop 0 = dktX7_move_0 := by decide +kernel
theorem dksX7_move_1 : cX7_move.data.toList.drop 23 = dktX7_move_1 := dk_seg dksX7_move_0 23 rfl rfl
theorem dksX7_move_2 : cX7_move.data.toList.drop 47 = dktX7_move_2 := dk_seg dksX7_move_1 24 rfl rfl
theorem dksX7_move_3 : cX7_move.data.toList.drop 71 = dktX7_move_3 := dk_seg dksX7_move_2 24 rfl rfl
theorem dX7_move_0 : decode cX7_move 0 = .ok (.aload_n 0, 1) := dk_42 (dk_at dksX7_move_0 0 rfl rfl)
theorem dX7_move_1 : decode cX7_move 1 = .ok (.iconst 0, 1) := dk_3 (dk_at dksX7_move_0 1 rfl rfl)
theorem dX7_move_2 : decode cX7_move 2 = .ok (.putfield 150, 3) := dk_181 0 150 (dk_at dksX7_move_0 2 rfl rfl)
theorem dX7_move_5 : decode cX7_move 5 = .ok (.aload_n 0, 1) := dk_42 (dk_at dksX7_move_0 5 rfl rfl)
theorem dX7_move_6 : decode cX7_move 6 = .ok (.iload_n 1, 1) := dk_27 (dk_at dksX7_move_0 6 rfl rfl)
theorem dX7_move_7 : decode cX7_move 7 = .ok (.invokevirtual 382, 3) := dk_182 1 126 (dk_at dksX7_move_0 7 rfl rfl)
theorem dX7_move_10 : decode cX7_move 10 = .ok (.ifCond .eq 11, 3) := dk_153 0 11 (dk_at dksX7_move_0 10 rfl rfl)
theorem dX7_move_13 : decode cX7_move 13 = .ok (.aload_n 0, 1) := dk_42 (dk_at dksX7_move_0 13 rfl rfl)
theorem dX7_move_14 : decode cX7_move 14 = .ok (.iload_n 2, 1) := dk_28 (dk_at dksX7_move_0 14 rfl rfl)
theorem dX7_move_15 : decode cX7_move 15 = .ok (.invokevirtual 376, 3) := dk_182 1 120 (dk_at dksX7_move_0 15 rfl rfl)
theorem dX7_move_18 : decode cX7_move 18 = .ok (.ifCond .ne 9, 3) := dk_154 0 9 (dk_at dksX7_move_0 18 rfl rfl)
theorem dX7_move_21 : decode cX7_move 21 = .ok (.aload_n 0, 1) := dk_42 (dk_at dksX7_move_0 21 rfl rfl)
theorem dX7_move_22 : decode cX7_move 22 = .ok (.iconst 1, 1) := dk_4 (dk_at dksX7_move_0 22 rfl rfl)
theorem dX7_move_23 : decode cX7_move 23 = .ok (.invokevirtual 303, 3) := dk_182 1 47 (dk_at dksX7_move_1 0 rfl rfl)
theorem dX7_move_26 : decode cX7_move 26 = .ok (.ireturn, 1) := dk_172 (dk_at dksX7_move_1 3 rfl rfl)
theorem dX7_move_27 : decode cX7_move 27 = .ok (.aload_n 0, 1) := dk_42 (dk_at dksX7_move_1 4 rfl rfl)
theorem dX7_move_28 : decode cX7_move 28 = .ok (.getfield 45, 3) := dk_180 0 45 (dk_at dksX7_move_1 5 rfl rfl)
theorem dX7_move_31 : decode cX7_move 31 = .ok (.bipush 8, 2) := dk_16 8 (dk_at dksX7_move_1 8 rfl rfl)
theorem dX7_move_33 : decode cX7_move 33 = .ok (.aload_n 0, 1) := dk_42 (dk_at dksX7_move_1 10 rfl rfl)
theorem dX7_move_34 : decode cX7_move 34 = .ok (.getfield 80, 3) := dk_180 0 80 (dk_at dksX7_move_1 11 rfl rfl)
theorem dX7_move_37 : decode cX7_move 37 = .ok (.iload_n 1, 1) := dk_27 (dk_at dksX7_move_1 14 rfl rfl)
theorem dX7_move_38 : decode cX7_move 38 = .ok (.iaload, 1) := dk_46 (dk_at dksX7_move_1 15 rfl rfl)
theorem dX7_move_39 : decode cX7_move 39 = .ok (.imul, 1) := dk_104 (dk_at dksX7_move_1 16 rfl rfl)
theorem dX7_move_40 : decode cX7_move 40 = .ok (.iload_n 2, 1) := dk_28 (dk_at dksX7_move_1 17 rfl rfl)
theorem dX7_move_41 : decode cX7_move 41 = .ok (.iadd, 1) := dk_96 (dk_at dksX7_move_1 18 rfl rfl)
theorem dX7_move_42 : decode cX7_move 42 = .ok (.iaload, 1) := dk_46 (dk_at dksX7_move_1 19 rfl rfl)
theorem dX7_move_43 : decode cX7_move 43 = .ok (.ifCond .ne 9, 3) := dk_154 0 9 (dk_at dksX7_move_1 20 rfl rfl)
theorem dX7_move_46 : decode cX7_move 46 = .ok (.aload_n 0, 1) := dk_42 (dk_at dksX7_move_1 23 rfl rfl)
theorem dX7_move_47 : decode cX7_move 47 = .ok (.iconst 1, 1) := dk_4 (dk_at dksX7_move_2 0 rfl rfl)
theorem dX7_move_48 : decode cX7_move 48 = .ok (.invokevirtual 391, 3) := dk_182 1 135 (dk_at dksX7_move_2 1 rfl rfl)
theorem dX7_move_51 : decode cX7_move 51 = .ok (.ireturn, 1) := dk_172 (dk_at dksX7_move_2 4 rfl rfl)
theorem dX7_move_52 : decode cX7_move 52 = .ok (.aload_n 0, 1) := dk_42 (dk_at dksX7_move_2 5 rfl rfl)
theorem dX7_move_53 : decode cX7_move 53 = .ok (.invokevirtual 394, 3) := dk_182 1 138 (dk_at dksX7_move_2 6 rfl rfl)
theorem dX7_move_56 : decode cX7_move 56 = .ok (.aload_n 0, 1) := dk_42 (dk_at dksX7_move_2 9 rfl rfl)
theorem dX7_move_57 : decode cX7_move 57 = .ok (.getfield 80, 3) := dk_180 0 80 (dk_at dksX7_move_2 10 rfl rfl)
theorem dX7_move_60 : decode cX7_move 60 = .ok (.iload_n 1, 1) := dk_27 (dk_at dksX7_move_2 13 rfl rfl)
theorem dX7_move_61 : decode cX7_move 61 = .ok (.iaload, 1) := dk_46 (dk_at dksX7_move_2 14 rfl rfl)
theorem dX7_move_62 : decode cX7_move 62 = .ok (.istore_n 3, 1) := dk_62 (dk_at dksX7_move_2 15 rfl rfl)
theorem dX7_move_63 : decode cX7_move 63 = .ok (.aload_n 0, 1) := dk_42 (dk_at dksX7_move_2 16 rfl rfl)
theorem dX7_move_64 : decode cX7_move 64 = .ok (.getfield 80, 3) := dk_180 0 80 (dk_at dksX7_move_2 17 rfl rfl)
theorem dX7_move_67 : decode cX7_move 67 = .ok (.iload_n 1, 1) := dk_27 (dk_at dksX7_move_2 20 rfl rfl)
theorem dX7_move_68 : decode cX7_move 68 = .ok (.iload_n 2, 1) := dk_28 (dk_at dksX7_move_2 21 rfl rfl)
theorem dX7_move_69 : decode cX7_move 69 = .ok (.iastore, 1) := dk_79 (dk_at dksX7_move_2 22 rfl rfl)
theorem dX7_move_70 : decode cX7_move 70 = .ok (.iload_n 3, 1) := dk_29 (dk_at dksX7_move_2 23 rfl rfl)
theorem dX7_move_71 : decode cX7_move 71 = .ok (.ireturn, 1) := dk_172 (dk_at dksX7_move_3 0 rfl rfl)
abbrev cX7_bows : ByteArray := prog_18_method_64_code
def yX7_bows : MethodName := ⟨RX7, "bows", "(II)I"⟩
def dkwX7_bows_2 : List UInt8 := [46, 62, 42, 180, 0, 83, 27, 28, 79, 29, 172]
abbrev dktX7_bows_2 : List UInt8 := dkwX7_bows_2 ++ []
def dkwX7_bows_1 : List UInt8 := [20, 1, 133, 184, 0, 153, 154, 0, 9, 42, 4, 182, 1, 135, 172, 42, 182, 1, 138, 42, 180, 0, 83, 27]
abbrev dktX7_bows_1 : List UInt8 := dkwX7_bows_1 ++ dktX7_bows_2
def dkwX7_bows_0 : List UInt8 := [42, 3, 181, 0, 150, 42, 27, 182, 1, 126, 154, 0, 9, 42, 4, 182, 1, 47, 172, 28, 133, 9]
abbrev dktX7_bows_0 : List UInt8 := dkwX7_bows_0 ++ dktX7_bows_1
theorem dksX7_bows_0 : cX7_bows.data.toList.drop 0 = dktX7_bows_0 := by decide +kernel
theorem dksX7_bows_1 : cX7_bows.data.toList.drop 22 = dktX7_bows_1 := dk_seg dksX7_bows_0 22 rfl rfl
theorem dksX7_bows_2 : cX7_bows.data.toList.drop 46 = dktX7_bows_2 := dk_seg dksX7_bows_1 24 rfl rfl
theorem dX7_bows_0 : decode cX7_bows 0 = .ok (.aload_n 0, 1) := dk_42 (dk_at dksX7_bows_0 0 rfl rfl)
theorem dX7_bows_1 : decode cX7_bows 1 = .ok (.iconst 0, 1) := dk_3 (dk_at dksX7_bows_0 1 rfl rfl)
theorem dX7_bows_2 : decode cX7_bows 2 = .ok (.putfield 150, 3) := dk_181 0 150 (dk_at dksX7_bows_0 2 rfl rfl)
theorem dX7_bows_5 : decode cX7_bows 5 = .ok (.aload_n 0, 1) := dk_42 (dk_at dksX7_bows_0 5 rfl rfl)
theorem dX7_bows_6 : decode cX7_bows 6 = .ok (.iload_n 1, 1) := dk_27 (dk_at dksX7_bows_0 6 rfl rfl)
theorem dX7_bows_7 : decode cX7_bows 7 = .ok (.invokevirtual 382, 3) := dk_182 1 126 (dk_at dksX7_bows_0 7 rfl rfl)
theorem dX7_bows_10 : decode cX7_bows 10 = .ok (.ifCond .ne 9, 3) := dk_154 0 9 (dk_at dksX7_bows_0 10 rfl rfl)
theorem dX7_bows_13 : decode cX7_bows 13 = .ok (.aload_n 0, 1) := dk_42 (dk_at dksX7_bows_0 13 rfl rfl)
theorem dX7_bows_14 : decode cX7_bows 14 = .ok (.iconst 1, 1) := dk_4 (dk_at dksX7_bows_0 14 rfl rfl)
theorem dX7_bows_15 : decode cX7_bows 15 = .ok (.invokevirtual 303, 3) := dk_182 1 47 (dk_at dksX7_bows_0 15 rfl rfl)
theorem dX7_bows_18 : decode cX7_bows 18 = .ok (.ireturn, 1) := dk_172 (dk_at dksX7_bows_0 18 rfl rfl)
theorem dX7_bows_19 : decode cX7_bows 19 = .ok (.iload_n 2, 1) := dk_28 (dk_at dksX7_bows_0 19 rfl rfl)
theorem dX7_bows_20 : decode cX7_bows 20 = .ok (.i2l, 1) := dk_133 (dk_at dksX7_bows_0 20 rfl rfl)
theorem dX7_bows_21 : decode cX7_bows 21 = .ok (.lconst 0, 1) := dk_9 (dk_at dksX7_bows_0 21 rfl rfl)
theorem dX7_bows_22 : decode cX7_bows 22 = .ok (.ldc2_w 389, 3) := dk_20 1 133 (dk_at dksX7_bows_1 0 rfl rfl)
theorem dX7_bows_25 : decode cX7_bows 25 = .ok (.invokestatic 153, 3) := dk_184 0 153 (dk_at dksX7_bows_1 3 rfl rfl)
theorem dX7_bows_28 : decode cX7_bows 28 = .ok (.ifCond .ne 9, 3) := dk_154 0 9 (dk_at dksX7_bows_1 6 rfl rfl)
theorem dX7_bows_31 : decode cX7_bows 31 = .ok (.aload_n 0, 1) := dk_42 (dk_at dksX7_bows_1 9 rfl rfl)
theorem dX7_bows_32 : decode cX7_bows 32 = .ok (.iconst 1, 1) := dk_4 (dk_at dksX7_bows_1 10 rfl rfl)
theorem dX7_bows_33 : decode cX7_bows 33 = .ok (.invokevirtual 391, 3) := dk_182 1 135 (dk_at dksX7_bows_1 11 rfl rfl)
theorem dX7_bows_36 : decode cX7_bows 36 = .ok (.ireturn, 1) := dk_172 (dk_at dksX7_bows_1 14 rfl rfl)
theorem dX7_bows_37 : decode cX7_bows 37 = .ok (.aload_n 0, 1) := dk_42 (dk_at dksX7_bows_1 15 rfl rfl)
theorem dX7_bows_38 : decode cX7_bows 38 = .ok (.invokevirtual 394, 3) := dk_182 1 138 (dk_at dksX7_bows_1 16 rfl rfl)
theorem dX7_bows_41 : decode cX7_bows 41 = .ok (.aload_n 0, 1) := dk_42 (dk_at dksX7_bows_1 19 rfl rfl)
theorem dX7_bows_42 : decode cX7_bows 42 = .ok (.getfield 83, 3) := dk_180 0 83 (dk_at dksX7_bows_1 20 rfl rfl)
theorem dX7_bows_45 : decode cX7_bows 45 = .ok (.iload_n 1, 1) := dk_27 (dk_at dksX7_bows_1 23 rfl rfl)
theorem dX7_bows_46 : decode cX7_bows 46 = .ok (.iaload, 1) := dk_46 (dk_at dksX7_bows_2 0 rfl rfl)
theorem dX7_bows_47 : decode cX7_bows 47 = .ok (.istore_n 3, 1) := dk_62 (dk_at dksX7_bows_2 1 rfl rfl)
theorem dX7_bows_48 : decode cX7_bows 48 = .ok (.aload_n 0, 1) := dk_42 (dk_at dksX7_bows_2 2 rfl rfl)
theorem dX7_bows_49 : decode cX7_bows 49 = .ok (.getfield 83, 3) := dk_180 0 83 (dk_at dksX7_bows_2 3 rfl rfl)
theorem dX7_bows_52 : decode cX7_bows 52 = .ok (.iload_n 1, 1) := dk_27 (dk_at dksX7_bows_2 6 rfl rfl)
theorem dX7_bows_53 : decode cX7_bows 53 = .ok (.iload_n 2, 1) := dk_28 (dk_at dksX7_bows_2 7 rfl rfl)
theorem dX7_bows_54 : decode cX7_bows 54 = .ok (.iastore, 1) := dk_79 (dk_at dksX7_bows_2 8 rfl rfl)
theorem dX7_bows_55 : decode cX7_bows 55 = .ok (.iload_n 3, 1) := dk_29 (dk_at dksX7_bows_2 9 rfl rfl)
theorem dX7_bows_56 : decode cX7_bows 56 = .ok (.ireturn, 1) := dk_172 (dk_at dksX7_bows_2 10 rfl rfl)
abbrev cX7_rest : ByteArray := prog_18_method_65_code
def yX7_rest : MethodName := ⟨RX7, "rest", "(II)I"⟩
def dkwX7_rest_2 : List UInt8 := [46, 62, 42, 180, 0, 77, 27, 28, 79, 29, 172]
abbrev dktX7_rest_2 : List UInt8 := dkwX7_rest_2 ++ []
def dkwX7_rest_1 : List UInt8 := [20, 1, 144, 184, 0, 153, 154, 0, 9, 42, 4, 182, 1, 135, 172, 42, 182, 1, 138, 42, 180, 0, 77, 27]
abbrev dktX7_rest_1 : List UInt8 := dkwX7_rest_1 ++ dktX7_rest_2
def dkwX7_rest_0 : List UInt8 := [42, 3, 181, 0, 150, 42, 27, 182, 1, 120, 154, 0, 9, 42, 4, 182, 1, 47, 172, 28, 133, 9]
abbrev dktX7_rest_0 : List UInt8 := dkwX7_rest_0 ++ dktX7_rest_1
theorem dksX7_rest_0 : cX7_rest.data.toList.drop 0 = dktX7_rest_0 := by decide +kernel
theorem dksX7_rest_1 : cX7_rest.data.toList.drop 22 = dktX7_rest_1 := dk_seg dksX7_rest_0 22 rfl rfl
theorem dksX7_rest_2 : cX7_rest.data.toList.drop 46 = dktX7_rest_2 := dk_seg dksX7_rest_1 24 rfl rfl
theorem dX7_rest_0 : decode cX7_rest 0 = .ok (.aload_n 0, 1) := dk_42 (dk_at dksX7_rest_0 0 rfl rfl)
theorem dX7_rest_1 : decode cX7_rest 1 = .ok (.iconst 0, 1) := dk_3 (dk_at dksX7_rest_0 1 rfl rfl)
theorem dX7_rest_2 : decode cX7_rest 2 = .ok (.putfield 150, 3) := dk_181 0 150 (dk_at dksX7_rest_0 2 rfl rfl)
theorem dX7_rest_5 : decode cX7_rest 5 = .ok (.aload_n 0, 1) := dk_42 (dk_at dksX7_rest_0 5 rfl rfl)
theorem dX7_rest_6 : decode cX7_rest 6 = .ok (.iload_n 1, 1) := dk_27 (dk_at dksX7_rest_0 6 rfl rfl)
theorem dX7_rest_7 : decode cX7_rest 7 = .ok (.invokevirtual 376, 3) := dk_182 1 120 (dk_at dksX7_rest_0 7 rfl rfl)
theorem dX7_rest_10 : decode cX7_rest 10 = .ok (.ifCond .ne 9, 3) := dk_154 0 9 (dk_at dksX7_rest_0 10 rfl rfl)
theorem dX7_rest_13 : decode cX7_rest 13 = .ok (.aload_n 0, 1) := dk_42 (dk_at dksX7_rest_0 13 rfl rfl)
theorem dX7_rest_14 : decode cX7_rest 14 = .ok (.iconst 1, 1) := dk_4 (dk_at dksX7_rest_0 14 rfl rfl)
theorem dX7_rest_15 : decode cX7_rest 15 = .ok (.invokevirtual 303, 3) := dk_182 1 47 (dk_at dksX7_rest_0 15 rfl rfl)
theorem dX7_rest_18 : decode cX7_rest 18 = .ok (.ireturn, 1) := dk_172 (dk_at dksX7_rest_0 18 rfl rfl)
theorem dX7_rest_19 : decode cX7_rest 19 = .ok (.iload_n 2, 1) := dk_28 (dk_at dksX7_rest_0 19 rfl rfl)
theorem dX7_rest_20 : decode cX7_rest 20 = .ok (.i2l, 1) := dk_133 (dk_at dksX7_rest_0 20 rfl rfl)
theorem dX7_rest_21 : decode cX7_rest 21 = .ok (.lconst 0, 1) := dk_9 (dk_at dksX7_rest_0 21 rfl rfl)
theorem dX7_rest_22 : decode cX7_rest 22 = .ok (.ldc2_w 400, 3) := dk_20 1 144 (dk_at dksX7_rest_1 0 rfl rfl)
theorem dX7_rest_25 : decode cX7_rest 25 = .ok (.invokestatic 153, 3) := dk_184 0 153 (dk_at dksX7_rest_1 3 rfl rfl)
theorem dX7_rest_28 : decode cX7_rest 28 = .ok (.ifCond .ne 9, 3) := dk_154 0 9 (dk_at dksX7_rest_1 6 rfl rfl)
theorem dX7_rest_31 : decode cX7_rest 31 = .ok (.aload_n 0, 1) := dk_42 (dk_at dksX7_rest_1 9 rfl rfl)
theorem dX7_rest_32 : decode cX7_rest 32 = .ok (.iconst 1, 1) := dk_4 (dk_at dksX7_rest_1 10 rfl rfl)
theorem dX7_rest_33 : decode cX7_rest 33 = .ok (.invokevirtual 391, 3) := dk_182 1 135 (dk_at dksX7_rest_1 11 rfl rfl)
theorem dX7_rest_36 : decode cX7_rest 36 = .ok (.ireturn, 1) := dk_172 (dk_at dksX7_rest_1 14 rfl rfl)
theorem dX7_rest_37 : decode cX7_rest 37 = .ok (.aload_n 0, 1) := dk_42 (dk_at dksX7_rest_1 15 rfl rfl)
theorem dX7_rest_38 : decode cX7_rest 38 = .ok (.invokevirtual 394, 3) := dk_182 1 138 (dk_at dksX7_rest_1 16 rfl rfl)
theorem dX7_rest_41 : decode cX7_rest 41 = .ok (.aload_n 0, 1) := dk_42 (dk_at dksX7_rest_1 19 rfl rfl)
theorem dX7_rest_42 : decode cX7_rest 42 = .ok (.getfield 77, 3) := dk_180 0 77 (dk_at dksX7_rest_1 20 rfl rfl)
theorem dX7_rest_45 : decode cX7_rest 45 = .ok (.iload_n 1, 1) := dk_27 (dk_at dksX7_rest_1 23 rfl rfl)
theorem dX7_rest_46 : decode cX7_rest 46 = .ok (.iaload, 1) := dk_46 (dk_at dksX7_rest_2 0 rfl rfl)
theorem dX7_rest_47 : decode cX7_rest 47 = .ok (.istore_n 3, 1) := dk_62 (dk_at dksX7_rest_2 1 rfl rfl)
theorem dX7_rest_48 : decode cX7_rest 48 = .ok (.aload_n 0, 1) := dk_42 (dk_at dksX7_rest_2 2 rfl rfl)
theorem dX7_rest_49 : decode cX7_rest 49 = .ok (.getfield 77, 3) := dk_180 0 77 (dk_at dksX7_rest_2 3 rfl rfl)
theorem dX7_rest_52 : decode cX7_rest 52 = .ok (.iload_n 1, 1) := dk_27 (dk_at dksX7_rest_2 6 rfl rfl)
theorem dX7_rest_53 : decode cX7_rest 53 = .ok (.iload_n 2, 1) := dk_28 (dk_at dksX7_rest_2 7 rfl rfl)
theorem dX7_rest_54 : decode cX7_rest 54 = .ok (.iastore, 1) := dk_79 (dk_at dksX7_rest_2 8 rfl rfl)
theorem dX7_rest_55 : decode cX7_rest 55 = .ok (.iload_n 3, 1) := dk_29 (dk_at dksX7_rest_2 9 rfl rfl)
theorem dX7_rest_56 : decode cX7_rest 56 = .ok (.ireturn, 1) := dk_172 (dk_at dksX7_rest_2 10 rfl rfl)
abbrev cX7_dye : ByteArray := prog_18_method_66_code
def yX7_dye : MethodName := ⟨RX7, "dye", "(II)I"⟩
def dkwX7_dye_2 : List UInt8 := [17, 39, 15, 42, 180, 0, 86, 27, 46, 28, 96, 184, 0, 187, 79, 42, 180, 0, 86, 27, 46, 172]
abbrev dktX7_dye_2 : List UInt8 := dkwX7_dye_2 ++ []
def dkwX7_dye_1 : List UInt8 := [20, 1, 146, 184, 0, 153, 154, 0, 9, 42, 4, 182, 1, 135, 172, 42, 182, 1, 138, 42, 180, 0, 86, 27]
abbrev dktX7_dye_1 : List UInt8 := dkwX7_dye_1 ++ dktX7_dye_2
def dkwX7_dye_0 : List UInt8 := [42, 3, 181, 0, 150, 42, 27, 182, 1, 126, 154, 0, 9, 42, 4, 182, 1, 47, 172, 28, 133, 10]
abbrev dktX7_dye_0 : List UInt8 := dkwX7_dye_0 ++ dktX7_dye_1
theorem dksX7_dye_0 : cX7_dye.data.toList.drop 0 = dktX7_dye_0 := by decide +kernel
theorem dksX7_dye_1 : cX7_dye.data.toList.drop 22 = dktX7_dye_1 := dk_seg dksX7_dye_0 22 rfl rfl
theorem dksX7_dye_2 : cX7_dye.data.toList.drop 46 = dktX7_dye_2 := dk_seg dksX7_dye_1 24 rfl rfl
theorem dX7_dye_0 : decode cX7_dye 0 = .ok (.aload_n 0, 1) := dk_42 (dk_at dksX7_dye_0 0 rfl rfl)
theorem dX7_dye_1 : decode cX7_dye 1 = .ok (.iconst 0, 1) := dk_3 (dk_at dksX7_dye_0 1 rfl rfl)
theorem dX7_dye_2 : decode cX7_dye 2 = .ok (.putfield 150, 3) := dk_181 0 150 (dk_at dksX7_dye_0 2 rfl rfl)
theorem dX7_dye_5 : decode cX7_dye 5 = .ok (.aload_n 0, 1) := dk_42 (dk_at dksX7_dye_0 5 rfl rfl)
theorem dX7_dye_6 : decode cX7_dye 6 = .ok (.iload_n 1, 1) := dk_27 (dk_at dksX7_dye_0 6 rfl rfl)
theorem dX7_dye_7 : decode cX7_dye 7 = .ok (.invokevirtual 382, 3) := dk_182 1 126 (dk_at dksX7_dye_0 7 rfl rfl)
theorem dX7_dye_10 : decode cX7_dye 10 = .ok (.ifCond .ne 9, 3) := dk_154 0 9 (dk_at dksX7_dye_0 10 rfl rfl)
theorem dX7_dye_13 : decode cX7_dye 13 = .ok (.aload_n 0, 1) := dk_42 (dk_at dksX7_dye_0 13 rfl rfl)
theorem dX7_dye_14 : decode cX7_dye 14 = .ok (.iconst 1, 1) := dk_4 (dk_at dksX7_dye_0 14 rfl rfl)
theorem dX7_dye_15 : decode cX7_dye 15 = .ok (.invokevirtual 303, 3) := dk_182 1 47 (dk_at dksX7_dye_0 15 rfl rfl)
theorem dX7_dye_18 : decode cX7_dye 18 = .ok (.ireturn, 1) := dk_172 (dk_at dksX7_dye_0 18 rfl rfl)
theorem dX7_dye_19 : decode cX7_dye 19 = .ok (.iload_n 2, 1) := dk_28 (dk_at dksX7_dye_0 19 rfl rfl)
theorem dX7_dye_20 : decode cX7_dye 20 = .ok (.i2l, 1) := dk_133 (dk_at dksX7_dye_0 20 rfl rfl)
theorem dX7_dye_21 : decode cX7_dye 21 = .ok (.lconst 1, 1) := dk_10 (dk_at dksX7_dye_0 21 rfl rfl)
theorem dX7_dye_22 : decode cX7_dye 22 = .ok (.ldc2_w 402, 3) := dk_20 1 146 (dk_at dksX7_dye_1 0 rfl rfl)
theorem dX7_dye_25 : decode cX7_dye 25 = .ok (.invokestatic 153, 3) := dk_184 0 153 (dk_at dksX7_dye_1 3 rfl rfl)
theorem dX7_dye_28 : decode cX7_dye 28 = .ok (.ifCond .ne 9, 3) := dk_154 0 9 (dk_at dksX7_dye_1 6 rfl rfl)
theorem dX7_dye_31 : decode cX7_dye 31 = .ok (.aload_n 0, 1) := dk_42 (dk_at dksX7_dye_1 9 rfl rfl)
theorem dX7_dye_32 : decode cX7_dye 32 = .ok (.iconst 1, 1) := dk_4 (dk_at dksX7_dye_1 10 rfl rfl)
theorem dX7_dye_33 : decode cX7_dye 33 = .ok (.invokevirtual 391, 3) := dk_182 1 135 (dk_at dksX7_dye_1 11 rfl rfl)
theorem dX7_dye_36 : decode cX7_dye 36 = .ok (.ireturn, 1) := dk_172 (dk_at dksX7_dye_1 14 rfl rfl)
theorem dX7_dye_37 : decode cX7_dye 37 = .ok (.aload_n 0, 1) := dk_42 (dk_at dksX7_dye_1 15 rfl rfl)
theorem dX7_dye_38 : decode cX7_dye 38 = .ok (.invokevirtual 394, 3) := dk_182 1 138 (dk_at dksX7_dye_1 16 rfl rfl)
theorem dX7_dye_41 : decode cX7_dye 41 = .ok (.aload_n 0, 1) := dk_42 (dk_at dksX7_dye_1 19 rfl rfl)
theorem dX7_dye_42 : decode cX7_dye 42 = .ok (.getfield 86, 3) := dk_180 0 86 (dk_at dksX7_dye_1 20 rfl rfl)
theorem dX7_dye_45 : decode cX7_dye 45 = .ok (.iload_n 1, 1) := dk_27 (dk_at dksX7_dye_1 23 rfl rfl)
theorem dX7_dye_46 : decode cX7_dye 46 = .ok (.sipush 9999, 3) := dk_17 39 15 (dk_at dksX7_dye_2 0 rfl rfl)
theorem dX7_dye_49 : decode cX7_dye 49 = .ok (.aload_n 0, 1) := dk_42 (dk_at dksX7_dye_2 3 rfl rfl)
theorem dX7_dye_50 : decode cX7_dye 50 = .ok (.getfield 86, 3) := dk_180 0 86 (dk_at dksX7_dye_2 4 rfl rfl)
theorem dX7_dye_53 : decode cX7_dye 53 = .ok (.iload_n 1, 1) := dk_27 (dk_at dksX7_dye_2 7 rfl rfl)
theorem dX7_dye_54 : decode cX7_dye 54 = .ok (.iaload, 1) := dk_46 (dk_at dksX7_dye_2 8 rfl rfl)
theorem dX7_dye_55 : decode cX7_dye 55 = .ok (.iload_n 2, 1) := dk_28 (dk_at dksX7_dye_2 9 rfl rfl)
theorem dX7_dye_56 : decode cX7_dye 56 = .ok (.iadd, 1) := dk_96 (dk_at dksX7_dye_2 10 rfl rfl)
theorem dX7_dye_57 : decode cX7_dye 57 = .ok (.invokestatic 187, 3) := dk_184 0 187 (dk_at dksX7_dye_2 11 rfl rfl)
theorem dX7_dye_60 : decode cX7_dye 60 = .ok (.iastore, 1) := dk_79 (dk_at dksX7_dye_2 14 rfl rfl)
theorem dX7_dye_61 : decode cX7_dye 61 = .ok (.aload_n 0, 1) := dk_42 (dk_at dksX7_dye_2 15 rfl rfl)
theorem dX7_dye_62 : decode cX7_dye 62 = .ok (.getfield 86, 3) := dk_180 0 86 (dk_at dksX7_dye_2 16 rfl rfl)
theorem dX7_dye_65 : decode cX7_dye 65 = .ok (.iload_n 1, 1) := dk_27 (dk_at dksX7_dye_2 19 rfl rfl)
theorem dX7_dye_66 : decode cX7_dye 66 = .ok (.iaload, 1) := dk_46 (dk_at dksX7_dye_2 20 rfl rfl)
theorem dX7_dye_67 : decode cX7_dye 67 = .ok (.ireturn, 1) := dk_172 (dk_at dksX7_dye_2 21 rfl rfl)
abbrev cX7_forgive : ByteArray := prog_18_method_67_code
def yX7_forgive : MethodName := ⟨RX7, "forgive", "(I)I"⟩
def dkwX7_forgive_2 : List UInt8 := [180, 0, 88, 27, 3, 79, 28, 172]
abbrev dktX7_forgive_2 : List UInt8 := dkwX7_forgive_2 ++ []
def dkwX7_forgive_1 : List UInt8 := [46, 154, 0, 9, 42, 4, 182, 1, 135, 172, 42, 182, 1, 138, 42, 180, 0, 88, 27, 46, 61, 42]
abbrev dktX7_forgive_1 : List UInt8 := dkwX7_forgive_1 ++ dktX7_forgive_2
def dkwX7_forgive_0 : List UInt8 := [42, 3, 181, 0, 150, 42, 27, 182, 1, 126, 154, 0, 9, 42, 4, 182, 1, 47, 172, 42, 180, 0, 88, 27]
abbrev dktX7_forgive_0 : List UInt8 := dkwX7_forgive_0 ++ dktX7_forgive_1
theorem dksX7_forgive_0 : cX7_forgive.data.toList.drop 0 = dktX7_forgive_0 := by decide +kernel
theorem dksX7_forgive_1 : cX7_forgive.data.toList.drop 24 = dktX7_forgive_1 := dk_seg dksX7_forgive_0 24 rfl rfl
theorem dksX7_forgive_2 : cX7_forgive.data.toList.drop 46 = dktX7_forgive_2 := dk_seg dksX7_forgive_1 22 rfl rfl
theorem dX7_forgive_0 : decode cX7_forgive 0 = .ok (.aload_n 0, 1) := dk_42 (dk_at dksX7_forgive_0 0 rfl rfl)
theorem dX7_forgive_1 : decode cX7_forgive 1 = .ok (.iconst 0, 1) := dk_3 (dk_at dksX7_forgive_0 1 rfl rfl)
theorem dX7_forgive_2 : decode cX7_forgive 2 = .ok (.putfield 150, 3) := dk_181 0 150 (dk_at dksX7_forgive_0 2 rfl rfl)
theorem dX7_forgive_5 : decode cX7_forgive 5 = .ok (.aload_n 0, 1) := dk_42 (dk_at dksX7_forgive_0 5 rfl rfl)
theorem dX7_forgive_6 : decode cX7_forgive 6 = .ok (.iload_n 1, 1) := dk_27 (dk_at dksX7_forgive_0 6 rfl rfl)
theorem dX7_forgive_7 : decode cX7_forgive 7 = .ok (.invokevirtual 382, 3) := dk_182 1 126 (dk_at dksX7_forgive_0 7 rfl rfl)
theorem dX7_forgive_10 : decode cX7_forgive 10 = .ok (.ifCond .ne 9, 3) := dk_154 0 9 (dk_at dksX7_forgive_0 10 rfl rfl)
theorem dX7_forgive_13 : decode cX7_forgive 13 = .ok (.aload_n 0, 1) := dk_42 (dk_at dksX7_forgive_0 13 rfl rfl)
theorem dX7_forgive_14 : decode cX7_forgive 14 = .ok (.iconst 1, 1) := dk_4 (dk_at dksX7_forgive_0 14 rfl rfl)
theorem dX7_forgive_15 : decode cX7_forgive 15 = .ok (.invokevirtual 303, 3) := dk_182 1 47 (dk_at dksX7_forgive_0 15 rfl rfl)
theorem dX7_forgive_18 : decode cX7_forgive 18 = .ok (.ireturn, 1) := dk_172 (dk_at dksX7_forgive_0 18 rfl rfl)
theorem dX7_forgive_19 : decode cX7_forgive 19 = .ok (.aload_n 0, 1) := dk_42 (dk_at dksX7_forgive_0 19 rfl rfl)
theorem dX7_forgive_20 : decode cX7_forgive 20 = .ok (.getfield 88, 3) := dk_180 0 88 (dk_at dksX7_forgive_0 20 rfl rfl)
theorem dX7_forgive_23 : decode cX7_forgive 23 = .ok (.iload_n 1, 1) := dk_27 (dk_at dksX7_forgive_0 23 rfl rfl)
theorem dX7_forgive_24 : decode cX7_forgive 24 = .ok (.iaload, 1) := dk_46 (dk_at dksX7_forgive_1 0 rfl rfl)
theorem dX7_forgive_25 : decode cX7_forgive 25 = .ok (.ifCond .ne 9, 3) := dk_154 0 9 (dk_at dksX7_forgive_1 1 rfl rfl)
theorem dX7_forgive_28 : decode cX7_forgive 28 = .ok (.aload_n 0, 1) := dk_42 (dk_at dksX7_forgive_1 4 rfl rfl)
theorem dX7_forgive_29 : decode cX7_forgive 29 = .ok (.iconst 1, 1) := dk_4 (dk_at dksX7_forgive_1 5 rfl rfl)
theorem dX7_forgive_30 : decode cX7_forgive 30 = .ok (.invokevirtual 391, 3) := dk_182 1 135 (dk_at dksX7_forgive_1 6 rfl rfl)
theorem dX7_forgive_33 : decode cX7_forgive 33 = .ok (.ireturn, 1) := dk_172 (dk_at dksX7_forgive_1 9 rfl rfl)
theorem dX7_forgive_34 : decode cX7_forgive 34 = .ok (.aload_n 0, 1) := dk_42 (dk_at dksX7_forgive_1 10 rfl rfl)
theorem dX7_forgive_35 : decode cX7_forgive 35 = .ok (.invokevirtual 394, 3) := dk_182 1 138 (dk_at dksX7_forgive_1 11 rfl rfl)
theorem dX7_forgive_38 : decode cX7_forgive 38 = .ok (.aload_n 0, 1) := dk_42 (dk_at dksX7_forgive_1 14 rfl rfl)
theorem dX7_forgive_39 : decode cX7_forgive 39 = .ok (.getfield 88, 3) := dk_180 0 88 (dk_at dksX7_forgive_1 15 rfl rfl)
theorem dX7_forgive_42 : decode cX7_forgive 42 = .ok (.iload_n 1, 1) := dk_27 (dk_at dksX7_forgive_1 18 rfl rfl)
theorem dX7_forgive_43 : decode cX7_forgive 43 = .ok (.iaload, 1) := dk_46 (dk_at dksX7_forgive_1 19 rfl rfl)
theorem dX7_forgive_44 : decode cX7_forgive 44 = .ok (.istore_n 2, 1) := dk_61 (dk_at dksX7_forgive_1 20 rfl rfl)
theorem dX7_forgive_45 : decode cX7_forgive 45 = .ok (.aload_n 0, 1) := dk_42 (dk_at dksX7_forgive_1 21 rfl rfl)
theorem dX7_forgive_46 : decode cX7_forgive 46 = .ok (.getfield 88, 3) := dk_180 0 88 (dk_at dksX7_forgive_2 0 rfl rfl)
theorem dX7_forgive_49 : decode cX7_forgive 49 = .ok (.iload_n 1, 1) := dk_27 (dk_at dksX7_forgive_2 3 rfl rfl)
theorem dX7_forgive_50 : decode cX7_forgive 50 = .ok (.iconst 0, 1) := dk_3 (dk_at dksX7_forgive_2 4 rfl rfl)
theorem dX7_forgive_51 : decode cX7_forgive 51 = .ok (.iastore, 1) := dk_79 (dk_at dksX7_forgive_2 5 rfl rfl)
theorem dX7_forgive_52 : decode cX7_forgive 52 = .ok (.iload_n 2, 1) := dk_28 (dk_at dksX7_forgive_2 6 rfl rfl)
theorem dX7_forgive_53 : decode cX7_forgive 53 = .ok (.ireturn, 1) := dk_172 (dk_at dksX7_forgive_2 7 rfl rfl)
abbrev cX7_undo : ByteArray := prog_18_method_68_code
def yX7_undo : MethodName := ⟨RX7, "undo", "()I"⟩
def dkwX7_undo_1 : List UInt8 := [42, 42, 180, 0, 93, 16, 57, 42, 180, 1, 68, 104, 182, 1, 148, 42, 180, 1, 68, 172]
abbrev dktX7_undo_1 : List UInt8 := dkwX7_undo_1 ++ []
def dkwX7_undo_0 : List UInt8 := [42, 3, 181, 0, 150, 42, 180, 1, 68, 154, 0, 5, 2, 172, 42, 89, 180, 1, 68, 4, 100, 181, 1, 68]
abbrev dktX7_undo_0 : List UInt8 := dkwX7_undo_0 ++ dktX7_undo_1
theorem dksX7_undo_0 : cX7_undo.data.toList.drop 0 = dktX7_undo_0 := by decide +kernel
theorem dksX7_undo_1 : cX7_undo.data.toList.drop 24 = dktX7_undo_1 := dk_seg dksX7_undo_0 24 rfl rfl
theorem dX7_undo_0 : decode cX7_undo 0 = .ok (.aload_n 0, 1) := dk_42 (dk_at dksX7_undo_0 0 rfl rfl)
theorem dX7_undo_1 : decode cX7_undo 1 = .ok (.iconst 0, 1) := dk_3 (dk_at dksX7_undo_0 1 rfl rfl)
theorem dX7_undo_2 : decode cX7_undo 2 = .ok (.putfield 150, 3) := dk_181 0 150 (dk_at dksX7_undo_0 2 rfl rfl)
theorem dX7_undo_5 : decode cX7_undo 5 = .ok (.aload_n 0, 1) := dk_42 (dk_at dksX7_undo_0 5 rfl rfl)
theorem dX7_undo_6 : decode cX7_undo 6 = .ok (.getfield 324, 3) := dk_180 1 68 (dk_at dksX7_undo_0 6 rfl rfl)
theorem dX7_undo_9 : decode cX7_undo 9 = .ok (.ifCond .ne 5, 3) := dk_154 0 5 (dk_at dksX7_undo_0 9 rfl rfl)
theorem dX7_undo_12 : decode cX7_undo 12 = .ok (.iconst (-1), 1) := dk_2 (dk_at dksX7_undo_0 12 rfl rfl)
theorem dX7_undo_13 : decode cX7_undo 13 = .ok (.ireturn, 1) := dk_172 (dk_at dksX7_undo_0 13 rfl rfl)
theorem dX7_undo_14 : decode cX7_undo 14 = .ok (.aload_n 0, 1) := dk_42 (dk_at dksX7_undo_0 14 rfl rfl)
theorem dX7_undo_15 : decode cX7_undo 15 = .ok (.dup, 1) := dk_89 (dk_at dksX7_undo_0 15 rfl rfl)
theorem dX7_undo_16 : decode cX7_undo 16 = .ok (.getfield 324, 3) := dk_180 1 68 (dk_at dksX7_undo_0 16 rfl rfl)
theorem dX7_undo_19 : decode cX7_undo 19 = .ok (.iconst 1, 1) := dk_4 (dk_at dksX7_undo_0 19 rfl rfl)
theorem dX7_undo_20 : decode cX7_undo 20 = .ok (.isub, 1) := dk_100 (dk_at dksX7_undo_0 20 rfl rfl)
theorem dX7_undo_21 : decode cX7_undo 21 = .ok (.putfield 324, 3) := dk_181 1 68 (dk_at dksX7_undo_0 21 rfl rfl)
theorem dX7_undo_24 : decode cX7_undo 24 = .ok (.aload_n 0, 1) := dk_42 (dk_at dksX7_undo_1 0 rfl rfl)
theorem dX7_undo_25 : decode cX7_undo 25 = .ok (.aload_n 0, 1) := dk_42 (dk_at dksX7_undo_1 1 rfl rfl)
theorem dX7_undo_26 : decode cX7_undo 26 = .ok (.getfield 93, 3) := dk_180 0 93 (dk_at dksX7_undo_1 2 rfl rfl)
theorem dX7_undo_29 : decode cX7_undo 29 = .ok (.bipush 57, 2) := dk_16 57 (dk_at dksX7_undo_1 5 rfl rfl)
theorem dX7_undo_31 : decode cX7_undo 31 = .ok (.aload_n 0, 1) := dk_42 (dk_at dksX7_undo_1 7 rfl rfl)
theorem dX7_undo_32 : decode cX7_undo 32 = .ok (.getfield 324, 3) := dk_180 1 68 (dk_at dksX7_undo_1 8 rfl rfl)
theorem dX7_undo_35 : decode cX7_undo 35 = .ok (.imul, 1) := dk_104 (dk_at dksX7_undo_1 11 rfl rfl)
theorem dX7_undo_36 : decode cX7_undo 36 = .ok (.invokevirtual 404, 3) := dk_182 1 148 (dk_at dksX7_undo_1 12 rfl rfl)
theorem dX7_undo_39 : decode cX7_undo 39 = .ok (.aload_n 0, 1) := dk_42 (dk_at dksX7_undo_1 15 rfl rfl)
theorem dX7_undo_40 : decode cX7_undo 40 = .ok (.getfield 324, 3) := dk_180 1 68 (dk_at dksX7_undo_1 16 rfl rfl)
theorem dX7_undo_43 : decode cX7_undo 43 = .ok (.ireturn, 1) := dk_172 (dk_at dksX7_undo_1 19 rfl rfl)
abbrev cX7_unpack : ByteArray := prog_18_method_42_code
def yX7_unpack : MethodName := ⟨RX7, "unpack", "([II)V"⟩
def dkwX7_unpack_7 : List UInt8 := [180, 0, 90, 21, 4, 43, 29, 16, 24, 96, 21, 4, 96, 46, 79, 132, 4, 1, 167, 255, 169, 177]
abbrev dktX7_unpack_7 : List UInt8 := dkwX7_unpack_7 ++ []
def dkwX7_unpack_6 : List UInt8 := [21, 4, 96, 46, 79, 42, 180, 0, 88, 21, 4, 43, 29, 16, 18, 96, 21, 4, 96, 46, 79, 42]
abbrev dktX7_unpack_6 : List UInt8 := dkwX7_unpack_6 ++ dktX7_unpack_7
def dkwX7_unpack_5 : List UInt8 := [21, 4, 43, 29, 16, 6, 96, 21, 4, 96, 46, 79, 42, 180, 0, 86, 21, 4, 43, 29, 16, 12, 96]
abbrev dktX7_unpack_5 : List UInt8 := dkwX7_unpack_5 ++ dktX7_unpack_6
def dkwX7_unpack_4 : List UInt8 := [21, 4, 16, 6, 162, 0, 86, 42, 180, 0, 80, 21, 4, 43, 29, 21, 4, 96, 46, 79, 42, 180, 0, 83]
abbrev dktX7_unpack_4 : List UInt8 := dkwX7_unpack_4 ++ dktX7_unpack_5
def dkwX7_unpack_3 : List UInt8 := [96, 16, 16, 96, 29, 96, 46, 79, 132, 3, 1, 167, 255, 202, 28, 6, 96, 16, 24, 96, 62, 3, 54, 4]
abbrev dktX7_unpack_3 : List UInt8 := dkwX7_unpack_3 ++ dktX7_unpack_4
def dkwX7_unpack_2 : List UInt8 := [42, 180, 0, 74, 29, 43, 28, 6, 96, 16, 8, 96, 29, 96, 46, 79, 42, 180, 0, 77, 29, 43, 28, 6]
abbrev dktX7_unpack_2 : List UInt8 := dkwX7_unpack_2 ++ dktX7_unpack_3
def dkwX7_unpack_1 : List UInt8 := [181, 1, 65, 3, 62, 29, 16, 8, 162, 0, 54, 42, 180, 0, 72, 29, 43, 28, 6, 96, 29, 96, 46, 79]
abbrev dktX7_unpack_1 : List UInt8 := dkwX7_unpack_1 ++ dktX7_unpack_2
def dkwX7_unpack_0 : List UInt8 := [42, 43, 28, 46, 181, 1, 60, 42, 43, 28, 4, 96, 46, 181, 1, 62, 42, 43, 28, 5, 96, 46]
abbrev dktX7_unpack_0 : List UInt8 := dkwX7_unpack_0 ++ dktX7_unpack_1
theorem dksX7_unpack_0 : cX7_unpack.data.toList.drop 0 = dktX7_unpack_0 := by decide +kernel
theorem dksX7_unpack_1 : cX7_unpack.data.toList.drop 22 = dktX7_unpack_1 := dk_seg dksX7_unpack_0 22 rfl rfl
theorem dksX7_unpack_2 : cX7_unpack.data.toList.drop 46 = dktX7_unpack_2 := dk_seg dksX7_unpack_1 24 rfl rfl
theorem dksX7_unpack_3 : cX7_unpack.data.toList.drop 70 = dktX7_unpack_3 := dk_seg dksX7_unpack_2 24 rfl rfl
theorem dksX7_unpack_4 : cX7_unpack.data.toList.drop 94 = dktX7_unpack_4 := dk_seg dksX7_unpack_3 24 rfl rfl
theorem dksX7_unpack_5 : cX7_unpack.data.toList.drop 118 = dktX7_unpack_5 := dk_seg dksX7_unpack_4 24 rfl rfl
theorem dksX7_unpack_6 : cX7_unpack.data.toList.drop 141 = dktX7_unpack_6 := dk_seg dksX7_unpack_5 23 rfl rfl
theorem dksX7_unpack_7 : cX7_unpack.data.toList.drop 163 = dktX7_unpack_7 := dk_seg dksX7_unpack_6 22 rfl rfl
theorem dX7_unpack_0 : decode cX7_unpack 0 = .ok (.aload_n 0, 1) := dk_42 (dk_at dksX7_unpack_0 0 rfl rfl)
theorem dX7_unpack_1 : decode cX7_unpack 1 = .ok (.aload_n 1, 1) := dk_43 (dk_at dksX7_unpack_0 1 rfl rfl)
theorem dX7_unpack_2 : decode cX7_unpack 2 = .ok (.iload_n 2, 1) := dk_28 (dk_at dksX7_unpack_0 2 rfl rfl)
theorem dX7_unpack_3 : decode cX7_unpack 3 = .ok (.iaload, 1) := dk_46 (dk_at dksX7_unpack_0 3 rfl rfl)
theorem dX7_unpack_4 : decode cX7_unpack 4 = .ok (.putfield 316, 3) := dk_181 1 60 (dk_at dksX7_unpack_0 4 rfl rfl)
theorem dX7_unpack_7 : decode cX7_unpack 7 = .ok (.aload_n 0, 1) := dk_42 (dk_at dksX7_unpack_0 7 rfl rfl)
theorem dX7_unpack_8 : decode cX7_unpack 8 = .ok (.aload_n 1, 1) := dk_43 (dk_at dksX7_unpack_0 8 rfl rfl)
theorem dX7_unpack_9 : decode cX7_unpack 9 = .ok (.iload_n 2, 1) := dk_28 (dk_at dksX7_unpack_0 9 rfl rfl)
theorem dX7_unpack_10 : decode cX7_unpack 10 = .ok (.iconst 1, 1) := dk_4 (dk_at dksX7_unpack_0 10 rfl rfl)
theorem dX7_unpack_11 : decode cX7_unpack 11 = .ok (.iadd, 1) := dk_96 (dk_at dksX7_unpack_0 11 rfl rfl)
theorem dX7_unpack_12 : decode cX7_unpack 12 = .ok (.iaload, 1) := dk_46 (dk_at dksX7_unpack_0 12 rfl rfl)
theorem dX7_unpack_13 : decode cX7_unpack 13 = .ok (.putfield 318, 3) := dk_181 1 62 (dk_at dksX7_unpack_0 13 rfl rfl)
theorem dX7_unpack_16 : decode cX7_unpack 16 = .ok (.aload_n 0, 1) := dk_42 (dk_at dksX7_unpack_0 16 rfl rfl)
theorem dX7_unpack_17 : decode cX7_unpack 17 = .ok (.aload_n 1, 1) := dk_43 (dk_at dksX7_unpack_0 17 rfl rfl)
theorem dX7_unpack_18 : decode cX7_unpack 18 = .ok (.iload_n 2, 1) := dk_28 (dk_at dksX7_unpack_0 18 rfl rfl)
theorem dX7_unpack_19 : decode cX7_unpack 19 = .ok (.iconst 2, 1) := dk_5 (dk_at dksX7_unpack_0 19 rfl rfl)
theorem dX7_unpack_20 : decode cX7_unpack 20 = .ok (.iadd, 1) := dk_96 (dk_at dksX7_unpack_0 20 rfl rfl)
theorem dX7_unpack_21 : decode cX7_unpack 21 = .ok (.iaload, 1) := dk_46 (dk_at dksX7_unpack_0 21 rfl rfl)
theorem dX7_unpack_22 : decode cX7_unpack 22 = .ok (.putfield 321, 3) := dk_181 1 65 (dk_at dksX7_unpack_1 0 rfl rfl)
theorem dX7_unpack_25 : decode cX7_unpack 25 = .ok (.iconst 0, 1) := dk_3 (dk_at dksX7_unpack_1 3 rfl rfl)
theorem dX7_unpack_26 : decode cX7_unpack 26 = .ok (.istore_n 3, 1) := dk_62 (dk_at dksX7_unpack_1 4 rfl rfl)
theorem dX7_unpack_27 : decode cX7_unpack 27 = .ok (.iload_n 3, 1) := dk_29 (dk_at dksX7_unpack_1 5 rfl rfl)
theorem dX7_unpack_28 : decode cX7_unpack 28 = .ok (.bipush 8, 2) := dk_16 8 (dk_at dksX7_unpack_1 6 rfl rfl)
theorem dX7_unpack_30 : decode cX7_unpack 30 = .ok (.if_icmp .ge 54, 3) := dk_162 0 54 (dk_at dksX7_unpack_1 8 rfl rfl)
theorem dX7_unpack_33 : decode cX7_unpack 33 = .ok (.aload_n 0, 1) := dk_42 (dk_at dksX7_unpack_1 11 rfl rfl)
theorem dX7_unpack_34 : decode cX7_unpack 34 = .ok (.getfield 72, 3) := dk_180 0 72 (dk_at dksX7_unpack_1 12 rfl rfl)
theorem dX7_unpack_37 : decode cX7_unpack 37 = .ok (.iload_n 3, 1) := dk_29 (dk_at dksX7_unpack_1 15 rfl rfl)
theorem dX7_unpack_38 : decode cX7_unpack 38 = .ok (.aload_n 1, 1) := dk_43 (dk_at dksX7_unpack_1 16 rfl rfl)
theorem dX7_unpack_39 : decode cX7_unpack 39 = .ok (.iload_n 2, 1) := dk_28 (dk_at dksX7_unpack_1 17 rfl rfl)
theorem dX7_unpack_40 : decode cX7_unpack 40 = .ok (.iconst 3, 1) := dk_6 (dk_at dksX7_unpack_1 18 rfl rfl)
theorem dX7_unpack_41 : decode cX7_unpack 41 = .ok (.iadd, 1) := dk_96 (dk_at dksX7_unpack_1 19 rfl rfl)
theorem dX7_unpack_42 : decode cX7_unpack 42 = .ok (.iload_n 3, 1) := dk_29 (dk_at dksX7_unpack_1 20 rfl rfl)
theorem dX7_unpack_43 : decode cX7_unpack 43 = .ok (.iadd, 1) := dk_96 (dk_at dksX7_unpack_1 21 rfl rfl)
theorem dX7_unpack_44 : decode cX7_unpack 44 = .ok (.iaload, 1) := dk_46 (dk_at dksX7_unpack_1 22 rfl rfl)
theorem dX7_unpack_45 : decode cX7_unpack 45 = .ok (.iastore, 1) := dk_79 (dk_at dksX7_unpack_1 23 rfl rfl)
theorem dX7_unpack_46 : decode cX7_unpack 46 = .ok (.aload_n 0, 1) := dk_42 (dk_at dksX7_unpack_2 0 rfl rfl)
theorem dX7_unpack_47 : decode cX7_unpack 47 = .ok (.getfield 74, 3) := dk_180 0 74 (dk_at dksX7_unpack_2 1 rfl rfl)
theorem dX7_unpack_50 : decode cX7_unpack 50 = .ok (.iload_n 3, 1) := dk_29 (dk_at dksX7_unpack_2 4 rfl rfl)
theorem dX7_unpack_51 : decode cX7_unpack 51 = .ok (.aload_n 1, 1) := dk_43 (dk_at dksX7_unpack_2 5 rfl rfl)
theorem dX7_unpack_52 : decode cX7_unpack 52 = .ok (.iload_n 2, 1) := dk_28 (dk_at dksX7_unpack_2 6 rfl rfl)
theorem dX7_unpack_53 : decode cX7_unpack 53 = .ok (.iconst 3, 1) := dk_6 (dk_at dksX7_unpack_2 7 rfl rfl)
theorem dX7_unpack_54 : decode cX7_unpack 54 = .ok (.iadd, 1) := dk_96 (dk_at dksX7_unpack_2 8 rfl rfl)
theorem dX7_unpack_55 : decode cX7_unpack 55 = .ok (.bipush 8, 2) := dk_16 8 (dk_at dksX7_unpack_2 9 rfl rfl)
theorem dX7_unpack_57 : decode cX7_unpack 57 = .ok (.iadd, 1) := dk_96 (dk_at dksX7_unpack_2 11 rfl rfl)
theorem dX7_unpack_58 : decode cX7_unpack 58 = .ok (.iload_n 3, 1) := dk_29 (dk_at dksX7_unpack_2 12 rfl rfl)
theorem dX7_unpack_59 : decode cX7_unpack 59 = .ok (.iadd, 1) := dk_96 (dk_at dksX7_unpack_2 13 rfl rfl)
theorem dX7_unpack_60 : decode cX7_unpack 60 = .ok (.iaload, 1) := dk_46 (dk_at dksX7_unpack_2 14 rfl rfl)
theorem dX7_unpack_61 : decode cX7_unpack 61 = .ok (.iastore, 1) := dk_79 (dk_at dksX7_unpack_2 15 rfl rfl)
theorem dX7_unpack_62 : decode cX7_unpack 62 = .ok (.aload_n 0, 1) := dk_42 (dk_at dksX7_unpack_2 16 rfl rfl)
theorem dX7_unpack_63 : decode cX7_unpack 63 = .ok (.getfield 77, 3) := dk_180 0 77 (dk_at dksX7_unpack_2 17 rfl rfl)
theorem dX7_unpack_66 : decode cX7_unpack 66 = .ok (.iload_n 3, 1) := dk_29 (dk_at dksX7_unpack_2 20 rfl rfl)
theorem dX7_unpack_67 : decode cX7_unpack 67 = .ok (.aload_n 1, 1) := dk_43 (dk_at dksX7_unpack_2 21 rfl rfl)
theorem dX7_unpack_68 : decode cX7_unpack 68 = .ok (.iload_n 2, 1) := dk_28 (dk_at dksX7_unpack_2 22 rfl rfl)
theorem dX7_unpack_69 : decode cX7_unpack 69 = .ok (.iconst 3, 1) := dk_6 (dk_at dksX7_unpack_2 23 rfl rfl)
theorem dX7_unpack_70 : decode cX7_unpack 70 = .ok (.iadd, 1) := dk_96 (dk_at dksX7_unpack_3 0 rfl rfl)
theorem dX7_unpack_71 : decode cX7_unpack 71 = .ok (.bipush 16, 2) := dk_16 16 (dk_at dksX7_unpack_3 1 rfl rfl)
theorem dX7_unpack_73 : decode cX7_unpack 73 = .ok (.iadd, 1) := dk_96 (dk_at dksX7_unpack_3 3 rfl rfl)
theorem dX7_unpack_74 : decode cX7_unpack 74 = .ok (.iload_n 3, 1) := dk_29 (dk_at dksX7_unpack_3 4 rfl rfl)
theorem dX7_unpack_75 : decode cX7_unpack 75 = .ok (.iadd, 1) := dk_96 (dk_at dksX7_unpack_3 5 rfl rfl)
theorem dX7_unpack_76 : decode cX7_unpack 76 = .ok (.iaload, 1) := dk_46 (dk_at dksX7_unpack_3 6 rfl rfl)
theorem dX7_unpack_77 : decode cX7_unpack 77 = .ok (.iastore, 1) := dk_79 (dk_at dksX7_unpack_3 7 rfl rfl)
theorem dX7_unpack_78 : decode cX7_unpack 78 = .ok (.iinc 3 1, 3) := dk_132 3 1 (dk_at dksX7_unpack_3 8 rfl rfl)
theorem dX7_unpack_81 : decode cX7_unpack 81 = .ok (.goto (-54), 3) := dk_167 255 202 (dk_at dksX7_unpack_3 11 rfl rfl)
theorem dX7_unpack_84 : decode cX7_unpack 84 = .ok (.iload_n 2, 1) := dk_28 (dk_at dksX7_unpack_3 14 rfl rfl)
theorem dX7_unpack_85 : decode cX7_unpack 85 = .ok (.iconst 3, 1) := dk_6 (dk_at dksX7_unpack_3 15 rfl rfl)
theorem dX7_unpack_86 : decode cX7_unpack 86 = .ok (.iadd, 1) := dk_96 (dk_at dksX7_unpack_3 16 rfl rfl)
theorem dX7_unpack_87 : decode cX7_unpack 87 = .ok (.bipush 24, 2) := dk_16 24 (dk_at dksX7_unpack_3 17 rfl rfl)
theorem dX7_unpack_89 : decode cX7_unpack 89 = .ok (.iadd, 1) := dk_96 (dk_at dksX7_unpack_3 19 rfl rfl)
theorem dX7_unpack_90 : decode cX7_unpack 90 = .ok (.istore_n 3, 1) := dk_62 (dk_at dksX7_unpack_3 20 rfl rfl)
theorem dX7_unpack_91 : decode cX7_unpack 91 = .ok (.iconst 0, 1) := dk_3 (dk_at dksX7_unpack_3 21 rfl rfl)
theorem dX7_unpack_92 : decode cX7_unpack 92 = .ok (.istore 4, 2) := dk_54 4 (dk_at dksX7_unpack_3 22 rfl rfl)
theorem dX7_unpack_94 : decode cX7_unpack 94 = .ok (.iload 4, 2) := dk_21 4 (dk_at dksX7_unpack_4 0 rfl rfl)
theorem dX7_unpack_96 : decode cX7_unpack 96 = .ok (.bipush 6, 2) := dk_16 6 (dk_at dksX7_unpack_4 2 rfl rfl)
theorem dX7_unpack_98 : decode cX7_unpack 98 = .ok (.if_icmp .ge 86, 3) := dk_162 0 86 (dk_at dksX7_unpack_4 4 rfl rfl)
theorem dX7_unpack_101 : decode cX7_unpack 101 = .ok (.aload_n 0, 1) := dk_42 (dk_at dksX7_unpack_4 7 rfl rfl)
theorem dX7_unpack_102 : decode cX7_unpack 102 = .ok (.getfield 80, 3) := dk_180 0 80 (dk_at dksX7_unpack_4 8 rfl rfl)
theorem dX7_unpack_105 : decode cX7_unpack 105 = .ok (.iload 4, 2) := dk_21 4 (dk_at dksX7_unpack_4 11 rfl rfl)
theorem dX7_unpack_107 : decode cX7_unpack 107 = .ok (.aload_n 1, 1) := dk_43 (dk_at dksX7_unpack_4 13 rfl rfl)
theorem dX7_unpack_108 : decode cX7_unpack 108 = .ok (.iload_n 3, 1) := dk_29 (dk_at dksX7_unpack_4 14 rfl rfl)
theorem dX7_unpack_109 : decode cX7_unpack 109 = .ok (.iload 4, 2) := dk_21 4 (dk_at dksX7_unpack_4 15 rfl rfl)
theorem dX7_unpack_111 : decode cX7_unpack 111 = .ok (.iadd, 1) := dk_96 (dk_at dksX7_unpack_4 17 rfl rfl)
theorem dX7_unpack_112 : decode cX7_unpack 112 = .ok (.iaload, 1) := dk_46 (dk_at dksX7_unpack_4 18 rfl rfl)
theorem dX7_unpack_113 : decode cX7_unpack 113 = .ok (.iastore, 1) := dk_79 (dk_at dksX7_unpack_4 19 rfl rfl)
theorem dX7_unpack_114 : decode cX7_unpack 114 = .ok (.aload_n 0, 1) := dk_42 (dk_at dksX7_unpack_4 20 rfl rfl)
theorem dX7_unpack_115 : decode cX7_unpack 115 = .ok (.getfield 83, 3) := dk_180 0 83 (dk_at dksX7_unpack_4 21 rfl rfl)
theorem dX7_unpack_118 : decode cX7_unpack 118 = .ok (.iload 4, 2) := dk_21 4 (dk_at dksX7_unpack_5 0 rfl rfl)
theorem dX7_unpack_120 : decode cX7_unpack 120 = .ok (.aload_n 1, 1) := dk_43 (dk_at dksX7_unpack_5 2 rfl rfl)
theorem dX7_unpack_121 : decode cX7_unpack 121 = .ok (.iload_n 3, 1) := dk_29 (dk_at dksX7_unpack_5 3 rfl rfl)
theorem dX7_unpack_122 : decode cX7_unpack 122 = .ok (.bipush 6, 2) := dk_16 6 (dk_at dksX7_unpack_5 4 rfl rfl)
theorem dX7_unpack_124 : decode cX7_unpack 124 = .ok (.iadd, 1) := dk_96 (dk_at dksX7_unpack_5 6 rfl rfl)
theorem dX7_unpack_125 : decode cX7_unpack 125 = .ok (.iload 4, 2) := dk_21 4 (dk_at dksX7_unpack_5 7 rfl rfl)
theorem dX7_unpack_127 : decode cX7_unpack 127 = .ok (.iadd, 1) := dk_96 (dk_at dksX7_unpack_5 9 rfl rfl)
theorem dX7_unpack_128 : decode cX7_unpack 128 = .ok (.iaload, 1) := dk_46 (dk_at dksX7_unpack_5 10 rfl rfl)
theorem dX7_unpack_129 : decode cX7_unpack 129 = .ok (.iastore, 1) := dk_79 (dk_at dksX7_unpack_5 11 rfl rfl)
theorem dX7_unpack_130 : decode cX7_unpack 130 = .ok (.aload_n 0, 1) := dk_42 (dk_at dksX7_unpack_5 12 rfl rfl)
theorem dX7_unpack_131 : decode cX7_unpack 131 = .ok (.getfield 86, 3) := dk_180 0 86 (dk_at dksX7_unpack_5 13 rfl rfl)
theorem dX7_unpack_134 : decode cX7_unpack 134 = .ok (.iload 4, 2) := dk_21 4 (dk_at dksX7_unpack_5 16 rfl rfl)
theorem dX7_unpack_136 : decode cX7_unpack 136 = .ok (.aload_n 1, 1) := dk_43 (dk_at dksX7_unpack_5 18 rfl rfl)
theorem dX7_unpack_137 : decode cX7_unpack 137 = .ok (.iload_n 3, 1) := dk_29 (dk_at dksX7_unpack_5 19 rfl rfl)
theorem dX7_unpack_138 : decode cX7_unpack 138 = .ok (.bipush 12, 2) := dk_16 12 (dk_at dksX7_unpack_5 20 rfl rfl)
theorem dX7_unpack_140 : decode cX7_unpack 140 = .ok (.iadd, 1) := dk_96 (dk_at dksX7_unpack_5 22 rfl rfl)
theorem dX7_unpack_141 : decode cX7_unpack 141 = .ok (.iload 4, 2) := dk_21 4 (dk_at dksX7_unpack_6 0 rfl rfl)
theorem dX7_unpack_143 : decode cX7_unpack 143 = .ok (.iadd, 1) := dk_96 (dk_at dksX7_unpack_6 2 rfl rfl)
theorem dX7_unpack_144 : decode cX7_unpack 144 = .ok (.iaload, 1) := dk_46 (dk_at dksX7_unpack_6 3 rfl rfl)
theorem dX7_unpack_145 : decode cX7_unpack 145 = .ok (.iastore, 1) := dk_79 (dk_at dksX7_unpack_6 4 rfl rfl)
theorem dX7_unpack_146 : decode cX7_unpack 146 = .ok (.aload_n 0, 1) := dk_42 (dk_at dksX7_unpack_6 5 rfl rfl)
theorem dX7_unpack_147 : decode cX7_unpack 147 = .ok (.getfield 88, 3) := dk_180 0 88 (dk_at dksX7_unpack_6 6 rfl rfl)
theorem dX7_unpack_150 : decode cX7_unpack 150 = .ok (.iload 4, 2) := dk_21 4 (dk_at dksX7_unpack_6 9 rfl rfl)
theorem dX7_unpack_152 : decode cX7_unpack 152 = .ok (.aload_n 1, 1) := dk_43 (dk_at dksX7_unpack_6 11 rfl rfl)
theorem dX7_unpack_153 : decode cX7_unpack 153 = .ok (.iload_n 3, 1) := dk_29 (dk_at dksX7_unpack_6 12 rfl rfl)
theorem dX7_unpack_154 : decode cX7_unpack 154 = .ok (.bipush 18, 2) := dk_16 18 (dk_at dksX7_unpack_6 13 rfl rfl)
theorem dX7_unpack_156 : decode cX7_unpack 156 = .ok (.iadd, 1) := dk_96 (dk_at dksX7_unpack_6 15 rfl rfl)
theorem dX7_unpack_157 : decode cX7_unpack 157 = .ok (.iload 4, 2) := dk_21 4 (dk_at dksX7_unpack_6 16 rfl rfl)
theorem dX7_unpack_159 : decode cX7_unpack 159 = .ok (.iadd, 1) := dk_96 (dk_at dksX7_unpack_6 18 rfl rfl)
theorem dX7_unpack_160 : decode cX7_unpack 160 = .ok (.iaload, 1) := dk_46 (dk_at dksX7_unpack_6 19 rfl rfl)
theorem dX7_unpack_161 : decode cX7_unpack 161 = .ok (.iastore, 1) := dk_79 (dk_at dksX7_unpack_6 20 rfl rfl)
theorem dX7_unpack_162 : decode cX7_unpack 162 = .ok (.aload_n 0, 1) := dk_42 (dk_at dksX7_unpack_6 21 rfl rfl)
theorem dX7_unpack_163 : decode cX7_unpack 163 = .ok (.getfield 90, 3) := dk_180 0 90 (dk_at dksX7_unpack_7 0 rfl rfl)
theorem dX7_unpack_166 : decode cX7_unpack 166 = .ok (.iload 4, 2) := dk_21 4 (dk_at dksX7_unpack_7 3 rfl rfl)
theorem dX7_unpack_168 : decode cX7_unpack 168 = .ok (.aload_n 1, 1) := dk_43 (dk_at dksX7_unpack_7 5 rfl rfl)
theorem dX7_unpack_169 : decode cX7_unpack 169 = .ok (.iload_n 3, 1) := dk_29 (dk_at dksX7_unpack_7 6 rfl rfl)
theorem dX7_unpack_170 : decode cX7_unpack 170 = .ok (.bipush 24, 2) := dk_16 24 (dk_at dksX7_unpack_7 7 rfl rfl)
theorem dX7_unpack_172 : decode cX7_unpack 172 = .ok (.iadd, 1) := dk_96 (dk_at dksX7_unpack_7 9 rfl rfl)
theorem dX7_unpack_173 : decode cX7_unpack 173 = .ok (.iload 4, 2) := dk_21 4 (dk_at dksX7_unpack_7 10 rfl rfl)
theorem dX7_unpack_175 : decode cX7_unpack 175 = .ok (.iadd, 1) := dk_96 (dk_at dksX7_unpack_7 12 rfl rfl)
theorem dX7_unpack_176 : decode cX7_unpack 176 = .ok (.iaload, 1) := dk_46 (dk_at dksX7_unpack_7 13 rfl rfl)
theorem dX7_unpack_177 : decode cX7_unpack 177 = .ok (.iastore, 1) := dk_79 (dk_at dksX7_unpack_7 14 rfl rfl)
theorem dX7_unpack_178 : decode cX7_unpack 178 = .ok (.iinc 4 1, 3) := dk_132 4 1 (dk_at dksX7_unpack_7 15 rfl rfl)
theorem dX7_unpack_181 : decode cX7_unpack 181 = .ok (.goto (-87), 3) := dk_167 255 169 (dk_at dksX7_unpack_7 18 rfl rfl)
theorem dX7_unpack_184 : decode cX7_unpack 184 = .ok (.return_, 1) := dk_177 (dk_at dksX7_unpack_7 21 rfl rfl)
abbrev cX7_then : ByteArray := prog_18_method_69_code
def yX7_then : MethodName := ⟨RX7, "then", "(II)I"⟩
def dkwX7_then_2 : List UInt8 := [42, 28, 182, 1, 141, 42, 180, 0, 72, 27, 46, 62, 42, 42, 180, 0, 102, 3, 182, 1, 148, 29, 172]
abbrev dktX7_then_2 : List UInt8 := dkwX7_then_2 ++ []
def dkwX7_then_1 : List UInt8 := [20, 1, 144, 184, 0, 153, 154, 0, 9, 42, 5, 182, 1, 47, 172, 42, 42, 180, 0, 102, 3, 182, 1, 129]
abbrev dktX7_then_1 : List UInt8 := dkwX7_then_1 ++ dktX7_then_2
def dkwX7_then_0 : List UInt8 := [42, 3, 181, 0, 150, 42, 27, 182, 1, 120, 154, 0, 9, 42, 4, 182, 1, 47, 172, 28, 133, 9]
abbrev dktX7_then_0 : List UInt8 := dkwX7_then_0 ++ dktX7_then_1
theorem dksX7_then_0 : cX7_then.data.toList.drop 0 = dktX7_then_0 := by decide +kernel
theorem dksX7_then_1 : cX7_then.data.toList.drop 22 = dktX7_then_1 := dk_seg dksX7_then_0 22 rfl rfl
theorem dksX7_then_2 : cX7_then.data.toList.drop 46 = dktX7_then_2 := dk_seg dksX7_then_1 24 rfl rfl
theorem dX7_then_0 : decode cX7_then 0 = .ok (.aload_n 0, 1) := dk_42 (dk_at dksX7_then_0 0 rfl rfl)
theorem dX7_then_1 : decode cX7_then 1 = .ok (.iconst 0, 1) := dk_3 (dk_at dksX7_then_0 1 rfl rfl)
theorem dX7_then_2 : decode cX7_then 2 = .ok (.putfield 150, 3) := dk_181 0 150 (dk_at dksX7_then_0 2 rfl rfl)
theorem dX7_then_5 : decode cX7_then 5 = .ok (.aload_n 0, 1) := dk_42 (dk_at dksX7_then_0 5 rfl rfl)
theorem dX7_then_6 : decode cX7_then 6 = .ok (.iload_n 1, 1) := dk_27 (dk_at dksX7_then_0 6 rfl rfl)
theorem dX7_then_7 : decode cX7_then 7 = .ok (.invokevirtual 376, 3) := dk_182 1 120 (dk_at dksX7_then_0 7 rfl rfl)
theorem dX7_then_10 : decode cX7_then 10 = .ok (.ifCond .ne 9, 3) := dk_154 0 9 (dk_at dksX7_then_0 10 rfl rfl)
theorem dX7_then_13 : decode cX7_then 13 = .ok (.aload_n 0, 1) := dk_42 (dk_at dksX7_then_0 13 rfl rfl)
theorem dX7_then_14 : decode cX7_then 14 = .ok (.iconst 1, 1) := dk_4 (dk_at dksX7_then_0 14 rfl rfl)
theorem dX7_then_15 : decode cX7_then 15 = .ok (.invokevirtual 303, 3) := dk_182 1 47 (dk_at dksX7_then_0 15 rfl rfl)
theorem dX7_then_18 : decode cX7_then 18 = .ok (.ireturn, 1) := dk_172 (dk_at dksX7_then_0 18 rfl rfl)
theorem dX7_then_19 : decode cX7_then 19 = .ok (.iload_n 2, 1) := dk_28 (dk_at dksX7_then_0 19 rfl rfl)
theorem dX7_then_20 : decode cX7_then 20 = .ok (.i2l, 1) := dk_133 (dk_at dksX7_then_0 20 rfl rfl)
theorem dX7_then_21 : decode cX7_then 21 = .ok (.lconst 0, 1) := dk_9 (dk_at dksX7_then_0 21 rfl rfl)
theorem dX7_then_22 : decode cX7_then 22 = .ok (.ldc2_w 400, 3) := dk_20 1 144 (dk_at dksX7_then_1 0 rfl rfl)
theorem dX7_then_25 : decode cX7_then 25 = .ok (.invokestatic 153, 3) := dk_184 0 153 (dk_at dksX7_then_1 3 rfl rfl)
theorem dX7_then_28 : decode cX7_then 28 = .ok (.ifCond .ne 9, 3) := dk_154 0 9 (dk_at dksX7_then_1 6 rfl rfl)
theorem dX7_then_31 : decode cX7_then 31 = .ok (.aload_n 0, 1) := dk_42 (dk_at dksX7_then_1 9 rfl rfl)
theorem dX7_then_32 : decode cX7_then 32 = .ok (.iconst 2, 1) := dk_5 (dk_at dksX7_then_1 10 rfl rfl)
theorem dX7_then_33 : decode cX7_then 33 = .ok (.invokevirtual 303, 3) := dk_182 1 47 (dk_at dksX7_then_1 11 rfl rfl)
theorem dX7_then_36 : decode cX7_then 36 = .ok (.ireturn, 1) := dk_172 (dk_at dksX7_then_1 14 rfl rfl)
theorem dX7_then_37 : decode cX7_then 37 = .ok (.aload_n 0, 1) := dk_42 (dk_at dksX7_then_1 15 rfl rfl)
theorem dX7_then_38 : decode cX7_then 38 = .ok (.aload_n 0, 1) := dk_42 (dk_at dksX7_then_1 16 rfl rfl)
theorem dX7_then_39 : decode cX7_then 39 = .ok (.getfield 102, 3) := dk_180 0 102 (dk_at dksX7_then_1 17 rfl rfl)
theorem dX7_then_42 : decode cX7_then 42 = .ok (.iconst 0, 1) := dk_3 (dk_at dksX7_then_1 20 rfl rfl)
theorem dX7_then_43 : decode cX7_then 43 = .ok (.invokevirtual 385, 3) := dk_182 1 129 (dk_at dksX7_then_1 21 rfl rfl)
theorem dX7_then_46 : decode cX7_then 46 = .ok (.aload_n 0, 1) := dk_42 (dk_at dksX7_then_2 0 rfl rfl)
theorem dX7_then_47 : decode cX7_then 47 = .ok (.iload_n 2, 1) := dk_28 (dk_at dksX7_then_2 1 rfl rfl)
theorem dX7_then_48 : decode cX7_then 48 = .ok (.invokevirtual 397, 3) := dk_182 1 141 (dk_at dksX7_then_2 2 rfl rfl)
theorem dX7_then_51 : decode cX7_then 51 = .ok (.aload_n 0, 1) := dk_42 (dk_at dksX7_then_2 5 rfl rfl)
theorem dX7_then_52 : decode cX7_then 52 = .ok (.getfield 72, 3) := dk_180 0 72 (dk_at dksX7_then_2 6 rfl rfl)
theorem dX7_then_55 : decode cX7_then 55 = .ok (.iload_n 1, 1) := dk_27 (dk_at dksX7_then_2 9 rfl rfl)
theorem dX7_then_56 : decode cX7_then 56 = .ok (.iaload, 1) := dk_46 (dk_at dksX7_then_2 10 rfl rfl)
theorem dX7_then_57 : decode cX7_then 57 = .ok (.istore_n 3, 1) := dk_62 (dk_at dksX7_then_2 11 rfl rfl)
theorem dX7_then_58 : decode cX7_then 58 = .ok (.aload_n 0, 1) := dk_42 (dk_at dksX7_then_2 12 rfl rfl)
theorem dX7_then_59 : decode cX7_then 59 = .ok (.aload_n 0, 1) := dk_42 (dk_at dksX7_then_2 13 rfl rfl)
theorem dX7_then_60 : decode cX7_then 60 = .ok (.getfield 102, 3) := dk_180 0 102 (dk_at dksX7_then_2 14 rfl rfl)
theorem dX7_then_63 : decode cX7_then 63 = .ok (.iconst 0, 1) := dk_3 (dk_at dksX7_then_2 17 rfl rfl)
theorem dX7_then_64 : decode cX7_then 64 = .ok (.invokevirtual 404, 3) := dk_182 1 148 (dk_at dksX7_then_2 18 rfl rfl)
theorem dX7_then_67 : decode cX7_then 67 = .ok (.iload_n 3, 1) := dk_29 (dk_at dksX7_then_2 21 rfl rfl)
theorem dX7_then_68 : decode cX7_then 68 = .ok (.ireturn, 1) := dk_172 (dk_at dksX7_then_2 22 rfl rfl)
abbrev cX7_empty : ByteArray := prog_18_method_70_code
def yX7_empty : MethodName := ⟨RX7, "empty", "(I)I"⟩
def dkwX7_empty_3 : List UInt8 := [182, 1, 148, 28, 172]
abbrev dktX7_empty_3 : List UInt8 := dkwX7_empty_3 ++ []
def dkwX7_empty_2 : List UInt8 := [46, 154, 0, 5, 29, 61, 42, 182, 1, 114, 132, 3, 1, 167, 255, 227, 42, 42, 180, 0, 102, 3]
abbrev dktX7_empty_2 : List UInt8 := dkwX7_empty_2 ++ dktX7_empty_3
def dkwX7_empty_1 : List UInt8 := [3, 182, 1, 129, 2, 61, 3, 62, 29, 16, 50, 163, 0, 29, 28, 2, 160, 0, 24, 42, 180, 0, 72, 27]
abbrev dktX7_empty_1 : List UInt8 := dkwX7_empty_1 ++ dktX7_empty_2
def dkwX7_empty_0 : List UInt8 := [42, 3, 181, 0, 150, 42, 27, 182, 1, 120, 154, 0, 9, 42, 4, 182, 1, 47, 172, 42, 42, 180, 0, 102]
abbrev dktX7_empty_0 : List UInt8 := dkwX7_empty_0 ++ dktX7_empty_1
theorem dksX7_empty_0 : cX7_empty.data.toList.drop 0 = dktX7_empty_0 := by decide +kernel
theorem dksX7_empty_1 : cX7_empty.data.toList.drop 24 = dktX7_empty_1 := dk_seg dksX7_empty_0 24 rfl rfl
theorem dksX7_empty_2 : cX7_empty.data.toList.drop 48 = dktX7_empty_2 := dk_seg dksX7_empty_1 24 rfl rfl
theorem dksX7_empty_3 : cX7_empty.data.toList.drop 70 = dktX7_empty_3 := dk_seg dksX7_empty_2 22 rfl rfl
theorem dX7_empty_0 : decode cX7_empty 0 = .ok (.aload_n 0, 1) := dk_42 (dk_at dksX7_empty_0 0 rfl rfl)
theorem dX7_empty_1 : decode cX7_empty 1 = .ok (.iconst 0, 1) := dk_3 (dk_at dksX7_empty_0 1 rfl rfl)
theorem dX7_empty_2 : decode cX7_empty 2 = .ok (.putfield 150, 3) := dk_181 0 150 (dk_at dksX7_empty_0 2 rfl rfl)
theorem dX7_empty_5 : decode cX7_empty 5 = .ok (.aload_n 0, 1) := dk_42 (dk_at dksX7_empty_0 5 rfl rfl)
theorem dX7_empty_6 : decode cX7_empty 6 = .ok (.iload_n 1, 1) := dk_27 (dk_at dksX7_empty_0 6 rfl rfl)
theorem dX7_empty_7 : decode cX7_empty 7 = .ok (.invokevirtual 376, 3) := dk_182 1 120 (dk_at dksX7_empty_0 7 rfl rfl)
theorem dX7_empty_10 : decode cX7_empty 10 = .ok (.ifCond .ne 9, 3) := dk_154 0 9 (dk_at dksX7_empty_0 10 rfl rfl)
theorem dX7_empty_13 : decode cX7_empty 13 = .ok (.aload_n 0, 1) := dk_42 (dk_at dksX7_empty_0 13 rfl rfl)
theorem dX7_empty_14 : decode cX7_empty 14 = .ok (.iconst 1, 1) := dk_4 (dk_at dksX7_empty_0 14 rfl rfl)
theorem dX7_empty_15 : decode cX7_empty 15 = .ok (.invokevirtual 303, 3) := dk_182 1 47 (dk_at dksX7_empty_0 15 rfl rfl)
theorem dX7_empty_18 : decode cX7_empty 18 = .ok (.ireturn, 1) := dk_172 (dk_at dksX7_empty_0 18 rfl rfl)
theorem dX7_empty_19 : decode cX7_empty 19 = .ok (.aload_n 0, 1) := dk_42 (dk_at dksX7_empty_0 19 rfl rfl)
theorem dX7_empty_20 : decode cX7_empty 20 = .ok (.aload_n 0, 1) := dk_42 (dk_at dksX7_empty_0 20 rfl rfl)
theorem dX7_empty_21 : decode cX7_empty 21 = .ok (.getfield 102, 3) := dk_180 0 102 (dk_at dksX7_empty_0 21 rfl rfl)
theorem dX7_empty_24 : decode cX7_empty 24 = .ok (.iconst 0, 1) := dk_3 (dk_at dksX7_empty_1 0 rfl rfl)
theorem dX7_empty_25 : decode cX7_empty 25 = .ok (.invokevirtual 385, 3) := dk_182 1 129 (dk_at dksX7_empty_1 1 rfl rfl)
theorem dX7_empty_28 : decode cX7_empty 28 = .ok (.iconst (-1), 1) := dk_2 (dk_at dksX7_empty_1 4 rfl rfl)
theorem dX7_empty_29 : decode cX7_empty 29 = .ok (.istore_n 2, 1) := dk_61 (dk_at dksX7_empty_1 5 rfl rfl)
theorem dX7_empty_30 : decode cX7_empty 30 = .ok (.iconst 0, 1) := dk_3 (dk_at dksX7_empty_1 6 rfl rfl)
theorem dX7_empty_31 : decode cX7_empty 31 = .ok (.istore_n 3, 1) := dk_62 (dk_at dksX7_empty_1 7 rfl rfl)
theorem dX7_empty_32 : decode cX7_empty 32 = .ok (.iload_n 3, 1) := dk_29 (dk_at dksX7_empty_1 8 rfl rfl)
theorem dX7_empty_33 : decode cX7_empty 33 = .ok (.bipush 50, 2) := dk_16 50 (dk_at dksX7_empty_1 9 rfl rfl)
theorem dX7_empty_35 : decode cX7_empty 35 = .ok (.if_icmp .gt 29, 3) := dk_163 0 29 (dk_at dksX7_empty_1 11 rfl rfl)
theorem dX7_empty_38 : decode cX7_empty 38 = .ok (.iload_n 2, 1) := dk_28 (dk_at dksX7_empty_1 14 rfl rfl)
theorem dX7_empty_39 : decode cX7_empty 39 = .ok (.iconst (-1), 1) := dk_2 (dk_at dksX7_empty_1 15 rfl rfl)
theorem dX7_empty_40 : decode cX7_empty 40 = .ok (.if_icmp .ne 24, 3) := dk_160 0 24 (dk_at dksX7_empty_1 16 rfl rfl)
theorem dX7_empty_43 : decode cX7_empty 43 = .ok (.aload_n 0, 1) := dk_42 (dk_at dksX7_empty_1 19 rfl rfl)
theorem dX7_empty_44 : decode cX7_empty 44 = .ok (.getfield 72, 3) := dk_180 0 72 (dk_at dksX7_empty_1 20 rfl rfl)
theorem dX7_empty_47 : decode cX7_empty 47 = .ok (.iload_n 1, 1) := dk_27 (dk_at dksX7_empty_1 23 rfl rfl)
theorem dX7_empty_48 : decode cX7_empty 48 = .ok (.iaload, 1) := dk_46 (dk_at dksX7_empty_2 0 rfl rfl)
theorem dX7_empty_49 : decode cX7_empty 49 = .ok (.ifCond .ne 5, 3) := dk_154 0 5 (dk_at dksX7_empty_2 1 rfl rfl)
theorem dX7_empty_52 : decode cX7_empty 52 = .ok (.iload_n 3, 1) := dk_29 (dk_at dksX7_empty_2 4 rfl rfl)
theorem dX7_empty_53 : decode cX7_empty 53 = .ok (.istore_n 2, 1) := dk_61 (dk_at dksX7_empty_2 5 rfl rfl)
theorem dX7_empty_54 : decode cX7_empty 54 = .ok (.aload_n 0, 1) := dk_42 (dk_at dksX7_empty_2 6 rfl rfl)
theorem dX7_empty_55 : decode cX7_empty 55 = .ok (.invokevirtual 370, 3) := dk_182 1 114 (dk_at dksX7_empty_2 7 rfl rfl)
theorem dX7_empty_58 : decode cX7_empty 58 = .ok (.iinc 3 1, 3) := dk_132 3 1 (dk_at dksX7_empty_2 10 rfl rfl)
theorem dX7_empty_61 : decode cX7_empty 61 = .ok (.goto (-29), 3) := dk_167 255 227 (dk_at dksX7_empty_2 13 rfl rfl)
theorem dX7_empty_64 : decode cX7_empty 64 = .ok (.aload_n 0, 1) := dk_42 (dk_at dksX7_empty_2 16 rfl rfl)
theorem dX7_empty_65 : decode cX7_empty 65 = .ok (.aload_n 0, 1) := dk_42 (dk_at dksX7_empty_2 17 rfl rfl)
theorem dX7_empty_66 : decode cX7_empty 66 = .ok (.getfield 102, 3) := dk_180 0 102 (dk_at dksX7_empty_2 18 rfl rfl)
theorem dX7_empty_69 : decode cX7_empty 69 = .ok (.iconst 0, 1) := dk_3 (dk_at dksX7_empty_2 21 rfl rfl)
theorem dX7_empty_70 : decode cX7_empty 70 = .ok (.invokevirtual 404, 3) := dk_182 1 148 (dk_at dksX7_empty_3 0 rfl rfl)
theorem dX7_empty_73 : decode cX7_empty 73 = .ok (.iload_n 2, 1) := dk_28 (dk_at dksX7_empty_3 3 rfl rfl)
theorem dX7_empty_74 : decode cX7_empty 74 = .ok (.ireturn, 1) := dk_172 (dk_at dksX7_empty_3 4 rfl rfl)
abbrev cX7_paid : ByteArray := prog_18_method_71_code
def yX7_paid : MethodName := ⟨RX7, "paid", "(II)I"⟩
def dkwX7_paid_3 : List UInt8 := [182, 1, 148, 28, 154, 0, 12, 29, 42, 180, 1, 62, 100, 167, 0, 10, 21, 4, 42, 180, 1, 65, 100, 172]
abbrev dktX7_paid_3 : List UInt8 := dkwX7_paid_3 ++ []
def dkwX7_paid_2 : List UInt8 := [42, 27, 182, 1, 141, 42, 180, 1, 62, 62, 42, 180, 1, 65, 54, 4, 42, 42, 180, 0, 102, 3]
abbrev dktX7_paid_2 : List UInt8 := dkwX7_paid_2 ++ dktX7_paid_3
def dkwX7_paid_1 : List UInt8 := [20, 1, 144, 184, 0, 153, 154, 0, 9, 42, 5, 182, 1, 47, 172, 42, 42, 180, 0, 102, 3, 182, 1, 129]
abbrev dktX7_paid_1 : List UInt8 := dkwX7_paid_1 ++ dktX7_paid_2
def dkwX7_paid_0 : List UInt8 := [42, 3, 181, 0, 150, 28, 155, 0, 8, 28, 4, 164, 0, 9, 42, 4, 182, 1, 47, 172, 27, 133, 9]
abbrev dktX7_paid_0 : List UInt8 := dkwX7_paid_0 ++ dktX7_paid_1
theorem dksX7_paid_0 : cX7_paid.data.toList.drop 0 = dktX7_paid_0 := by decide +kernel
theorem dksX7_paid_1 : cX7_paid.data.toList.drop 23 = dktX7_paid_1 := dk_seg dksX7_paid_0 23 rfl rfl
theorem dksX7_paid_2 : cX7_paid.data.toList.drop 47 = dktX7_paid_2 := dk_seg dksX7_paid_1 24 rfl rfl
theorem dksX7_paid_3 : cX7_paid.data.toList.drop 69 = dktX7_paid_3 := dk_seg dksX7_paid_2 22 rfl rfl
theorem dX7_paid_0 : decode cX7_paid 0 = .ok (.aload_n 0, 1) := dk_42 (dk_at dksX7_paid_0 0 rfl rfl)
theorem dX7_paid_1 : decode cX7_paid 1 = .ok (.iconst 0, 1) := dk_3 (dk_at dksX7_paid_0 1 rfl rfl)
theorem dX7_paid_2 : decode cX7_paid 2 = .ok (.putfield 150, 3) := dk_181 0 150 (dk_at dksX7_paid_0 2 rfl rfl)
theorem dX7_paid_5 : decode cX7_paid 5 = .ok (.iload_n 2, 1) := dk_28 (dk_at dksX7_paid_0 5 rfl rfl)
theorem dX7_paid_6 : decode cX7_paid 6 = .ok (.ifCond .lt 8, 3) := dk_155 0 8 (dk_at dksX7_paid_0 6 rfl rfl)
theorem dX7_paid_9 : decode cX7_paid 9 = .ok (.iload_n 2, 1) := dk_28 (dk_at dksX7_paid_0 9 rfl rfl)
theorem dX7_paid_10 : decode cX7_paid 10 = .ok (.iconst 1, 1) := dk_4 (dk_at dksX7_paid_0 10 rfl rfl)
theorem dX7_paid_11 : decode cX7_paid 11 = .ok (.if_icmp .le 9, 3) := dk_164 0 9 (dk_at dksX7_paid_0 11 rfl rfl)
theorem dX7_paid_14 : decode cX7_paid 14 = .ok (.aload_n 0, 1) := dk_42 (dk_at dksX7_paid_0 14 rfl rfl)
theorem dX7_paid_15 : decode cX7_paid 15 = .ok (.iconst 1, 1) := dk_4 (dk_at dksX7_paid_0 15 rfl rfl)
theorem dX7_paid_16 : decode cX7_paid 16 = .ok (.invokevirtual 303, 3) := dk_182 1 47 (dk_at dksX7_paid_0 16 rfl rfl)
theorem dX7_paid_19 : decode cX7_paid 19 = .ok (.ireturn, 1) := dk_172 (dk_at dksX7_paid_0 19 rfl rfl)
theorem dX7_paid_20 : decode cX7_paid 20 = .ok (.iload_n 1, 1) := dk_27 (dk_at dksX7_paid_0 20 rfl rfl)
theorem dX7_paid_21 : decode cX7_paid 21 = .ok (.i2l, 1) := dk_133 (dk_at dksX7_paid_0 21 rfl rfl)
theorem dX7_paid_22 : decode cX7_paid 22 = .ok (.lconst 0, 1) := dk_9 (dk_at dksX7_paid_0 22 rfl rfl)
theorem dX7_paid_23 : decode cX7_paid 23 = .ok (.ldc2_w 400, 3) := dk_20 1 144 (dk_at dksX7_paid_1 0 rfl rfl)
theorem dX7_paid_26 : decode cX7_paid 26 = .ok (.invokestatic 153, 3) := dk_184 0 153 (dk_at dksX7_paid_1 3 rfl rfl)
theorem dX7_paid_29 : decode cX7_paid 29 = .ok (.ifCond .ne 9, 3) := dk_154 0 9 (dk_at dksX7_paid_1 6 rfl rfl)
theorem dX7_paid_32 : decode cX7_paid 32 = .ok (.aload_n 0, 1) := dk_42 (dk_at dksX7_paid_1 9 rfl rfl)
theorem dX7_paid_33 : decode cX7_paid 33 = .ok (.iconst 2, 1) := dk_5 (dk_at dksX7_paid_1 10 rfl rfl)
theorem dX7_paid_34 : decode cX7_paid 34 = .ok (.invokevirtual 303, 3) := dk_182 1 47 (dk_at dksX7_paid_1 11 rfl rfl)
theorem dX7_paid_37 : decode cX7_paid 37 = .ok (.ireturn, 1) := dk_172 (dk_at dksX7_paid_1 14 rfl rfl)
theorem dX7_paid_38 : decode cX7_paid 38 = .ok (.aload_n 0, 1) := dk_42 (dk_at dksX7_paid_1 15 rfl rfl)
theorem dX7_paid_39 : decode cX7_paid 39 = .ok (.aload_n 0, 1) := dk_42 (dk_at dksX7_paid_1 16 rfl rfl)
theorem dX7_paid_40 : decode cX7_paid 40 = .ok (.getfield 102, 3) := dk_180 0 102 (dk_at dksX7_paid_1 17 rfl rfl)
theorem dX7_paid_43 : decode cX7_paid 43 = .ok (.iconst 0, 1) := dk_3 (dk_at dksX7_paid_1 20 rfl rfl)
theorem dX7_paid_44 : decode cX7_paid 44 = .ok (.invokevirtual 385, 3) := dk_182 1 129 (dk_at dksX7_paid_1 21 rfl rfl)
theorem dX7_paid_47 : decode cX7_paid 47 = .ok (.aload_n 0, 1) := dk_42 (dk_at dksX7_paid_2 0 rfl rfl)
theorem dX7_paid_48 : decode cX7_paid 48 = .ok (.iload_n 1, 1) := dk_27 (dk_at dksX7_paid_2 1 rfl rfl)
theorem dX7_paid_49 : decode cX7_paid 49 = .ok (.invokevirtual 397, 3) := dk_182 1 141 (dk_at dksX7_paid_2 2 rfl rfl)
theorem dX7_paid_52 : decode cX7_paid 52 = .ok (.aload_n 0, 1) := dk_42 (dk_at dksX7_paid_2 5 rfl rfl)
theorem dX7_paid_53 : decode cX7_paid 53 = .ok (.getfield 318, 3) := dk_180 1 62 (dk_at dksX7_paid_2 6 rfl rfl)
theorem dX7_paid_56 : decode cX7_paid 56 = .ok (.istore_n 3, 1) := dk_62 (dk_at dksX7_paid_2 9 rfl rfl)
theorem dX7_paid_57 : decode cX7_paid 57 = .ok (.aload_n 0, 1) := dk_42 (dk_at dksX7_paid_2 10 rfl rfl)
theorem dX7_paid_58 : decode cX7_paid 58 = .ok (.getfield 321, 3) := dk_180 1 65 (dk_at dksX7_paid_2 11 rfl rfl)
theorem dX7_paid_61 : decode cX7_paid 61 = .ok (.istore 4, 2) := dk_54 4 (dk_at dksX7_paid_2 14 rfl rfl)
theorem dX7_paid_63 : decode cX7_paid 63 = .ok (.aload_n 0, 1) := dk_42 (dk_at dksX7_paid_2 16 rfl rfl)
theorem dX7_paid_64 : decode cX7_paid 64 = .ok (.aload_n 0, 1) := dk_42 (dk_at dksX7_paid_2 17 rfl rfl)
theorem dX7_paid_65 : decode cX7_paid 65 = .ok (.getfield 102, 3) := dk_180 0 102 (dk_at dksX7_paid_2 18 rfl rfl)
theorem dX7_paid_68 : decode cX7_paid 68 = .ok (.iconst 0, 1) := dk_3 (dk_at dksX7_paid_2 21 rfl rfl)
theorem dX7_paid_69 : decode cX7_paid 69 = .ok (.invokevirtual 404, 3) := dk_182 1 148 (dk_at dksX7_paid_3 0 rfl rfl)
theorem dX7_paid_72 : decode cX7_paid 72 = .ok (.iload_n 2, 1) := dk_28 (dk_at dksX7_paid_3 3 rfl rfl)
theorem dX7_paid_73 : decode cX7_paid 73 = .ok (.ifCond .ne 12, 3) := dk_154 0 12 (dk_at dksX7_paid_3 4 rfl rfl)
theorem dX7_paid_76 : decode cX7_paid 76 = .ok (.iload_n 3, 1) := dk_29 (dk_at dksX7_paid_3 7 rfl rfl)
theorem dX7_paid_77 : decode cX7_paid 77 = .ok (.aload_n 0, 1) := dk_42 (dk_at dksX7_paid_3 8 rfl rfl)
theorem dX7_paid_78 : decode cX7_paid 78 = .ok (.getfield 318, 3) := dk_180 1 62 (dk_at dksX7_paid_3 9 rfl rfl)
theorem dX7_paid_81 : decode cX7_paid 81 = .ok (.isub, 1) := dk_100 (dk_at dksX7_paid_3 12 rfl rfl)
theorem dX7_paid_82 : decode cX7_paid 82 = .ok (.goto 10, 3) := dk_167 0 10 (dk_at dksX7_paid_3 13 rfl rfl)
theorem dX7_paid_85 : decode cX7_paid 85 = .ok (.iload 4, 2) := dk_21 4 (dk_at dksX7_paid_3 16 rfl rfl)
theorem dX7_paid_87 : decode cX7_paid 87 = .ok (.aload_n 0, 1) := dk_42 (dk_at dksX7_paid_3 18 rfl rfl)
theorem dX7_paid_88 : decode cX7_paid 88 = .ok (.getfield 321, 3) := dk_180 1 65 (dk_at dksX7_paid_3 19 rfl rfl)
theorem dX7_paid_91 : decode cX7_paid 91 = .ok (.isub, 1) := dk_100 (dk_at dksX7_paid_3 22 rfl rfl)
theorem dX7_paid_92 : decode cX7_paid 92 = .ok (.ireturn, 1) := dk_172 (dk_at dksX7_paid_3 23 rfl rfl)
abbrev cX7_hostages : ByteArray := prog_18_method_73_code
def yX7_hostages : MethodName := ⟨RX7, "hostages", "(I)I"⟩
def dkwX7_hostages_2 : List UInt8 := [182, 1, 148, 28, 42, 182, 1, 151, 100, 172]
abbrev dktX7_hostages_2 : List UInt8 := dkwX7_hostages_2 ++ []
def dkwX7_hostages_1 : List UInt8 := [42, 180, 0, 102, 3, 182, 1, 129, 42, 27, 182, 1, 141, 42, 182, 1, 151, 61, 42, 42, 180, 0, 102, 3]
abbrev dktX7_hostages_1 : List UInt8 := dkwX7_hostages_1 ++ dktX7_hostages_2
def dkwX7_hostages_0 : List UInt8 := [42, 3, 181, 0, 150, 27, 133, 9, 20, 1, 144, 184, 0, 153, 154, 0, 9, 42, 4, 182, 1, 47, 172, 42]
abbrev dktX7_hostages_0 : List UInt8 := dkwX7_hostages_0 ++ dktX7_hostages_1
theorem dksX7_hostages_0 : cX7_hostages.data.toList.drop 0 = dktX7_hostages_0 := by decide +kernel
theorem dksX7_hostages_1 : cX7_hostages.data.toList.drop 24 = dktX7_hostages_1 := dk_seg dksX7_hostages_0 24 rfl rfl
theorem dksX7_hostages_2 : cX7_hostages.data.toList.drop 48 = dktX7_hostages_2 := dk_seg dksX7_hostages_1 24 rfl rfl
theorem dX7_hostages_0 : decode cX7_hostages 0 = .ok (.aload_n 0, 1) := dk_42 (dk_at dksX7_hostages_0 0 rfl rfl)
theorem dX7_hostages_1 : decode cX7_hostages 1 = .ok (.iconst 0, 1) := dk_3 (dk_at dksX7_hostages_0 1 rfl rfl)
theorem dX7_hostages_2 : decode cX7_hostages 2 = .ok (.putfield 150, 3) := dk_181 0 150 (dk_at dksX7_hostages_0 2 rfl rfl)
theorem dX7_hostages_5 : decode cX7_hostages 5 = .ok (.iload_n 1, 1) := dk_27 (dk_at dksX7_hostages_0 5 rfl rfl)
theorem dX7_hostages_6 : decode cX7_hostages 6 = .ok (.i2l, 1) := dk_133 (dk_at dksX7_hostages_0 6 rfl rfl)
theorem dX7_hostages_7 : decode cX7_hostages 7 = .ok (.lconst 0, 1) := dk_9 (dk_at dksX7_hostages_0 7 rfl rfl)
theorem dX7_hostages_8 : decode cX7_hostages 8 = .ok (.ldc2_w 400, 3) := dk_20 1 144 (dk_at dksX7_hostages_0 8 rfl rfl)
theorem dX7_hostages_11 : decode cX7_hostages 11 = .ok (.invokestatic 153, 3) := dk_184 0 153 (dk_at dksX7_hostages_0 11 rfl rfl)
theorem dX7_hostages_14 : decode cX7_hostages 14 = .ok (.ifCond .ne 9, 3) := dk_154 0 9 (dk_at dksX7_hostages_0 14 rfl rfl)
theorem dX7_hostages_17 : decode cX7_hostages 17 = .ok (.aload_n 0, 1) := dk_42 (dk_at dksX7_hostages_0 17 rfl rfl)
theorem dX7_hostages_18 : decode cX7_hostages 18 = .ok (.iconst 1, 1) := dk_4 (dk_at dksX7_hostages_0 18 rfl rfl)
theorem dX7_hostages_19 : decode cX7_hostages 19 = .ok (.invokevirtual 303, 3) := dk_182 1 47 (dk_at dksX7_hostages_0 19 rfl rfl)
theorem dX7_hostages_22 : decode cX7_hostages 22 = .ok (.ireturn, 1) := dk_172 (dk_at dksX7_hostages_0 22 rfl rfl)
theorem dX7_hostages_23 : decode cX7_hostages 23 = .ok (.aload_n 0, 1) := dk_42 (dk_at dksX7_hostages_0 23 rfl rfl)
theorem dX7_hostages_24 : decode cX7_hostages 24 = .ok (.aload_n 0, 1) := dk_42 (dk_at dksX7_hostages_1 0 rfl rfl)
theorem dX7_hostages_25 : decode cX7_hostages 25 = .ok (.getfield 102, 3) := dk_180 0 102 (dk_at dksX7_hostages_1 1 rfl rfl)
theorem dX7_hostages_28 : decode cX7_hostages 28 = .ok (.iconst 0, 1) := dk_3 (dk_at dksX7_hostages_1 4 rfl rfl)
theorem dX7_hostages_29 : decode cX7_hostages 29 = .ok (.invokevirtual 385, 3) := dk_182 1 129 (dk_at dksX7_hostages_1 5 rfl rfl)
theorem dX7_hostages_32 : decode cX7_hostages 32 = .ok (.aload_n 0, 1) := dk_42 (dk_at dksX7_hostages_1 8 rfl rfl)
theorem dX7_hostages_33 : decode cX7_hostages 33 = .ok (.iload_n 1, 1) := dk_27 (dk_at dksX7_hostages_1 9 rfl rfl)
theorem dX7_hostages_34 : decode cX7_hostages 34 = .ok (.invokevirtual 397, 3) := dk_182 1 141 (dk_at dksX7_hostages_1 10 rfl rfl)
theorem dX7_hostages_37 : decode cX7_hostages 37 = .ok (.aload_n 0, 1) := dk_42 (dk_at dksX7_hostages_1 13 rfl rfl)
theorem dX7_hostages_38 : decode cX7_hostages 38 = .ok (.invokevirtual 407, 3) := dk_182 1 151 (dk_at dksX7_hostages_1 14 rfl rfl)
theorem dX7_hostages_41 : decode cX7_hostages 41 = .ok (.istore_n 2, 1) := dk_61 (dk_at dksX7_hostages_1 17 rfl rfl)
theorem dX7_hostages_42 : decode cX7_hostages 42 = .ok (.aload_n 0, 1) := dk_42 (dk_at dksX7_hostages_1 18 rfl rfl)
theorem dX7_hostages_43 : decode cX7_hostages 43 = .ok (.aload_n 0, 1) := dk_42 (dk_at dksX7_hostages_1 19 rfl rfl)
theorem dX7_hostages_44 : decode cX7_hostages 44 = .ok (.getfield 102, 3) := dk_180 0 102 (dk_at dksX7_hostages_1 20 rfl rfl)
theorem dX7_hostages_47 : decode cX7_hostages 47 = .ok (.iconst 0, 1) := dk_3 (dk_at dksX7_hostages_1 23 rfl rfl)
theorem dX7_hostages_48 : decode cX7_hostages 48 = .ok (.invokevirtual 404, 3) := dk_182 1 148 (dk_at dksX7_hostages_2 0 rfl rfl)
theorem dX7_hostages_51 : decode cX7_hostages 51 = .ok (.iload_n 2, 1) := dk_28 (dk_at dksX7_hostages_2 3 rfl rfl)
theorem dX7_hostages_52 : decode cX7_hostages 52 = .ok (.aload_n 0, 1) := dk_42 (dk_at dksX7_hostages_2 4 rfl rfl)
theorem dX7_hostages_53 : decode cX7_hostages 53 = .ok (.invokevirtual 407, 3) := dk_182 1 151 (dk_at dksX7_hostages_2 5 rfl rfl)
theorem dX7_hostages_56 : decode cX7_hostages 56 = .ok (.isub, 1) := dk_100 (dk_at dksX7_hostages_2 8 rfl rfl)
theorem dX7_hostages_57 : decode cX7_hostages 57 = .ok (.ireturn, 1) := dk_172 (dk_at dksX7_hostages_2 9 rfl rfl)
abbrev cX7_allDead : ByteArray := prog_18_method_72_code
def yX7_allDead : MethodName := ⟨RX7, "allDead", "()I"⟩
def dkwX7_allDead_1 : List UInt8 := [132, 2, 1, 167, 255, 234, 27, 172]
abbrev dktX7_allDead_1 : List UInt8 := dkwX7_allDead_1 ++ []
def dkwX7_allDead_0 : List UInt8 := [3, 60, 3, 61, 28, 42, 180, 0, 29, 5, 46, 162, 0, 18, 27, 42, 180, 0, 90, 28, 46, 96, 60]
abbrev dktX7_allDead_0 : List UInt8 := dkwX7_allDead_0 ++ dktX7_allDead_1
theorem dksX7_allDead_0 : cX7_allDead.data.toList.drop 0 = dktX7_allDead_0 := by decide +kernel
theorem dksX7_allDead_1 : cX7_allDead.data.toList.drop 23 = dktX7_allDead_1 := dk_seg dksX7_allDead_0 23 rfl rfl
theorem dX7_allDead_0 : decode cX7_allDead 0 = .ok (.iconst 0, 1) := dk_3 (dk_at dksX7_allDead_0 0 rfl rfl)
theorem dX7_allDead_1 : decode cX7_allDead 1 = .ok (.istore_n 1, 1) := dk_60 (dk_at dksX7_allDead_0 1 rfl rfl)
theorem dX7_allDead_2 : decode cX7_allDead 2 = .ok (.iconst 0, 1) := dk_3 (dk_at dksX7_allDead_0 2 rfl rfl)
theorem dX7_allDead_3 : decode cX7_allDead 3 = .ok (.istore_n 2, 1) := dk_61 (dk_at dksX7_allDead_0 3 rfl rfl)
theorem dX7_allDead_4 : decode cX7_allDead 4 = .ok (.iload_n 2, 1) := dk_28 (dk_at dksX7_allDead_0 4 rfl rfl)
theorem dX7_allDead_5 : decode cX7_allDead 5 = .ok (.aload_n 0, 1) := dk_42 (dk_at dksX7_allDead_0 5 rfl rfl)
theorem dX7_allDead_6 : decode cX7_allDead 6 = .ok (.getfield 29, 3) := dk_180 0 29 (dk_at dksX7_allDead_0 6 rfl rfl)
theorem dX7_allDead_9 : decode cX7_allDead 9 = .ok (.iconst 2, 1) := dk_5 (dk_at dksX7_allDead_0 9 rfl rfl)
theorem dX7_allDead_10 : decode cX7_allDead 10 = .ok (.iaload, 1) := dk_46 (dk_at dksX7_allDead_0 10 rfl rfl)
theorem dX7_allDead_11 : decode cX7_allDead 11 = .ok (.if_icmp .ge 18, 3) := dk_162 0 18 (dk_at dksX7_allDead_0 11 rfl rfl)
theorem dX7_allDead_14 : decode cX7_allDead 14 = .ok (.iload_n 1, 1) := dk_27 (dk_at dksX7_allDead_0 14 rfl rfl)
theorem dX7_allDead_15 : decode cX7_allDead 15 = .ok (.aload_n 0, 1) := dk_42 (dk_at dksX7_allDead_0 15 rfl rfl)
theorem dX7_allDead_16 : decode cX7_allDead 16 = .ok (.getfield 90, 3) := dk_180 0 90 (dk_at dksX7_allDead_0 16 rfl rfl)
theorem dX7_allDead_19 : decode cX7_allDead 19 = .ok (.iload_n 2, 1) := dk_28 (dk_at dksX7_allDead_0 19 rfl rfl)
theorem dX7_allDead_20 : decode cX7_allDead 20 = .ok (.iaload, 1) := dk_46 (dk_at dksX7_allDead_0 20 rfl rfl)
theorem dX7_allDead_21 : decode cX7_allDead 21 = .ok (.iadd, 1) := dk_96 (dk_at dksX7_allDead_0 21 rfl rfl)
theorem dX7_allDead_22 : decode cX7_allDead 22 = .ok (.istore_n 1, 1) := dk_60 (dk_at dksX7_allDead_0 22 rfl rfl)
theorem dX7_allDead_23 : decode cX7_allDead 23 = .ok (.iinc 2 1, 3) := dk_132 2 1 (dk_at dksX7_allDead_1 0 rfl rfl)
theorem dX7_allDead_26 : decode cX7_allDead 26 = .ok (.goto (-22), 3) := dk_167 255 234 (dk_at dksX7_allDead_1 3 rfl rfl)
theorem dX7_allDead_29 : decode cX7_allDead 29 = .ok (.iload_n 1, 1) := dk_27 (dk_at dksX7_allDead_1 6 rfl rfl)
theorem dX7_allDead_30 : decode cX7_allDead 30 = .ok (.ireturn, 1) := dk_172 (dk_at dksX7_allDead_1 7 rfl rfl)
abbrev cX7_owing : ByteArray := prog_18_method_74_code
def yX7_owing : MethodName := ⟨RX7, "owing", "(I)I"⟩
def dkwX7_owing_4 : List UInt8 := [28, 172]
abbrev dktX7_owing_4 : List UInt8 := dkwX7_owing_4 ++ []
def dkwX7_owing_3 : List UInt8 := [61, 42, 180, 0, 88, 21, 4, 46, 62, 132, 4, 1, 167, 255, 217, 42, 42, 180, 0, 102, 3, 182, 1, 148]
abbrev dktX7_owing_3 : List UInt8 := dkwX7_owing_3 ++ dktX7_owing_4
def dkwX7_owing_2 : List UInt8 := [180, 0, 29, 5, 46, 162, 0, 34, 42, 180, 0, 88, 21, 4, 46, 29, 163, 0, 6, 167, 0, 14, 21, 4]
abbrev dktX7_owing_2 : List UInt8 := dkwX7_owing_2 ++ dktX7_owing_3
def dkwX7_owing_1 : List UInt8 := [42, 180, 0, 102, 3, 182, 1, 129, 42, 27, 182, 1, 141, 2, 61, 3, 62, 3, 54, 4, 21, 4, 42]
abbrev dktX7_owing_1 : List UInt8 := dkwX7_owing_1 ++ dktX7_owing_2
def dkwX7_owing_0 : List UInt8 := [42, 3, 181, 0, 150, 27, 133, 9, 20, 1, 144, 184, 0, 153, 154, 0, 9, 42, 4, 182, 1, 47, 172, 42]
abbrev dktX7_owing_0 : List UInt8 := dkwX7_owing_0 ++ dktX7_owing_1
theorem dksX7_owing_0 : cX7_owing.data.toList.drop 0 = dktX7_owing_0 := by decide +kernel
theorem dksX7_owing_1 : cX7_owing.data.toList.drop 24 = dktX7_owing_1 := dk_seg dksX7_owing_0 24 rfl rfl
theorem dksX7_owing_2 : cX7_owing.data.toList.drop 47 = dktX7_owing_2 := dk_seg dksX7_owing_1 23 rfl rfl
theorem dksX7_owing_3 : cX7_owing.data.toList.drop 71 = dktX7_owing_3 := dk_seg dksX7_owing_2 24 rfl rfl
theorem dksX7_owing_4 : cX7_owing.data.toList.drop 95 = dktX7_owing_4 := dk_seg dksX7_owing_3 24 rfl rfl
theorem dX7_owing_0 : decode cX7_owing 0 = .ok (.aload_n 0, 1) := dk_42 (dk_at dksX7_owing_0 0 rfl rfl)
theorem dX7_owing_1 : decode cX7_owing 1 = .ok (.iconst 0, 1) := dk_3 (dk_at dksX7_owing_0 1 rfl rfl)
theorem dX7_owing_2 : decode cX7_owing 2 = .ok (.putfield 150, 3) := dk_181 0 150 (dk_at dksX7_owing_0 2 rfl rfl)
theorem dX7_owing_5 : decode cX7_owing 5 = .ok (.iload_n 1, 1) := dk_27 (dk_at dksX7_owing_0 5 rfl rfl)
theorem dX7_owing_6 : decode cX7_owing 6 = .ok (.i2l, 1) := dk_133 (dk_at dksX7_owing_0 6 rfl rfl)
theorem dX7_owing_7 : decode cX7_owing 7 = .ok (.lconst 0, 1) := dk_9 (dk_at dksX7_owing_0 7 rfl rfl)
theorem dX7_owing_8 : decode cX7_owing 8 = .ok (.ldc2_w 400, 3) := dk_20 1 144 (dk_at dksX7_owing_0 8 rfl rfl)
theorem dX7_owing_11 : decode cX7_owing 11 = .ok (.invokestatic 153, 3) := dk_184 0 153 (dk_at dksX7_owing_0 11 rfl rfl)
theorem dX7_owing_14 : decode cX7_owing 14 = .ok (.ifCond .ne 9, 3) := dk_154 0 9 (dk_at dksX7_owing_0 14 rfl rfl)
theorem dX7_owing_17 : decode cX7_owing 17 = .ok (.aload_n 0, 1) := dk_42 (dk_at dksX7_owing_0 17 rfl rfl)
theorem dX7_owing_18 : decode cX7_owing 18 = .ok (.iconst 1, 1) := dk_4 (dk_at dksX7_owing_0 18 rfl rfl)
theorem dX7_owing_19 : decode cX7_owing 19 = .ok (.invokevirtual 303, 3) := dk_182 1 47 (dk_at dksX7_owing_0 19 rfl rfl)
theorem dX7_owing_22 : decode cX7_owing 22 = .ok (.ireturn, 1) := dk_172 (dk_at dksX7_owing_0 22 rfl rfl)
theorem dX7_owing_23 : decode cX7_owing 23 = .ok (.aload_n 0, 1) := dk_42 (dk_at dksX7_owing_0 23 rfl rfl)
theorem dX7_owing_24 : decode cX7_owing 24 = .ok (.aload_n 0, 1) := dk_42 (dk_at dksX7_owing_1 0 rfl rfl)
theorem dX7_owing_25 : decode cX7_owing 25 = .ok (.getfield 102, 3) := dk_180 0 102 (dk_at dksX7_owing_1 1 rfl rfl)
theorem dX7_owing_28 : decode cX7_owing 28 = .ok (.iconst 0, 1) := dk_3 (dk_at dksX7_owing_1 4 rfl rfl)
theorem dX7_owing_29 : decode cX7_owing 29 = .ok (.invokevirtual 385, 3) := dk_182 1 129 (dk_at dksX7_owing_1 5 rfl rfl)
theorem dX7_owing_32 : decode cX7_owing 32 = .ok (.aload_n 0, 1) := dk_42 (dk_at dksX7_owing_1 8 rfl rfl)
theorem dX7_owing_33 : decode cX7_owing 33 = .ok (.iload_n 1, 1) := dk_27 (dk_at dksX7_owing_1 9 rfl rfl)
theorem dX7_owing_34 : decode cX7_owing 34 = .ok (.invokevirtual 397, 3) := dk_182 1 141 (dk_at dksX7_owing_1 10 rfl rfl)
theorem dX7_owing_37 : decode cX7_owing 37 = .ok (.iconst (-1), 1) := dk_2 (dk_at dksX7_owing_1 13 rfl rfl)
theorem dX7_owing_38 : decode cX7_owing 38 = .ok (.istore_n 2, 1) := dk_61 (dk_at dksX7_owing_1 14 rfl rfl)
theorem dX7_owing_39 : decode cX7_owing 39 = .ok (.iconst 0, 1) := dk_3 (dk_at dksX7_owing_1 15 rfl rfl)
theorem dX7_owing_40 : decode cX7_owing 40 = .ok (.istore_n 3, 1) := dk_62 (dk_at dksX7_owing_1 16 rfl rfl)
theorem dX7_owing_41 : decode cX7_owing 41 = .ok (.iconst 0, 1) := dk_3 (dk_at dksX7_owing_1 17 rfl rfl)
theorem dX7_owing_42 : decode cX7_owing 42 = .ok (.istore 4, 2) := dk_54 4 (dk_at dksX7_owing_1 18 rfl rfl)
theorem dX7_owing_44 : decode cX7_owing 44 = .ok (.iload 4, 2) := dk_21 4 (dk_at dksX7_owing_1 20 rfl rfl)
theorem dX7_owing_46 : decode cX7_owing 46 = .ok (.aload_n 0, 1) := dk_42 (dk_at dksX7_owing_1 22 rfl rfl)
theorem dX7_owing_47 : decode cX7_owing 47 = .ok (.getfield 29, 3) := dk_180 0 29 (dk_at dksX7_owing_2 0 rfl rfl)
theorem dX7_owing_50 : decode cX7_owing 50 = .ok (.iconst 2, 1) := dk_5 (dk_at dksX7_owing_2 3 rfl rfl)
theorem dX7_owing_51 : decode cX7_owing 51 = .ok (.iaload, 1) := dk_46 (dk_at dksX7_owing_2 4 rfl rfl)
theorem dX7_owing_52 : decode cX7_owing 52 = .ok (.if_icmp .ge 34, 3) := dk_162 0 34 (dk_at dksX7_owing_2 5 rfl rfl)
theorem dX7_owing_55 : decode cX7_owing 55 = .ok (.aload_n 0, 1) := dk_42 (dk_at dksX7_owing_2 8 rfl rfl)
theorem dX7_owing_56 : decode cX7_owing 56 = .ok (.getfield 88, 3) := dk_180 0 88 (dk_at dksX7_owing_2 9 rfl rfl)
theorem dX7_owing_59 : decode cX7_owing 59 = .ok (.iload 4, 2) := dk_21 4 (dk_at dksX7_owing_2 12 rfl rfl)
theorem dX7_owing_61 : decode cX7_owing 61 = .ok (.iaload, 1) := dk_46 (dk_at dksX7_owing_2 14 rfl rfl)
theorem dX7_owing_62 : decode cX7_owing 62 = .ok (.iload_n 3, 1) := dk_29 (dk_at dksX7_owing_2 15 rfl rfl)
theorem dX7_owing_63 : decode cX7_owing 63 = .ok (.if_icmp .gt 6, 3) := dk_163 0 6 (dk_at dksX7_owing_2 16 rfl rfl)
theorem dX7_owing_66 : decode cX7_owing 66 = .ok (.goto 14, 3) := dk_167 0 14 (dk_at dksX7_owing_2 19 rfl rfl)
theorem dX7_owing_69 : decode cX7_owing 69 = .ok (.iload 4, 2) := dk_21 4 (dk_at dksX7_owing_2 22 rfl rfl)
theorem dX7_owing_71 : decode cX7_owing 71 = .ok (.istore_n 2, 1) := dk_61 (dk_at dksX7_owing_3 0 rfl rfl)
theorem dX7_owing_72 : decode cX7_owing 72 = .ok (.aload_n 0, 1) := dk_42 (dk_at dksX7_owing_3 1 rfl rfl)
theorem dX7_owing_73 : decode cX7_owing 73 = .ok (.getfield 88, 3) := dk_180 0 88 (dk_at dksX7_owing_3 2 rfl rfl)
theorem dX7_owing_76 : decode cX7_owing 76 = .ok (.iload 4, 2) := dk_21 4 (dk_at dksX7_owing_3 5 rfl rfl)
theorem dX7_owing_78 : decode cX7_owing 78 = .ok (.iaload, 1) := dk_46 (dk_at dksX7_owing_3 7 rfl rfl)
theorem dX7_owing_79 : decode cX7_owing 79 = .ok (.istore_n 3, 1) := dk_62 (dk_at dksX7_owing_3 8 rfl rfl)
theorem dX7_owing_80 : decode cX7_owing 80 = .ok (.iinc 4 1, 3) := dk_132 4 1 (dk_at dksX7_owing_3 9 rfl rfl)
theorem dX7_owing_83 : decode cX7_owing 83 = .ok (.goto (-39), 3) := dk_167 255 217 (dk_at dksX7_owing_3 12 rfl rfl)
theorem dX7_owing_86 : decode cX7_owing 86 = .ok (.aload_n 0, 1) := dk_42 (dk_at dksX7_owing_3 15 rfl rfl)
theorem dX7_owing_87 : decode cX7_owing 87 = .ok (.aload_n 0, 1) := dk_42 (dk_at dksX7_owing_3 16 rfl rfl)
theorem dX7_owing_88 : decode cX7_owing 88 = .ok (.getfield 102, 3) := dk_180 0 102 (dk_at dksX7_owing_3 17 rfl rfl)
theorem dX7_owing_91 : decode cX7_owing 91 = .ok (.iconst 0, 1) := dk_3 (dk_at dksX7_owing_3 20 rfl rfl)
theorem dX7_owing_92 : decode cX7_owing 92 = .ok (.invokevirtual 404, 3) := dk_182 1 148 (dk_at dksX7_owing_3 21 rfl rfl)
theorem dX7_owing_95 : decode cX7_owing 95 = .ok (.iload_n 2, 1) := dk_28 (dk_at dksX7_owing_4 0 rfl rfl)
theorem dX7_owing_96 : decode cX7_owing 96 = .ok (.ireturn, 1) := dk_172 (dk_at dksX7_owing_4 1 rfl rfl)
abbrev cX7_blackest : ByteArray := prog_18_method_75_code
def yX7_blackest : MethodName := ⟨RX7, "blackest", "()I"⟩
def dkwX7_blackest_2 : List UInt8 := [167, 255, 221, 27, 172]
abbrev dktX7_blackest_2 : List UInt8 := dkwX7_blackest_2 ++ []
def dkwX7_blackest_1 : List UInt8 := [180, 0, 74, 29, 46, 28, 163, 0, 6, 167, 0, 12, 29, 60, 42, 180, 0, 74, 29, 46, 61, 132, 3, 1]
abbrev dktX7_blackest_1 : List UInt8 := dkwX7_blackest_1 ++ dktX7_blackest_2
def dkwX7_blackest_0 : List UInt8 := [42, 3, 181, 0, 150, 2, 60, 3, 61, 3, 62, 29, 42, 180, 0, 29, 3, 46, 162, 0, 31, 42]
abbrev dktX7_blackest_0 : List UInt8 := dkwX7_blackest_0 ++ dktX7_blackest_1
theorem dksX7_blackest_0 : cX7_blackest.data.toList.drop 0 = dktX7_blackest_0 := by decide +kernel
theorem dksX7_blackest_1 : cX7_blackest.data.toList.drop 22 = dktX7_blackest_1 := dk_seg dksX7_blackest_0 22 rfl rfl
theorem dksX7_blackest_2 : cX7_blackest.data.toList.drop 46 = dktX7_blackest_2 := dk_seg dksX7_blackest_1 24 rfl rfl
theorem dX7_blackest_0 : decode cX7_blackest 0 = .ok (.aload_n 0, 1) := dk_42 (dk_at dksX7_blackest_0 0 rfl rfl)
theorem dX7_blackest_1 : decode cX7_blackest 1 = .ok (.iconst 0, 1) := dk_3 (dk_at dksX7_blackest_0 1 rfl rfl)
theorem dX7_blackest_2 : decode cX7_blackest 2 = .ok (.putfield 150, 3) := dk_181 0 150 (dk_at dksX7_blackest_0 2 rfl rfl)
theorem dX7_blackest_5 : decode cX7_blackest 5 = .ok (.iconst (-1), 1) := dk_2 (dk_at dksX7_blackest_0 5 rfl rfl)
theorem dX7_blackest_6 : decode cX7_blackest 6 = .ok (.istore_n 1, 1) := dk_60 (dk_at dksX7_blackest_0 6 rfl rfl)
theorem dX7_blackest_7 : decode cX7_blackest 7 = .ok (.iconst 0, 1) := dk_3 (dk_at dksX7_blackest_0 7 rfl rfl)
theorem dX7_blackest_8 : decode cX7_blackest 8 = .ok (.istore_n 2, 1) := dk_61 (dk_at dksX7_blackest_0 8 rfl rfl)
theorem dX7_blackest_9 : decode cX7_blackest 9 = .ok (.iconst 0, 1) := dk_3 (dk_at dksX7_blackest_0 9 rfl rfl)
theorem dX7_blackest_10 : decode cX7_blackest 10 = .ok (.istore_n 3, 1) := dk_62 (dk_at dksX7_blackest_0 10 rfl rfl)
theorem dX7_blackest_11 : decode cX7_blackest 11 = .ok (.iload_n 3, 1) := dk_29 (dk_at dksX7_blackest_0 11 rfl rfl)
theorem dX7_blackest_12 : decode cX7_blackest 12 = .ok (.aload_n 0, 1) := dk_42 (dk_at dksX7_blackest_0 12 rfl rfl)
theorem dX7_blackest_13 : decode cX7_blackest 13 = .ok (.getfield 29, 3) := dk_180 0 29 (dk_at dksX7_blackest_0 13 rfl rfl)
theorem dX7_blackest_16 : decode cX7_blackest 16 = .ok (.iconst 0, 1) := dk_3 (dk_at dksX7_blackest_0 16 rfl rfl)
theorem dX7_blackest_17 : decode cX7_blackest 17 = .ok (.iaload, 1) := dk_46 (dk_at dksX7_blackest_0 17 rfl rfl)
theorem dX7_blackest_18 : decode cX7_blackest 18 = .ok (.if_icmp .ge 31, 3) := dk_162 0 31 (dk_at dksX7_blackest_0 18 rfl rfl)
theorem dX7_blackest_21 : decode cX7_blackest 21 = .ok (.aload_n 0, 1) := dk_42 (dk_at dksX7_blackest_0 21 rfl rfl)
theorem dX7_blackest_22 : decode cX7_blackest 22 = .ok (.getfield 74, 3) := dk_180 0 74 (dk_at dksX7_blackest_1 0 rfl rfl)
theorem dX7_blackest_25 : decode cX7_blackest 25 = .ok (.iload_n 3, 1) := dk_29 (dk_at dksX7_blackest_1 3 rfl rfl)
theorem dX7_blackest_26 : decode cX7_blackest 26 = .ok (.iaload, 1) := dk_46 (dk_at dksX7_blackest_1 4 rfl rfl)
theorem dX7_blackest_27 : decode cX7_blackest 27 = .ok (.iload_n 2, 1) := dk_28 (dk_at dksX7_blackest_1 5 rfl rfl)
theorem dX7_blackest_28 : decode cX7_blackest 28 = .ok (.if_icmp .gt 6, 3) := dk_163 0 6 (dk_at dksX7_blackest_1 6 rfl rfl)
theorem dX7_blackest_31 : decode cX7_blackest 31 = .ok (.goto 12, 3) := dk_167 0 12 (dk_at dksX7_blackest_1 9 rfl rfl)
theorem dX7_blackest_34 : decode cX7_blackest 34 = .ok (.iload_n 3, 1) := dk_29 (dk_at dksX7_blackest_1 12 rfl rfl)
theorem dX7_blackest_35 : decode cX7_blackest 35 = .ok (.istore_n 1, 1) := dk_60 (dk_at dksX7_blackest_1 13 rfl rfl)
theorem dX7_blackest_36 : decode cX7_blackest 36 = .ok (.aload_n 0, 1) := dk_42 (dk_at dksX7_blackest_1 14 rfl rfl)
theorem dX7_blackest_37 : decode cX7_blackest 37 = .ok (.getfield 74, 3) := dk_180 0 74 (dk_at dksX7_blackest_1 15 rfl rfl)
theorem dX7_blackest_40 : decode cX7_blackest 40 = .ok (.iload_n 3, 1) := dk_29 (dk_at dksX7_blackest_1 18 rfl rfl)
theorem dX7_blackest_41 : decode cX7_blackest 41 = .ok (.iaload, 1) := dk_46 (dk_at dksX7_blackest_1 19 rfl rfl)
theorem dX7_blackest_42 : decode cX7_blackest 42 = .ok (.istore_n 2, 1) := dk_61 (dk_at dksX7_blackest_1 20 rfl rfl)
theorem dX7_blackest_43 : decode cX7_blackest 43 = .ok (.iinc 3 1, 3) := dk_132 3 1 (dk_at dksX7_blackest_1 21 rfl rfl)
theorem dX7_blackest_46 : decode cX7_blackest 46 = .ok (.goto (-35), 3) := dk_167 255 221 (dk_at dksX7_blackest_2 0 rfl rfl)
theorem dX7_blackest_49 : decode cX7_blackest 49 = .ok (.iload_n 1, 1) := dk_27 (dk_at dksX7_blackest_2 3 rfl rfl)
theorem dX7_blackest_50 : decode cX7_blackest 50 = .ok (.ireturn, 1) := dk_172 (dk_at dksX7_blackest_2 4 rfl rfl)
abbrev cX7_lastBlack : ByteArray := prog_18_method_76_code
def yX7_lastBlack : MethodName := ⟨RX7, "lastBlack", "(I)I"⟩
def dkwX7_lastBlack_4 : List UInt8 := [172]
abbrev dktX7_lastBlack_4 : List UInt8 := dkwX7_lastBlack_4 ++ []
def dkwX7_lastBlack_3 : List UInt8 := [132, 4, 1, 167, 255, 223, 42, 42, 180, 0, 102, 3, 182, 1, 148, 27, 154, 0, 7, 28, 167, 0, 4, 29]
abbrev dktX7_lastBlack_3 : List UInt8 := dkwX7_lastBlack_3 ++ dktX7_lastBlack_4
def dkwX7_lastBlack_2 : List UInt8 := [182, 1, 114, 42, 180, 1, 99, 2, 160, 0, 6, 167, 0, 11, 21, 4, 61, 42, 180, 1, 99, 62]
abbrev dktX7_lastBlack_2 : List UInt8 := dkwX7_lastBlack_2 ++ dktX7_lastBlack_3
def dkwX7_lastBlack_1 : List UInt8 := [180, 0, 102, 3, 182, 1, 129, 2, 61, 2, 62, 4, 54, 4, 21, 4, 16, 50, 163, 0, 32, 42]
abbrev dktX7_lastBlack_1 : List UInt8 := dkwX7_lastBlack_1 ++ dktX7_lastBlack_2
def dkwX7_lastBlack_0 : List UInt8 := [42, 3, 181, 0, 150, 27, 155, 0, 8, 27, 4, 164, 0, 9, 42, 4, 182, 1, 47, 172, 42, 42]
abbrev dktX7_lastBlack_0 : List UInt8 := dkwX7_lastBlack_0 ++ dktX7_lastBlack_1
theorem dksX7_lastBlack_0 : cX7_lastBlack.data.toList.drop 0 = dktX7_lastBlack_0 := by decide +kernel
theorem dksX7_lastBlack_1 : cX7_lastBlack.data.toList.drop 22 = dktX7_lastBlack_1 := dk_seg dksX7_lastBlack_0 22 rfl rfl
theorem dksX7_lastBlack_2 : cX7_lastBlack.data.toList.drop 44 = dktX7_lastBlack_2 := dk_seg dksX7_lastBlack_1 22 rfl rfl
theorem dksX7_lastBlack_3 : cX7_lastBlack.data.toList.drop 66 = dktX7_lastBlack_3 := dk_seg dksX7_lastBlack_2 22 rfl rfl
theorem dksX7_lastBlack_4 : cX7_lastBlack.data.toList.drop 90 = dktX7_lastBlack_4 := dk_seg dksX7_lastBlack_3 24 rfl rfl
theorem dX7_lastBlack_0 : decode cX7_lastBlack 0 = .ok (.aload_n 0, 1) := dk_42 (dk_at dksX7_lastBlack_0 0 rfl rfl)
theorem dX7_lastBlack_1 : decode cX7_lastBlack 1 = .ok (.iconst 0, 1) := dk_3 (dk_at dksX7_lastBlack_0 1 rfl rfl)
theorem dX7_lastBlack_2 : decode cX7_lastBlack 2 = .ok (.putfield 150, 3) := dk_181 0 150 (dk_at dksX7_lastBlack_0 2 rfl rfl)
theorem dX7_lastBlack_5 : decode cX7_lastBlack 5 = .ok (.iload_n 1, 1) := dk_27 (dk_at dksX7_lastBlack_0 5 rfl rfl)
theorem dX7_lastBlack_6 : decode cX7_lastBlack 6 = .ok (.ifCond .lt 8, 3) := dk_155 0 8 (dk_at dksX7_lastBlack_0 6 rfl rfl)
theorem dX7_lastBlack_9 : decode cX7_lastBlack 9 = .ok (.iload_n 1, 1) := dk_27 (dk_at dksX7_lastBlack_0 9 rfl rfl)
theorem dX7_lastBlack_10 : decode cX7_lastBlack 10 = .ok (.iconst 1, 1) := dk_4 (dk_at dksX7_lastBlack_0 10 rfl rfl)
theorem dX7_lastBlack_11 : decode cX7_lastBlack 11 = .ok (.if_icmp .le 9, 3) := dk_164 0 9 (dk_at dksX7_lastBlack_0 11 rfl rfl)
theorem dX7_lastBlack_14 : decode cX7_lastBlack 14 = .ok (.aload_n 0, 1) := dk_42 (dk_at dksX7_lastBlack_0 14 rfl rfl)
theorem dX7_lastBlack_15 : decode cX7_lastBlack 15 = .ok (.iconst 1, 1) := dk_4 (dk_at dksX7_lastBlack_0 15 rfl rfl)
theorem dX7_lastBlack_16 : decode cX7_lastBlack 16 = .ok (.invokevirtual 303, 3) := dk_182 1 47 (dk_at dksX7_lastBlack_0 16 rfl rfl)
theorem dX7_lastBlack_19 : decode cX7_lastBlack 19 = .ok (.ireturn, 1) := dk_172 (dk_at dksX7_lastBlack_0 19 rfl rfl)
theorem dX7_lastBlack_20 : decode cX7_lastBlack 20 = .ok (.aload_n 0, 1) := dk_42 (dk_at dksX7_lastBlack_0 20 rfl rfl)
theorem dX7_lastBlack_21 : decode cX7_lastBlack 21 = .ok (.aload_n 0, 1) := dk_42 (dk_at dksX7_lastBlack_0 21 rfl rfl)
theorem dX7_lastBlack_22 : decode cX7_lastBlack 22 = .ok (.getfield 102, 3) := dk_180 0 102 (dk_at dksX7_lastBlack_1 0 rfl rfl)
theorem dX7_lastBlack_25 : decode cX7_lastBlack 25 = .ok (.iconst 0, 1) := dk_3 (dk_at dksX7_lastBlack_1 3 rfl rfl)
theorem dX7_lastBlack_26 : decode cX7_lastBlack 26 = .ok (.invokevirtual 385, 3) := dk_182 1 129 (dk_at dksX7_lastBlack_1 4 rfl rfl)
theorem dX7_lastBlack_29 : decode cX7_lastBlack 29 = .ok (.iconst (-1), 1) := dk_2 (dk_at dksX7_lastBlack_1 7 rfl rfl)
theorem dX7_lastBlack_30 : decode cX7_lastBlack 30 = .ok (.istore_n 2, 1) := dk_61 (dk_at dksX7_lastBlack_1 8 rfl rfl)
theorem dX7_lastBlack_31 : decode cX7_lastBlack 31 = .ok (.iconst (-1), 1) := dk_2 (dk_at dksX7_lastBlack_1 9 rfl rfl)
theorem dX7_lastBlack_32 : decode cX7_lastBlack 32 = .ok (.istore_n 3, 1) := dk_62 (dk_at dksX7_lastBlack_1 10 rfl rfl)
theorem dX7_lastBlack_33 : decode cX7_lastBlack 33 = .ok (.iconst 1, 1) := dk_4 (dk_at dksX7_lastBlack_1 11 rfl rfl)
theorem dX7_lastBlack_34 : decode cX7_lastBlack 34 = .ok (.istore 4, 2) := dk_54 4 (dk_at dksX7_lastBlack_1 12 rfl rfl)
theorem dX7_lastBlack_36 : decode cX7_lastBlack 36 = .ok (.iload 4, 2) := dk_21 4 (dk_at dksX7_lastBlack_1 14 rfl rfl)
theorem dX7_lastBlack_38 : decode cX7_lastBlack 38 = .ok (.bipush 50, 2) := dk_16 50 (dk_at dksX7_lastBlack_1 16 rfl rfl)
theorem dX7_lastBlack_40 : decode cX7_lastBlack 40 = .ok (.if_icmp .gt 32, 3) := dk_163 0 32 (dk_at dksX7_lastBlack_1 18 rfl rfl)
theorem dX7_lastBlack_43 : decode cX7_lastBlack 43 = .ok (.aload_n 0, 1) := dk_42 (dk_at dksX7_lastBlack_1 21 rfl rfl)
theorem dX7_lastBlack_44 : decode cX7_lastBlack 44 = .ok (.invokevirtual 370, 3) := dk_182 1 114 (dk_at dksX7_lastBlack_2 0 rfl rfl)
theorem dX7_lastBlack_47 : decode cX7_lastBlack 47 = .ok (.aload_n 0, 1) := dk_42 (dk_at dksX7_lastBlack_2 3 rfl rfl)
theorem dX7_lastBlack_48 : decode cX7_lastBlack 48 = .ok (.getfield 355, 3) := dk_180 1 99 (dk_at dksX7_lastBlack_2 4 rfl rfl)
theorem dX7_lastBlack_51 : decode cX7_lastBlack 51 = .ok (.iconst (-1), 1) := dk_2 (dk_at dksX7_lastBlack_2 7 rfl rfl)
theorem dX7_lastBlack_52 : decode cX7_lastBlack 52 = .ok (.if_icmp .ne 6, 3) := dk_160 0 6 (dk_at dksX7_lastBlack_2 8 rfl rfl)
theorem dX7_lastBlack_55 : decode cX7_lastBlack 55 = .ok (.goto 11, 3) := dk_167 0 11 (dk_at dksX7_lastBlack_2 11 rfl rfl)
theorem dX7_lastBlack_58 : decode cX7_lastBlack 58 = .ok (.iload 4, 2) := dk_21 4 (dk_at dksX7_lastBlack_2 14 rfl rfl)
theorem dX7_lastBlack_60 : decode cX7_lastBlack 60 = .ok (.istore_n 2, 1) := dk_61 (dk_at dksX7_lastBlack_2 16 rfl rfl)
theorem dX7_lastBlack_61 : decode cX7_lastBlack 61 = .ok (.aload_n 0, 1) := dk_42 (dk_at dksX7_lastBlack_2 17 rfl rfl)
theorem dX7_lastBlack_62 : decode cX7_lastBlack 62 = .ok (.getfield 355, 3) := dk_180 1 99 (dk_at dksX7_lastBlack_2 18 rfl rfl)
theorem dX7_lastBlack_65 : decode cX7_lastBlack 65 = .ok (.istore_n 3, 1) := dk_62 (dk_at dksX7_lastBlack_2 21 rfl rfl)
theorem dX7_lastBlack_66 : decode cX7_lastBlack 66 = .ok (.iinc 4 1, 3) := dk_132 4 1 (dk_at dksX7_lastBlack_3 0 rfl rfl)
theorem dX7_lastBlack_69 : decode cX7_lastBlack 69 = .ok (.goto (-33), 3) := dk_167 255 223 (dk_at dksX7_lastBlack_3 3 rfl rfl)
theorem dX7_lastBlack_72 : decode cX7_lastBlack 72 = .ok (.aload_n 0, 1) := dk_42 (dk_at dksX7_lastBlack_3 6 rfl rfl)
theorem dX7_lastBlack_73 : decode cX7_lastBlack 73 = .ok (.aload_n 0, 1) := dk_42 (dk_at dksX7_lastBlack_3 7 rfl rfl)
theorem dX7_lastBlack_74 : decode cX7_lastBlack 74 = .ok (.getfield 102, 3) := dk_180 0 102 (dk_at dksX7_lastBlack_3 8 rfl rfl)
theorem dX7_lastBlack_77 : decode cX7_lastBlack 77 = .ok (.iconst 0, 1) := dk_3 (dk_at dksX7_lastBlack_3 11 rfl rfl)
theorem dX7_lastBlack_78 : decode cX7_lastBlack 78 = .ok (.invokevirtual 404, 3) := dk_182 1 148 (dk_at dksX7_lastBlack_3 12 rfl rfl)
theorem dX7_lastBlack_81 : decode cX7_lastBlack 81 = .ok (.iload_n 1, 1) := dk_27 (dk_at dksX7_lastBlack_3 15 rfl rfl)
theorem dX7_lastBlack_82 : decode cX7_lastBlack 82 = .ok (.ifCond .ne 7, 3) := dk_154 0 7 (dk_at dksX7_lastBlack_3 16 rfl rfl)
theorem dX7_lastBlack_85 : decode cX7_lastBlack 85 = .ok (.iload_n 2, 1) := dk_28 (dk_at dksX7_lastBlack_3 19 rfl rfl)
theorem dX7_lastBlack_86 : decode cX7_lastBlack 86 = .ok (.goto 4, 3) := dk_167 0 4 (dk_at dksX7_lastBlack_3 20 rfl rfl)
theorem dX7_lastBlack_89 : decode cX7_lastBlack 89 = .ok (.iload_n 3, 1) := dk_29 (dk_at dksX7_lastBlack_3 23 rfl rfl)
theorem dX7_lastBlack_90 : decode cX7_lastBlack 90 = .ok (.ireturn, 1) := dk_172 (dk_at dksX7_lastBlack_4 0 rfl rfl)
abbrev cX7_forEver : ByteArray := prog_18_method_78_code
def yX7_forEver : MethodName := ⟨RX7, "forEver", "(I)I"⟩
def dkwX7_forEver_2 : List UInt8 := [28, 172]
abbrev dktX7_forEver_2 : List UInt8 := dkwX7_forEver_2 ++ []
def dkwX7_forEver_1 : List UInt8 := [180, 0, 72, 27, 46, 184, 0, 187, 61, 42, 27, 28, 182, 1, 154, 154, 0, 9, 132, 2, 255, 167, 255, 244]
abbrev dktX7_forEver_1 : List UInt8 := dkwX7_forEver_1 ++ dktX7_forEver_2
def dkwX7_forEver_0 : List UInt8 := [42, 3, 181, 0, 150, 42, 27, 182, 1, 120, 154, 0, 9, 42, 4, 182, 1, 47, 172, 17, 3, 231, 42]
abbrev dktX7_forEver_0 : List UInt8 := dkwX7_forEver_0 ++ dktX7_forEver_1
theorem dksX7_forEver_0 : cX7_forEver.data.toList.drop 0 = dktX7_forEver_0 := by decide +kernel
theorem dksX7_forEver_1 : cX7_forEver.data.toList.drop 23 = dktX7_forEver_1 := dk_seg dksX7_forEver_0 23 rfl rfl
theorem dksX7_forEver_2 : cX7_forEver.data.toList.drop 47 = dktX7_forEver_2 := dk_seg dksX7_forEver_1 24 rfl rfl
theorem dX7_forEver_0 : decode cX7_forEver 0 = .ok (.aload_n 0, 1) := dk_42 (dk_at dksX7_forEver_0 0 rfl rfl)
theorem dX7_forEver_1 : decode cX7_forEver 1 = .ok (.iconst 0, 1) := dk_3 (dk_at dksX7_forEver_0 1 rfl rfl)
theorem dX7_forEver_2 : decode cX7_forEver 2 = .ok (.putfield 150, 3) := dk_181 0 150 (dk_at dksX7_forEver_0 2 rfl rfl)
theorem dX7_forEver_5 : decode cX7_forEver 5 = .ok (.aload_n 0, 1) := dk_42 (dk_at dksX7_forEver_0 5 rfl rfl)
theorem dX7_forEver_6 : decode cX7_forEver 6 = .ok (.iload_n 1, 1) := dk_27 (dk_at dksX7_forEver_0 6 rfl rfl)
theorem dX7_forEver_7 : decode cX7_forEver 7 = .ok (.invokevirtual 376, 3) := dk_182 1 120 (dk_at dksX7_forEver_0 7 rfl rfl)
theorem dX7_forEver_10 : decode cX7_forEver 10 = .ok (.ifCond .ne 9, 3) := dk_154 0 9 (dk_at dksX7_forEver_0 10 rfl rfl)
theorem dX7_forEver_13 : decode cX7_forEver 13 = .ok (.aload_n 0, 1) := dk_42 (dk_at dksX7_forEver_0 13 rfl rfl)
theorem dX7_forEver_14 : decode cX7_forEver 14 = .ok (.iconst 1, 1) := dk_4 (dk_at dksX7_forEver_0 14 rfl rfl)
theorem dX7_forEver_15 : decode cX7_forEver 15 = .ok (.invokevirtual 303, 3) := dk_182 1 47 (dk_at dksX7_forEver_0 15 rfl rfl)
theorem dX7_forEver_18 : decode cX7_forEver 18 = .ok (.ireturn, 1) := dk_172 (dk_at dksX7_forEver_0 18 rfl rfl)
theorem dX7_forEver_19 : decode cX7_forEver 19 = .ok (.sipush 999, 3) := dk_17 3 231 (dk_at dksX7_forEver_0 19 rfl rfl)
theorem dX7_forEver_22 : decode cX7_forEver 22 = .ok (.aload_n 0, 1) := dk_42 (dk_at dksX7_forEver_0 22 rfl rfl)
theorem dX7_forEver_23 : decode cX7_forEver 23 = .ok (.getfield 72, 3) := dk_180 0 72 (dk_at dksX7_forEver_1 0 rfl rfl)
theorem dX7_forEver_26 : decode cX7_forEver 26 = .ok (.iload_n 1, 1) := dk_27 (dk_at dksX7_forEver_1 3 rfl rfl)
theorem dX7_forEver_27 : decode cX7_forEver 27 = .ok (.iaload, 1) := dk_46 (dk_at dksX7_forEver_1 4 rfl rfl)
theorem dX7_forEver_28 : decode cX7_forEver 28 = .ok (.invokestatic 187, 3) := dk_184 0 187 (dk_at dksX7_forEver_1 5 rfl rfl)
theorem dX7_forEver_31 : decode cX7_forEver 31 = .ok (.istore_n 2, 1) := dk_61 (dk_at dksX7_forEver_1 8 rfl rfl)
theorem dX7_forEver_32 : decode cX7_forEver 32 = .ok (.aload_n 0, 1) := dk_42 (dk_at dksX7_forEver_1 9 rfl rfl)
theorem dX7_forEver_33 : decode cX7_forEver 33 = .ok (.iload_n 1, 1) := dk_27 (dk_at dksX7_forEver_1 10 rfl rfl)
theorem dX7_forEver_34 : decode cX7_forEver 34 = .ok (.iload_n 2, 1) := dk_28 (dk_at dksX7_forEver_1 11 rfl rfl)
theorem dX7_forEver_35 : decode cX7_forEver 35 = .ok (.invokevirtual 410, 3) := dk_182 1 154 (dk_at dksX7_forEver_1 12 rfl rfl)
theorem dX7_forEver_38 : decode cX7_forEver 38 = .ok (.ifCond .ne 9, 3) := dk_154 0 9 (dk_at dksX7_forEver_1 15 rfl rfl)
theorem dX7_forEver_41 : decode cX7_forEver 41 = .ok (.iinc 2 (-1), 3) := dk_132 2 255 (dk_at dksX7_forEver_1 18 rfl rfl)
theorem dX7_forEver_44 : decode cX7_forEver 44 = .ok (.goto (-12), 3) := dk_167 255 244 (dk_at dksX7_forEver_1 21 rfl rfl)
theorem dX7_forEver_47 : decode cX7_forEver 47 = .ok (.iload_n 2, 1) := dk_28 (dk_at dksX7_forEver_2 0 rfl rfl)
theorem dX7_forEver_48 : decode cX7_forEver 48 = .ok (.ireturn, 1) := dk_172 (dk_at dksX7_forEver_2 1 rfl rfl)
abbrev cX7_bears : ByteArray := prog_18_method_77_code
def yX7_bears : MethodName := ⟨RX7, "bears", "(II)Z"⟩
def dkwX7_bears_1 : List UInt8 := [42, 27, 29, 28, 100, 182, 1, 102, 62, 132, 4, 1, 167, 255, 230, 4, 172]
abbrev dktX7_bears_1 : List UInt8 := dkwX7_bears_1 ++ []
def dkwX7_bears_0 : List UInt8 := [42, 180, 0, 72, 27, 46, 62, 3, 54, 4, 21, 4, 16, 30, 162, 0, 25, 29, 28, 162, 0, 5, 3, 172]
abbrev dktX7_bears_0 : List UInt8 := dkwX7_bears_0 ++ dktX7_bears_1
theorem dksX7_bears_0 : cX7_bears.data.toList.drop 0 = dktX7_bears_0 := by decide +kernel
theorem dksX7_bears_1 : cX7_bears.data.toList.drop 24 = dktX7_bears_1 := dk_seg dksX7_bears_0 24 rfl rfl
theorem dX7_bears_0 : decode cX7_bears 0 = .ok (.aload_n 0, 1) := dk_42 (dk_at dksX7_bears_0 0 rfl rfl)
theorem dX7_bears_1 : decode cX7_bears 1 = .ok (.getfield 72, 3) := dk_180 0 72 (dk_at dksX7_bears_0 1 rfl rfl)
theorem dX7_bears_4 : decode cX7_bears 4 = .ok (.iload_n 1, 1) := dk_27 (dk_at dksX7_bears_0 4 rfl rfl)
theorem dX7_bears_5 : decode cX7_bears 5 = .ok (.iaload, 1) := dk_46 (dk_at dksX7_bears_0 5 rfl rfl)
theorem dX7_bears_6 : decode cX7_bears 6 = .ok (.istore_n 3, 1) := dk_62 (dk_at dksX7_bears_0 6 rfl rfl)
theorem dX7_bears_7 : decode cX7_bears 7 = .ok (.iconst 0, 1) := dk_3 (dk_at dksX7_bears_0 7 rfl rfl)
theorem dX7_bears_8 : decode cX7_bears 8 = .ok (.istore 4, 2) := dk_54 4 (dk_at dksX7_bears_0 8 rfl rfl)
theorem dX7_bears_10 : decode cX7_bears 10 = .ok (.iload 4, 2) := dk_21 4 (dk_at dksX7_bears_0 10 rfl rfl)
theorem dX7_bears_12 : decode cX7_bears 12 = .ok (.bipush 30, 2) := dk_16 30 (dk_at dksX7_bears_0 12 rfl rfl)
theorem dX7_bears_14 : decode cX7_bears 14 = .ok (.if_icmp .ge 25, 3) := dk_162 0 25 (dk_at dksX7_bears_0 14 rfl rfl)
theorem dX7_bears_17 : decode cX7_bears 17 = .ok (.iload_n 3, 1) := dk_29 (dk_at dksX7_bears_0 17 rfl rfl)
theorem dX7_bears_18 : decode cX7_bears 18 = .ok (.iload_n 2, 1) := dk_28 (dk_at dksX7_bears_0 18 rfl rfl)
theorem dX7_bears_19 : decode cX7_bears 19 = .ok (.if_icmp .ge 5, 3) := dk_162 0 5 (dk_at dksX7_bears_0 19 rfl rfl)
theorem dX7_bears_22 : decode cX7_bears 22 = .ok (.iconst 0, 1) := dk_3 (dk_at dksX7_bears_0 22 rfl rfl)
theorem dX7_bears_23 : decode cX7_bears 23 = .ok (.ireturn, 1) := dk_172 (dk_at dksX7_bears_0 23 rfl rfl)
theorem dX7_bears_24 : decode cX7_bears 24 = .ok (.aload_n 0, 1) := dk_42 (dk_at dksX7_bears_1 0 rfl rfl)
theorem dX7_bears_25 : decode cX7_bears 25 = .ok (.iload_n 1, 1) := dk_27 (dk_at dksX7_bears_1 1 rfl rfl)
theorem dX7_bears_26 : decode cX7_bears 26 = .ok (.iload_n 3, 1) := dk_29 (dk_at dksX7_bears_1 2 rfl rfl)
theorem dX7_bears_27 : decode cX7_bears 27 = .ok (.iload_n 2, 1) := dk_28 (dk_at dksX7_bears_1 3 rfl rfl)
theorem dX7_bears_28 : decode cX7_bears 28 = .ok (.isub, 1) := dk_100 (dk_at dksX7_bears_1 4 rfl rfl)
theorem dX7_bears_29 : decode cX7_bears 29 = .ok (.invokevirtual 358, 3) := dk_182 1 102 (dk_at dksX7_bears_1 5 rfl rfl)
theorem dX7_bears_32 : decode cX7_bears 32 = .ok (.istore_n 3, 1) := dk_62 (dk_at dksX7_bears_1 8 rfl rfl)
theorem dX7_bears_33 : decode cX7_bears 33 = .ok (.iinc 4 1, 3) := dk_132 4 1 (dk_at dksX7_bears_1 9 rfl rfl)
theorem dX7_bears_36 : decode cX7_bears 36 = .ok (.goto (-26), 3) := dk_167 255 230 (dk_at dksX7_bears_1 12 rfl rfl)
theorem dX7_bears_39 : decode cX7_bears 39 = .ok (.iconst 1, 1) := dk_4 (dk_at dksX7_bears_1 15 rfl rfl)
theorem dX7_bears_40 : decode cX7_bears 40 = .ok (.ireturn, 1) := dk_172 (dk_at dksX7_bears_1 16 rfl rfl)
abbrev cX7_resting : ByteArray := prog_18_method_79_code
def yX7_resting : MethodName := ⟨RX7, "resting", "(II)I"⟩
def dkwX7_resting_3 : List UInt8 := [132, 4, 1, 167, 255, 231, 2, 172]
abbrev dktX7_resting_3 : List UInt8 := dkwX7_resting_3 ++ []
def dkwX7_resting_2 : List UInt8 := [54, 4, 21, 4, 16, 50, 163, 0, 24, 29, 28, 161, 0, 6, 21, 4, 172, 42, 27, 29, 182, 1, 102, 62]
abbrev dktX7_resting_2 : List UInt8 := dkwX7_resting_2 ++ dktX7_resting_3
def dkwX7_resting_1 : List UInt8 := [20, 1, 157, 184, 0, 153, 154, 0, 9, 42, 5, 182, 1, 47, 172, 42, 180, 0, 72, 27, 46, 62, 3]
abbrev dktX7_resting_1 : List UInt8 := dkwX7_resting_1 ++ dktX7_resting_2
def dkwX7_resting_0 : List UInt8 := [42, 3, 181, 0, 150, 42, 27, 182, 1, 120, 154, 0, 9, 42, 4, 182, 1, 47, 172, 28, 133, 9]
abbrev dktX7_resting_0 : List UInt8 := dkwX7_resting_0 ++ dktX7_resting_1
theorem dksX7_resting_0 : cX7_resting.data.toList.drop 0 = dktX7_resting_0 := by decide +kernel
theorem dksX7_resting_1 : cX7_resting.data.toList.drop 22 = dktX7_resting_1 := dk_seg dksX7_resting_0 22 rfl rfl
theorem dksX7_resting_2 : cX7_resting.data.toList.drop 45 = dktX7_resting_2 := dk_seg dksX7_resting_1 23 rfl rfl
theorem dksX7_resting_3 : cX7_resting.data.toList.drop 69 = dktX7_resting_3 := dk_seg dksX7_resting_2 24 rfl rfl
theorem dX7_resting_0 : decode cX7_resting 0 = .ok (.aload_n 0, 1) := dk_42 (dk_at dksX7_resting_0 0 rfl rfl)
theorem dX7_resting_1 : decode cX7_resting 1 = .ok (.iconst 0, 1) := dk_3 (dk_at dksX7_resting_0 1 rfl rfl)
theorem dX7_resting_2 : decode cX7_resting 2 = .ok (.putfield 150, 3) := dk_181 0 150 (dk_at dksX7_resting_0 2 rfl rfl)
theorem dX7_resting_5 : decode cX7_resting 5 = .ok (.aload_n 0, 1) := dk_42 (dk_at dksX7_resting_0 5 rfl rfl)
theorem dX7_resting_6 : decode cX7_resting 6 = .ok (.iload_n 1, 1) := dk_27 (dk_at dksX7_resting_0 6 rfl rfl)
theorem dX7_resting_7 : decode cX7_resting 7 = .ok (.invokevirtual 376, 3) := dk_182 1 120 (dk_at dksX7_resting_0 7 rfl rfl)
theorem dX7_resting_10 : decode cX7_resting 10 = .ok (.ifCond .ne 9, 3) := dk_154 0 9 (dk_at dksX7_resting_0 10 rfl rfl)
theorem dX7_resting_13 : decode cX7_resting 13 = .ok (.aload_n 0, 1) := dk_42 (dk_at dksX7_resting_0 13 rfl rfl)
theorem dX7_resting_14 : decode cX7_resting 14 = .ok (.iconst 1, 1) := dk_4 (dk_at dksX7_resting_0 14 rfl rfl)
theorem dX7_resting_15 : decode cX7_resting 15 = .ok (.invokevirtual 303, 3) := dk_182 1 47 (dk_at dksX7_resting_0 15 rfl rfl)
theorem dX7_resting_18 : decode cX7_resting 18 = .ok (.ireturn, 1) := dk_172 (dk_at dksX7_resting_0 18 rfl rfl)
theorem dX7_resting_19 : decode cX7_resting 19 = .ok (.iload_n 2, 1) := dk_28 (dk_at dksX7_resting_0 19 rfl rfl)
theorem dX7_resting_20 : decode cX7_resting 20 = .ok (.i2l, 1) := dk_133 (dk_at dksX7_resting_0 20 rfl rfl)
theorem dX7_resting_21 : decode cX7_resting 21 = .ok (.lconst 0, 1) := dk_9 (dk_at dksX7_resting_0 21 rfl rfl)
theorem dX7_resting_22 : decode cX7_resting 22 = .ok (.ldc2_w 413, 3) := dk_20 1 157 (dk_at dksX7_resting_1 0 rfl rfl)
theorem dX7_resting_25 : decode cX7_resting 25 = .ok (.invokestatic 153, 3) := dk_184 0 153 (dk_at dksX7_resting_1 3 rfl rfl)
theorem dX7_resting_28 : decode cX7_resting 28 = .ok (.ifCond .ne 9, 3) := dk_154 0 9 (dk_at dksX7_resting_1 6 rfl rfl)
theorem dX7_resting_31 : decode cX7_resting 31 = .ok (.aload_n 0, 1) := dk_42 (dk_at dksX7_resting_1 9 rfl rfl)
theorem dX7_resting_32 : decode cX7_resting 32 = .ok (.iconst 2, 1) := dk_5 (dk_at dksX7_resting_1 10 rfl rfl)
theorem dX7_resting_33 : decode cX7_resting 33 = .ok (.invokevirtual 303, 3) := dk_182 1 47 (dk_at dksX7_resting_1 11 rfl rfl)
theorem dX7_resting_36 : decode cX7_resting 36 = .ok (.ireturn, 1) := dk_172 (dk_at dksX7_resting_1 14 rfl rfl)
theorem dX7_resting_37 : decode cX7_resting 37 = .ok (.aload_n 0, 1) := dk_42 (dk_at dksX7_resting_1 15 rfl rfl)
theorem dX7_resting_38 : decode cX7_resting 38 = .ok (.getfield 72, 3) := dk_180 0 72 (dk_at dksX7_resting_1 16 rfl rfl)
theorem dX7_resting_41 : decode cX7_resting 41 = .ok (.iload_n 1, 1) := dk_27 (dk_at dksX7_resting_1 19 rfl rfl)
theorem dX7_resting_42 : decode cX7_resting 42 = .ok (.iaload, 1) := dk_46 (dk_at dksX7_resting_1 20 rfl rfl)
theorem dX7_resting_43 : decode cX7_resting 43 = .ok (.istore_n 3, 1) := dk_62 (dk_at dksX7_resting_1 21 rfl rfl)
theorem dX7_resting_44 : decode cX7_resting 44 = .ok (.iconst 0, 1) := dk_3 (dk_at dksX7_resting_1 22 rfl rfl)
theorem dX7_resting_45 : decode cX7_resting 45 = .ok (.istore 4, 2) := dk_54 4 (dk_at dksX7_resting_2 0 rfl rfl)
theorem dX7_resting_47 : decode cX7_resting 47 = .ok (.iload 4, 2) := dk_21 4 (dk_at dksX7_resting_2 2 rfl rfl)
theorem dX7_resting_49 : decode cX7_resting 49 = .ok (.bipush 50, 2) := dk_16 50 (dk_at dksX7_resting_2 4 rfl rfl)
theorem dX7_resting_51 : decode cX7_resting 51 = .ok (.if_icmp .gt 24, 3) := dk_163 0 24 (dk_at dksX7_resting_2 6 rfl rfl)
theorem dX7_resting_54 : decode cX7_resting 54 = .ok (.iload_n 3, 1) := dk_29 (dk_at dksX7_resting_2 9 rfl rfl)
theorem dX7_resting_55 : decode cX7_resting 55 = .ok (.iload_n 2, 1) := dk_28 (dk_at dksX7_resting_2 10 rfl rfl)
theorem dX7_resting_56 : decode cX7_resting 56 = .ok (.if_icmp .lt 6, 3) := dk_161 0 6 (dk_at dksX7_resting_2 11 rfl rfl)
theorem dX7_resting_59 : decode cX7_resting 59 = .ok (.iload 4, 2) := dk_21 4 (dk_at dksX7_resting_2 14 rfl rfl)
theorem dX7_resting_61 : decode cX7_resting 61 = .ok (.ireturn, 1) := dk_172 (dk_at dksX7_resting_2 16 rfl rfl)
theorem dX7_resting_62 : decode cX7_resting 62 = .ok (.aload_n 0, 1) := dk_42 (dk_at dksX7_resting_2 17 rfl rfl)
theorem dX7_resting_63 : decode cX7_resting 63 = .ok (.iload_n 1, 1) := dk_27 (dk_at dksX7_resting_2 18 rfl rfl)
theorem dX7_resting_64 : decode cX7_resting 64 = .ok (.iload_n 3, 1) := dk_29 (dk_at dksX7_resting_2 19 rfl rfl)
theorem dX7_resting_65 : decode cX7_resting 65 = .ok (.invokevirtual 358, 3) := dk_182 1 102 (dk_at dksX7_resting_2 20 rfl rfl)
theorem dX7_resting_68 : decode cX7_resting 68 = .ok (.istore_n 3, 1) := dk_62 (dk_at dksX7_resting_2 23 rfl rfl)
theorem dX7_resting_69 : decode cX7_resting 69 = .ok (.iinc 4 1, 3) := dk_132 4 1 (dk_at dksX7_resting_3 0 rfl rfl)
theorem dX7_resting_72 : decode cX7_resting 72 = .ok (.goto (-25), 3) := dk_167 255 231 (dk_at dksX7_resting_3 3 rfl rfl)
theorem dX7_resting_75 : decode cX7_resting 75 = .ok (.iconst (-1), 1) := dk_2 (dk_at dksX7_resting_3 6 rfl rfl)
theorem dX7_resting_76 : decode cX7_resting 76 = .ok (.ireturn, 1) := dk_172 (dk_at dksX7_resting_3 7 rfl rfl)
abbrev cX7_far : ByteArray := prog_18_method_82_code
def yX7_far : MethodName := ⟨RX7, "far", "(II)I"⟩
def dkwX7_far_1 : List UInt8 := [182, 1, 47, 172, 42, 27, 28, 182, 1, 162, 62, 29, 18, 186, 161, 0, 7, 2, 167, 0, 4, 29, 172]
abbrev dktX7_far_1 : List UInt8 := dkwX7_far_1 ++ []
def dkwX7_far_0 : List UInt8 := [42, 3, 181, 0, 150, 42, 27, 182, 1, 120, 153, 0, 11, 42, 28, 182, 1, 120, 154, 0, 9, 42, 4]
abbrev dktX7_far_0 : List UInt8 := dkwX7_far_0 ++ dktX7_far_1
theorem dksX7_far_0 : cX7_far.data.toList.drop 0 = dktX7_far_0 := by decide +kernel
theorem dksX7_far_1 : cX7_far.data.toList.drop 23 = dktX7_far_1 := dk_seg dksX7_far_0 23 rfl rfl
theorem dX7_far_0 : decode cX7_far 0 = .ok (.aload_n 0, 1) := dk_42 (dk_at dksX7_far_0 0 rfl rfl)
theorem dX7_far_1 : decode cX7_far 1 = .ok (.iconst 0, 1) := dk_3 (dk_at dksX7_far_0 1 rfl rfl)
theorem dX7_far_2 : decode cX7_far 2 = .ok (.putfield 150, 3) := dk_181 0 150 (dk_at dksX7_far_0 2 rfl rfl)
theorem dX7_far_5 : decode cX7_far 5 = .ok (.aload_n 0, 1) := dk_42 (dk_at dksX7_far_0 5 rfl rfl)
theorem dX7_far_6 : decode cX7_far 6 = .ok (.iload_n 1, 1) := dk_27 (dk_at dksX7_far_0 6 rfl rfl)
theorem dX7_far_7 : decode cX7_far 7 = .ok (.invokevirtual 376, 3) := dk_182 1 120 (dk_at dksX7_far_0 7 rfl rfl)
theorem dX7_far_10 : decode cX7_far 10 = .ok (.ifCond .eq 11, 3) := dk_153 0 11 (dk_at dksX7_far_0 10 rfl rfl)
theorem dX7_far_13 : decode cX7_far 13 = .ok (.aload_n 0, 1) := dk_42 (dk_at dksX7_far_0 13 rfl rfl)
theorem dX7_far_14 : decode cX7_far 14 = .ok (.iload_n 2, 1) := dk_28 (dk_at dksX7_far_0 14 rfl rfl)
theorem dX7_far_15 : decode cX7_far 15 = .ok (.invokevirtual 376, 3) := dk_182 1 120 (dk_at dksX7_far_0 15 rfl rfl)
theorem dX7_far_18 : decode cX7_far 18 = .ok (.ifCond .ne 9, 3) := dk_154 0 9 (dk_at dksX7_far_0 18 rfl rfl)
theorem dX7_far_21 : decode cX7_far 21 = .ok (.aload_n 0, 1) := dk_42 (dk_at dksX7_far_0 21 rfl rfl)
theorem dX7_far_22 : decode cX7_far 22 = .ok (.iconst 1, 1) := dk_4 (dk_at dksX7_far_0 22 rfl rfl)
theorem dX7_far_23 : decode cX7_far 23 = .ok (.invokevirtual 303, 3) := dk_182 1 47 (dk_at dksX7_far_1 0 rfl rfl)
theorem dX7_far_26 : decode cX7_far 26 = .ok (.ireturn, 1) := dk_172 (dk_at dksX7_far_1 3 rfl rfl)
theorem dX7_far_27 : decode cX7_far 27 = .ok (.aload_n 0, 1) := dk_42 (dk_at dksX7_far_1 4 rfl rfl)
theorem dX7_far_28 : decode cX7_far 28 = .ok (.iload_n 1, 1) := dk_27 (dk_at dksX7_far_1 5 rfl rfl)
theorem dX7_far_29 : decode cX7_far 29 = .ok (.iload_n 2, 1) := dk_28 (dk_at dksX7_far_1 6 rfl rfl)
theorem dX7_far_30 : decode cX7_far 30 = .ok (.invokevirtual 418, 3) := dk_182 1 162 (dk_at dksX7_far_1 7 rfl rfl)
theorem dX7_far_33 : decode cX7_far 33 = .ok (.istore_n 3, 1) := dk_62 (dk_at dksX7_far_1 10 rfl rfl)
theorem dX7_far_34 : decode cX7_far 34 = .ok (.iload_n 3, 1) := dk_29 (dk_at dksX7_far_1 11 rfl rfl)
theorem dX7_far_35 : decode cX7_far 35 = .ok (.ldc 186, 2) := dk_18 186 (dk_at dksX7_far_1 12 rfl rfl)
theorem dX7_far_37 : decode cX7_far 37 = .ok (.if_icmp .lt 7, 3) := dk_161 0 7 (dk_at dksX7_far_1 14 rfl rfl)
theorem dX7_far_40 : decode cX7_far 40 = .ok (.iconst (-1), 1) := dk_2 (dk_at dksX7_far_1 17 rfl rfl)
theorem dX7_far_41 : decode cX7_far 41 = .ok (.goto 4, 3) := dk_167 0 4 (dk_at dksX7_far_1 18 rfl rfl)
theorem dX7_far_44 : decode cX7_far 44 = .ok (.iload_n 3, 1) := dk_29 (dk_at dksX7_far_1 21 rfl rfl)
theorem dX7_far_45 : decode cX7_far 45 = .ok (.ireturn, 1) := dk_172 (dk_at dksX7_far_1 22 rfl rfl)
abbrev cX7_farOf : ByteArray := prog_18_method_81_code
def yX7_farOf : MethodName := ⟨RX7, "farOf", "(II)I"⟩
def dkwX7_farOf_0 : List UInt8 := [42, 27, 182, 1, 159, 42, 180, 0, 105, 28, 46, 172]
abbrev dktX7_farOf_0 : List UInt8 := dkwX7_farOf_0 ++ []
theorem dksX7_farOf_0 : cX7_farOf.data.toList.drop 0 = dktX7_farOf_0 := by decide +kernel
theorem dX7_farOf_0 : decode cX7_farOf 0 = .ok (.aload_n 0, 1) := dk_42 (dk_at dksX7_farOf_0 0 rfl rfl)
theorem dX7_farOf_1 : decode cX7_farOf 1 = .ok (.iload_n 1, 1) := dk_27 (dk_at dksX7_farOf_0 1 rfl rfl)
theorem dX7_farOf_2 : decode cX7_farOf 2 = .ok (.invokevirtual 415, 3) := dk_182 1 159 (dk_at dksX7_farOf_0 2 rfl rfl)
theorem dX7_farOf_5 : decode cX7_farOf 5 = .ok (.aload_n 0, 1) := dk_42 (dk_at dksX7_farOf_0 5 rfl rfl)
theorem dX7_farOf_6 : decode cX7_farOf 6 = .ok (.getfield 105, 3) := dk_180 0 105 (dk_at dksX7_farOf_0 6 rfl rfl)
theorem dX7_farOf_9 : decode cX7_farOf 9 = .ok (.iload_n 2, 1) := dk_28 (dk_at dksX7_farOf_0 9 rfl rfl)
theorem dX7_farOf_10 : decode cX7_farOf 10 = .ok (.iaload, 1) := dk_46 (dk_at dksX7_farOf_0 10 rfl rfl)
theorem dX7_farOf_11 : decode cX7_farOf 11 = .ok (.ireturn, 1) := dk_172 (dk_at dksX7_farOf_0 11 rfl rfl)
abbrev cX7_tellDays : ByteArray := prog_18_method_80_code
def yX7_tellDays : MethodName := ⟨RX7, "tellDays", "(I)V"⟩
def dkwX7_tellDays_5 : List UInt8 := [184, 0, 187, 79, 132, 4, 1, 167, 255, 191, 132, 3, 1, 167, 255, 172, 132, 2, 1, 167, 255, 154, 177]
abbrev dktX7_tellDays_5 : List UInt8 := dkwX7_tellDays_5 ++ []
def dkwX7_tellDays_4 : List UInt8 := [21, 4, 46, 42, 180, 0, 105, 29, 46, 42, 180, 0, 45, 16, 8, 29, 104, 21, 4, 96, 46, 96]
abbrev dktX7_tellDays_4 : List UInt8 := dkwX7_tellDays_4 ++ dktX7_tellDays_5
def dkwX7_tellDays_3 : List UInt8 := [180, 0, 45, 16, 8, 29, 104, 21, 4, 96, 46, 158, 0, 39, 42, 180, 0, 105, 21, 4, 42, 180, 0, 105]
abbrev dktX7_tellDays_3 : List UInt8 := dkwX7_tellDays_3 ++ dktX7_tellDays_4
def dkwX7_tellDays_2 : List UInt8 := [180, 0, 29, 3, 46, 162, 0, 80, 3, 54, 4, 21, 4, 42, 180, 0, 29, 3, 46, 162, 0, 60, 42]
abbrev dktX7_tellDays_2 : List UInt8 := dkwX7_tellDays_2 ++ dktX7_tellDays_3
def dkwX7_tellDays_1 : List UInt8 := [79, 132, 2, 1, 167, 255, 230, 3, 61, 28, 42, 180, 0, 29, 3, 46, 162, 0, 98, 3, 62, 29, 42]
abbrev dktX7_tellDays_1 : List UInt8 := dkwX7_tellDays_1 ++ dktX7_tellDays_2
def dkwX7_tellDays_0 : List UInt8 := [3, 61, 28, 16, 8, 162, 0, 26, 42, 180, 0, 105, 28, 28, 27, 160, 0, 7, 3, 167, 0, 5, 18, 186]
abbrev dktX7_tellDays_0 : List UInt8 := dkwX7_tellDays_0 ++ dktX7_tellDays_1
theorem dksX7_tellDays_0 : cX7_tellDays.data.toList.drop 0 = dktX7_tellDays_0 := by decide +kernel
theorem dksX7_tellDays_1 : cX7_tellDays.data.toList.drop 24 = dktX7_tellDays_1 := dk_seg dksX7_tellDays_0 24 rfl rfl
theorem dksX7_tellDays_2 : cX7_tellDays.data.toList.drop 47 = dktX7_tellDays_2 := dk_seg dksX7_tellDays_1 23 rfl rfl
theorem dksX7_tellDays_3 : cX7_tellDays.data.toList.drop 70 = dktX7_tellDays_3 := dk_seg dksX7_tellDays_2 23 rfl rfl
theorem dksX7_tellDays_4 : cX7_tellDays.data.toList.drop 94 = dktX7_tellDays_4 := dk_seg dksX7_tellDays_3 24 rfl rfl
theorem dksX7_tellDays_5 : cX7_tellDays.data.toList.drop 116 = dktX7_tellDays_5 := dk_seg dksX7_tellDays_4 22 rfl rfl
theorem dX7_tellDays_0 : decode cX7_tellDays 0 = .ok (.iconst 0, 1) := dk_3 (dk_at dksX7_tellDays_0 0 rfl rfl)
theorem dX7_tellDays_1 : decode cX7_tellDays 1 = .ok (.istore_n 2, 1) := dk_61 (dk_at dksX7_tellDays_0 1 rfl rfl)
theorem dX7_tellDays_2 : decode cX7_tellDays 2 = .ok (.iload_n 2, 1) := dk_28 (dk_at dksX7_tellDays_0 2 rfl rfl)
theorem dX7_tellDays_3 : decode cX7_tellDays 3 = .ok (.bipush 8, 2) := dk_16 8 (dk_at dksX7_tellDays_0 3 rfl rfl)
theorem dX7_tellDays_5 : decode cX7_tellDays 5 = .ok (.if_icmp .ge 26, 3) := dk_162 0 26 (dk_at dksX7_tellDays_0 5 rfl rfl)
theorem dX7_tellDays_8 : decode cX7_tellDays 8 = .ok (.aload_n 0, 1) := dk_42 (dk_at dksX7_tellDays_0 8 rfl rfl)
theorem dX7_tellDays_9 : decode cX7_tellDays 9 = .ok (.getfield 105, 3) := dk_180 0 105 (dk_at dksX7_tellDays_0 9 rfl rfl)
theorem dX7_tellDays_12 : decode cX7_tellDays 12 = .ok (.iload_n 2, 1) := dk_28 (dk_at dksX7_tellDays_0 12 rfl rfl)
theorem dX7_tellDays_13 : decode cX7_tellDays 13 = .ok (.iload_n 2, 1) := dk_28 (dk_at dksX7_tellDays_0 13 rfl rfl)
theorem dX7_tellDays_14 : decode cX7_tellDays 14 = .ok (.iload_n 1, 1) := dk_27 (dk_at dksX7_tellDays_0 14 rfl rfl)
theorem dX7_tellDays_15 : decode cX7_tellDays 15 = .ok (.if_icmp .ne 7, 3) := dk_160 0 7 (dk_at dksX7_tellDays_0 15 rfl rfl)
theorem dX7_tellDays_18 : decode cX7_tellDays 18 = .ok (.iconst 0, 1) := dk_3 (dk_at dksX7_tellDays_0 18 rfl rfl)
theorem dX7_tellDays_19 : decode cX7_tellDays 19 = .ok (.goto 5, 3) := dk_167 0 5 (dk_at dksX7_tellDays_0 19 rfl rfl)
theorem dX7_tellDays_22 : decode cX7_tellDays 22 = .ok (.ldc 186, 2) := dk_18 186 (dk_at dksX7_tellDays_0 22 rfl rfl)
theorem dX7_tellDays_24 : decode cX7_tellDays 24 = .ok (.iastore, 1) := dk_79 (dk_at dksX7_tellDays_1 0 rfl rfl)
theorem dX7_tellDays_25 : decode cX7_tellDays 25 = .ok (.iinc 2 1, 3) := dk_132 2 1 (dk_at dksX7_tellDays_1 1 rfl rfl)
theorem dX7_tellDays_28 : decode cX7_tellDays 28 = .ok (.goto (-26), 3) := dk_167 255 230 (dk_at dksX7_tellDays_1 4 rfl rfl)
theorem dX7_tellDays_31 : decode cX7_tellDays 31 = .ok (.iconst 0, 1) := dk_3 (dk_at dksX7_tellDays_1 7 rfl rfl)
theorem dX7_tellDays_32 : decode cX7_tellDays 32 = .ok (.istore_n 2, 1) := dk_61 (dk_at dksX7_tellDays_1 8 rfl rfl)
theorem dX7_tellDays_33 : decode cX7_tellDays 33 = .ok (.iload_n 2, 1) := dk_28 (dk_at dksX7_tellDays_1 9 rfl rfl)
theorem dX7_tellDays_34 : decode cX7_tellDays 34 = .ok (.aload_n 0, 1) := dk_42 (dk_at dksX7_tellDays_1 10 rfl rfl)
theorem dX7_tellDays_35 : decode cX7_tellDays 35 = .ok (.getfield 29, 3) := dk_180 0 29 (dk_at dksX7_tellDays_1 11 rfl rfl)
theorem dX7_tellDays_38 : decode cX7_tellDays 38 = .ok (.iconst 0, 1) := dk_3 (dk_at dksX7_tellDays_1 14 rfl rfl)
theorem dX7_tellDays_39 : decode cX7_tellDays 39 = .ok (.iaload, 1) := dk_46 (dk_at dksX7_tellDays_1 15 rfl rfl)
theorem dX7_tellDays_40 : decode cX7_tellDays 40 = .ok (.if_icmp .ge 98, 3) := dk_162 0 98 (dk_at dksX7_tellDays_1 16 rfl rfl)
theorem dX7_tellDays_43 : decode cX7_tellDays 43 = .ok (.iconst 0, 1) := dk_3 (dk_at dksX7_tellDays_1 19 rfl rfl)
theorem dX7_tellDays_44 : decode cX7_tellDays 44 = .ok (.istore_n 3, 1) := dk_62 (dk_at dksX7_tellDays_1 20 rfl rfl)
theorem dX7_tellDays_45 : decode cX7_tellDays 45 = .ok (.iload_n 3, 1) := dk_29 (dk_at dksX7_tellDays_1 21 rfl rfl)
theorem dX7_tellDays_46 : decode cX7_tellDays 46 = .ok (.aload_n 0, 1) := dk_42 (dk_at dksX7_tellDays_1 22 rfl rfl)
theorem dX7_tellDays_47 : decode cX7_tellDays 47 = .ok (.getfield 29, 3) := dk_180 0 29 (dk_at dksX7_tellDays_2 0 rfl rfl)
theorem dX7_tellDays_50 : decode cX7_tellDays 50 = .ok (.iconst 0, 1) := dk_3 (dk_at dksX7_tellDays_2 3 rfl rfl)
theorem dX7_tellDays_51 : decode cX7_tellDays 51 = .ok (.iaload, 1) := dk_46 (dk_at dksX7_tellDays_2 4 rfl rfl)
theorem dX7_tellDays_52 : decode cX7_tellDays 52 = .ok (.if_icmp .ge 80, 3) := dk_162 0 80 (dk_at dksX7_tellDays_2 5 rfl rfl)
theorem dX7_tellDays_55 : decode cX7_tellDays 55 = .ok (.iconst 0, 1) := dk_3 (dk_at dksX7_tellDays_2 8 rfl rfl)
theorem dX7_tellDays_56 : decode cX7_tellDays 56 = .ok (.istore 4, 2) := dk_54 4 (dk_at dksX7_tellDays_2 9 rfl rfl)
theorem dX7_tellDays_58 : decode cX7_tellDays 58 = .ok (.iload 4, 2) := dk_21 4 (dk_at dksX7_tellDays_2 11 rfl rfl)
theorem dX7_tellDays_60 : decode cX7_tellDays 60 = .ok (.aload_n 0, 1) := dk_42 (dk_at dksX7_tellDays_2 13 rfl rfl)
theorem dX7_tellDays_61 : decode cX7_tellDays 61 = .ok (.getfield 29, 3) := dk_180 0 29 (dk_at dksX7_tellDays_2 14 rfl rfl)
theorem dX7_tellDays_64 : decode cX7_tellDays 64 = .ok (.iconst 0, 1) := dk_3 (dk_at dksX7_tellDays_2 17 rfl rfl)
theorem dX7_tellDays_65 : decode cX7_tellDays 65 = .ok (.iaload, 1) := dk_46 (dk_at dksX7_tellDays_2 18 rfl rfl)
theorem dX7_tellDays_66 : decode cX7_tellDays 66 = .ok (.if_icmp .ge 60, 3) := dk_162 0 60 (dk_at dksX7_tellDays_2 19 rfl rfl)
theorem dX7_tellDays_69 : decode cX7_tellDays 69 = .ok (.aload_n 0, 1) := dk_42 (dk_at dksX7_tellDays_2 22 rfl rfl)
theorem dX7_tellDays_70 : decode cX7_tellDays 70 = .ok (.getfield 45, 3) := dk_180 0 45 (dk_at dksX7_tellDays_3 0 rfl rfl)
theorem dX7_tellDays_73 : decode cX7_tellDays 73 = .ok (.bipush 8, 2) := dk_16 8 (dk_at dksX7_tellDays_3 3 rfl rfl)
theorem dX7_tellDays_75 : decode cX7_tellDays 75 = .ok (.iload_n 3, 1) := dk_29 (dk_at dksX7_tellDays_3 5 rfl rfl)
theorem dX7_tellDays_76 : decode cX7_tellDays 76 = .ok (.imul, 1) := dk_104 (dk_at dksX7_tellDays_3 6 rfl rfl)
theorem dX7_tellDays_77 : decode cX7_tellDays 77 = .ok (.iload 4, 2) := dk_21 4 (dk_at dksX7_tellDays_3 7 rfl rfl)
theorem dX7_tellDays_79 : decode cX7_tellDays 79 = .ok (.iadd, 1) := dk_96 (dk_at dksX7_tellDays_3 9 rfl rfl)
theorem dX7_tellDays_80 : decode cX7_tellDays 80 = .ok (.iaload, 1) := dk_46 (dk_at dksX7_tellDays_3 10 rfl rfl)
theorem dX7_tellDays_81 : decode cX7_tellDays 81 = .ok (.ifCond .le 39, 3) := dk_158 0 39 (dk_at dksX7_tellDays_3 11 rfl rfl)
theorem dX7_tellDays_84 : decode cX7_tellDays 84 = .ok (.aload_n 0, 1) := dk_42 (dk_at dksX7_tellDays_3 14 rfl rfl)
theorem dX7_tellDays_85 : decode cX7_tellDays 85 = .ok (.getfield 105, 3) := dk_180 0 105 (dk_at dksX7_tellDays_3 15 rfl rfl)
theorem dX7_tellDays_88 : decode cX7_tellDays 88 = .ok (.iload 4, 2) := dk_21 4 (dk_at dksX7_tellDays_3 18 rfl rfl)
theorem dX7_tellDays_90 : decode cX7_tellDays 90 = .ok (.aload_n 0, 1) := dk_42 (dk_at dksX7_tellDays_3 20 rfl rfl)
theorem dX7_tellDays_91 : decode cX7_tellDays 91 = .ok (.getfield 105, 3) := dk_180 0 105 (dk_at dksX7_tellDays_3 21 rfl rfl)
theorem dX7_tellDays_94 : decode cX7_tellDays 94 = .ok (.iload 4, 2) := dk_21 4 (dk_at dksX7_tellDays_4 0 rfl rfl)
theorem dX7_tellDays_96 : decode cX7_tellDays 96 = .ok (.iaload, 1) := dk_46 (dk_at dksX7_tellDays_4 2 rfl rfl)
theorem dX7_tellDays_97 : decode cX7_tellDays 97 = .ok (.aload_n 0, 1) := dk_42 (dk_at dksX7_tellDays_4 3 rfl rfl)
theorem dX7_tellDays_98 : decode cX7_tellDays 98 = .ok (.getfield 105, 3) := dk_180 0 105 (dk_at dksX7_tellDays_4 4 rfl rfl)
theorem dX7_tellDays_101 : decode cX7_tellDays 101 = .ok (.iload_n 3, 1) := dk_29 (dk_at dksX7_tellDays_4 7 rfl rfl)
theorem dX7_tellDays_102 : decode cX7_tellDays 102 = .ok (.iaload, 1) := dk_46 (dk_at dksX7_tellDays_4 8 rfl rfl)
theorem dX7_tellDays_103 : decode cX7_tellDays 103 = .ok (.aload_n 0, 1) := dk_42 (dk_at dksX7_tellDays_4 9 rfl rfl)
theorem dX7_tellDays_104 : decode cX7_tellDays 104 = .ok (.getfield 45, 3) := dk_180 0 45 (dk_at dksX7_tellDays_4 10 rfl rfl)
theorem dX7_tellDays_107 : decode cX7_tellDays 107 = .ok (.bipush 8, 2) := dk_16 8 (dk_at dksX7_tellDays_4 13 rfl rfl)
theorem dX7_tellDays_109 : decode cX7_tellDays 109 = .ok (.iload_n 3, 1) := dk_29 (dk_at dksX7_tellDays_4 15 rfl rfl)
theorem dX7_tellDays_110 : decode cX7_tellDays 110 = .ok (.imul, 1) := dk_104 (dk_at dksX7_tellDays_4 16 rfl rfl)
theorem dX7_tellDays_111 : decode cX7_tellDays 111 = .ok (.iload 4, 2) := dk_21 4 (dk_at dksX7_tellDays_4 17 rfl rfl)
theorem dX7_tellDays_113 : decode cX7_tellDays 113 = .ok (.iadd, 1) := dk_96 (dk_at dksX7_tellDays_4 19 rfl rfl)
theorem dX7_tellDays_114 : decode cX7_tellDays 114 = .ok (.iaload, 1) := dk_46 (dk_at dksX7_tellDays_4 20 rfl rfl)
theorem dX7_tellDays_115 : decode cX7_tellDays 115 = .ok (.iadd, 1) := dk_96 (dk_at dksX7_tellDays_4 21 rfl rfl)
theorem dX7_tellDays_116 : decode cX7_tellDays 116 = .ok (.invokestatic 187, 3) := dk_184 0 187 (dk_at dksX7_tellDays_5 0 rfl rfl)
theorem dX7_tellDays_119 : decode cX7_tellDays 119 = .ok (.iastore, 1) := dk_79 (dk_at dksX7_tellDays_5 3 rfl rfl)
theorem dX7_tellDays_120 : decode cX7_tellDays 120 = .ok (.iinc 4 1, 3) := dk_132 4 1 (dk_at dksX7_tellDays_5 4 rfl rfl)
theorem dX7_tellDays_123 : decode cX7_tellDays 123 = .ok (.goto (-65), 3) := dk_167 255 191 (dk_at dksX7_tellDays_5 7 rfl rfl)
theorem dX7_tellDays_126 : decode cX7_tellDays 126 = .ok (.iinc 3 1, 3) := dk_132 3 1 (dk_at dksX7_tellDays_5 10 rfl rfl)
theorem dX7_tellDays_129 : decode cX7_tellDays 129 = .ok (.goto (-84), 3) := dk_167 255 172 (dk_at dksX7_tellDays_5 13 rfl rfl)
theorem dX7_tellDays_132 : decode cX7_tellDays 132 = .ok (.iinc 2 1, 3) := dk_132 2 1 (dk_at dksX7_tellDays_5 16 rfl rfl)
theorem dX7_tellDays_135 : decode cX7_tellDays 135 = .ok (.goto (-102), 3) := dk_167 255 154 (dk_at dksX7_tellDays_5 19 rfl rfl)
theorem dX7_tellDays_138 : decode cX7_tellDays 138 = .ok (.return_, 1) := dk_177 (dk_at dksX7_tellDays_5 22 rfl rfl)
abbrev cX7_round : ByteArray := prog_18_method_83_code
def yX7_round : MethodName := ⟨RX7, "round", "(I)I"⟩
def dkwX7_round_14 : List UInt8 := [167, 255, 72, 132, 5, 1, 167, 255, 57, 21, 4, 18, 186, 161, 0, 7, 2, 167, 0, 5, 21, 4, 172]
abbrev dktX7_round_14 : List UInt8 := dkwX7_round_14 ++ []
def dkwX7_round_13 : List UInt8 := [21, 7, 42, 180, 0, 111, 16, 8, 21, 6, 104, 29, 96, 46, 96, 184, 0, 187, 54, 4, 132, 6, 1]
abbrev dktX7_round_13 : List UInt8 := dkwX7_round_13 ++ dktX7_round_14
def dkwX7_round_12 : List UInt8 := [21, 5, 6, 120, 21, 6, 96, 18, 186, 21, 7, 184, 0, 187, 79, 21, 5, 28, 160, 0, 25, 21, 4]
abbrev dktX7_round_12 : List UInt8 := dkwX7_round_12 ++ dktX7_round_13
def dkwX7_round_11 : List UInt8 := [21, 9, 104, 21, 6, 96, 46, 96, 184, 0, 187, 54, 7, 132, 9, 1, 167, 255, 199, 42, 180, 0, 108]
abbrev dktX7_round_11 : List UInt8 := dkwX7_round_11 ++ dktX7_round_12
def dkwX7_round_10 : List UInt8 := [153, 0, 36, 21, 7, 42, 180, 0, 108, 21, 8, 6, 120, 21, 9, 96, 46, 42, 180, 0, 111, 16, 8]
abbrev dktX7_round_10 : List UInt8 := dkwX7_round_10 ++ dktX7_round_11
def dkwX7_round_9 : List UInt8 := [54, 7, 3, 54, 9, 21, 9, 42, 180, 0, 29, 3, 46, 162, 0, 52, 21, 8, 21, 9, 184, 1, 168]
abbrev dktX7_round_9 : List UInt8 := dkwX7_round_9 ++ dktX7_round_10
def dkwX7_round_8 : List UInt8 := [54, 8, 21, 8, 154, 0, 18, 42, 180, 0, 111, 16, 8, 29, 104, 21, 6, 96, 46, 167, 0, 5, 18, 186]
abbrev dktX7_round_8 : List UInt8 := dkwX7_round_8 ++ dktX7_round_9
def dkwX7_round_7 : List UInt8 := [184, 1, 168, 153, 0, 110, 21, 5, 28, 2, 130, 126, 154, 0, 101, 21, 5, 4, 21, 6, 120, 2, 130, 126]
abbrev dktX7_round_7 : List UInt8 := dkwX7_round_7 ++ dktX7_round_8
def dkwX7_round_6 : List UInt8 := [54, 6, 21, 6, 42, 180, 0, 29, 3, 46, 162, 0, 179, 18, 186, 54, 7, 21, 5, 28, 126, 21, 6]
abbrev dktX7_round_6 : List UInt8 := dkwX7_round_6 ++ dktX7_round_7
def dkwX7_round_5 : List UInt8 := [46, 62, 28, 154, 0, 7, 3, 167, 0, 5, 18, 186, 54, 4, 4, 54, 5, 21, 5, 28, 163, 0, 199, 3]
abbrev dktX7_round_5 : List UInt8 := dkwX7_round_5 ++ dktX7_round_6
def dkwX7_round_4 : List UInt8 := [180, 0, 105, 21, 4, 46, 79, 132, 4, 1, 167, 255, 223, 132, 3, 1, 167, 255, 199, 42, 180, 0, 56, 27]
abbrev dktX7_round_4 : List UInt8 := dkwX7_round_4 ++ dktX7_round_5
def dkwX7_round_3 : List UInt8 := [21, 4, 42, 180, 0, 29, 3, 46, 162, 0, 28, 42, 180, 0, 111, 16, 8, 29, 104, 21, 4, 96, 42]
abbrev dktX7_round_3 : List UInt8 := dkwX7_round_3 ++ dktX7_round_4
def dkwX7_round_2 : List UInt8 := [167, 255, 232, 3, 62, 29, 42, 180, 0, 29, 3, 46, 162, 0, 53, 42, 29, 182, 1, 159, 3, 54, 4]
abbrev dktX7_round_2 : List UInt8 := dkwX7_round_2 ++ dktX7_round_3
def dkwX7_round_1 : List UInt8 := [42, 180, 0, 29, 5, 46, 162, 0, 20, 28, 4, 42, 180, 0, 80, 29, 46, 120, 128, 61, 132, 3, 1]
abbrev dktX7_round_1 : List UInt8 := dkwX7_round_1 ++ dktX7_round_2
def dkwX7_round_0 : List UInt8 := [42, 3, 181, 0, 150, 42, 27, 182, 1, 165, 154, 0, 9, 42, 4, 182, 1, 47, 172, 3, 61, 3, 62, 29]
abbrev dktX7_round_0 : List UInt8 := dkwX7_round_0 ++ dktX7_round_1
theorem dksX7_round_0 : cX7_round.data.toList.drop 0 = dktX7_round_0 := by decide +kernel
theorem dksX7_round_1 : cX7_round.data.toList.drop 24 = dktX7_round_1 := dk_seg dksX7_round_0 24 rfl rfl
theorem dksX7_round_2 : cX7_round.data.toList.drop 47 = dktX7_round_2 := dk_seg dksX7_round_1 23 rfl rfl
theorem dksX7_round_3 : cX7_round.data.toList.drop 70 = dktX7_round_3 := dk_seg dksX7_round_2 23 rfl rfl
theorem dksX7_round_4 : cX7_round.data.toList.drop 93 = dktX7_round_4 := dk_seg dksX7_round_3 23 rfl rfl
theorem dksX7_round_5 : cX7_round.data.toList.drop 117 = dktX7_round_5 := dk_seg dksX7_round_4 24 rfl rfl
theorem dksX7_round_6 : cX7_round.data.toList.drop 141 = dktX7_round_6 := dk_seg dksX7_round_5 24 rfl rfl
theorem dksX7_round_7 : cX7_round.data.toList.drop 164 = dktX7_round_7 := dk_seg dksX7_round_6 23 rfl rfl
theorem dksX7_round_8 : cX7_round.data.toList.drop 188 = dktX7_round_8 := dk_seg dksX7_round_7 24 rfl rfl
theorem dksX7_round_9 : cX7_round.data.toList.drop 212 = dktX7_round_9 := dk_seg dksX7_round_8 24 rfl rfl
theorem dksX7_round_10 : cX7_round.data.toList.drop 235 = dktX7_round_10 := dk_seg dksX7_round_9 23 rfl rfl
theorem dksX7_round_11 : cX7_round.data.toList.drop 258 = dktX7_round_11 := dk_seg dksX7_round_10 23 rfl rfl
theorem dksX7_round_12 : cX7_round.data.toList.drop 281 = dktX7_round_12 := dk_seg dksX7_round_11 23 rfl rfl
theorem dksX7_round_13 : cX7_round.data.toList.drop 304 = dktX7_round_13 := dk_seg dksX7_round_12 23 rfl rfl
theorem dksX7_round_14 : cX7_round.data.toList.drop 327 = dktX7_round_14 := dk_seg dksX7_round_13 23 rfl rfl
theorem dX7_round_0 : decode cX7_round 0 = .ok (.aload_n 0, 1) := dk_42 (dk_at dksX7_round_0 0 rfl rfl)
theorem dX7_round_1 : decode cX7_round 1 = .ok (.iconst 0, 1) := dk_3 (dk_at dksX7_round_0 1 rfl rfl)
theorem dX7_round_2 : decode cX7_round 2 = .ok (.putfield 150, 3) := dk_181 0 150 (dk_at dksX7_round_0 2 rfl rfl)
theorem dX7_round_5 : decode cX7_round 5 = .ok (.aload_n 0, 1) := dk_42 (dk_at dksX7_round_0 5 rfl rfl)
theorem dX7_round_6 : decode cX7_round 6 = .ok (.iload_n 1, 1) := dk_27 (dk_at dksX7_round_0 6 rfl rfl)
theorem dX7_round_7 : decode cX7_round 7 = .ok (.invokevirtual 421, 3) := dk_182 1 165 (dk_at dksX7_round_0 7 rfl rfl)
theorem dX7_round_10 : decode cX7_round 10 = .ok (.ifCond .ne 9, 3) := dk_154 0 9 (dk_at dksX7_round_0 10 rfl rfl)
theorem dX7_round_13 : decode cX7_round 13 = .ok (.aload_n 0, 1) := dk_42 (dk_at dksX7_round_0 13 rfl rfl)
theorem dX7_round_14 : decode cX7_round 14 = .ok (.iconst 1, 1) := dk_4 (dk_at dksX7_round_0 14 rfl rfl)
theorem dX7_round_15 : decode cX7_round 15 = .ok (.invokevirtual 303, 3) := dk_182 1 47 (dk_at dksX7_round_0 15 rfl rfl)
theorem dX7_round_18 : decode cX7_round 18 = .ok (.ireturn, 1) := dk_172 (dk_at dksX7_round_0 18 rfl rfl)
theorem dX7_round_19 : decode cX7_round 19 = .ok (.iconst 0, 1) := dk_3 (dk_at dksX7_round_0 19 rfl rfl)
theorem dX7_round_20 : decode cX7_round 20 = .ok (.istore_n 2, 1) := dk_61 (dk_at dksX7_round_0 20 rfl rfl)
theorem dX7_round_21 : decode cX7_round 21 = .ok (.iconst 0, 1) := dk_3 (dk_at dksX7_round_0 21 rfl rfl)
theorem dX7_round_22 : decode cX7_round 22 = .ok (.istore_n 3, 1) := dk_62 (dk_at dksX7_round_0 22 rfl rfl)
theorem dX7_round_23 : decode cX7_round 23 = .ok (.iload_n 3, 1) := dk_29 (dk_at dksX7_round_0 23 rfl rfl)
theorem dX7_round_24 : decode cX7_round 24 = .ok (.aload_n 0, 1) := dk_42 (dk_at dksX7_round_1 0 rfl rfl)
theorem dX7_round_25 : decode cX7_round 25 = .ok (.getfield 29, 3) := dk_180 0 29 (dk_at dksX7_round_1 1 rfl rfl)
theorem dX7_round_28 : decode cX7_round 28 = .ok (.iconst 2, 1) := dk_5 (dk_at dksX7_round_1 4 rfl rfl)
theorem dX7_round_29 : decode cX7_round 29 = .ok (.iaload, 1) := dk_46 (dk_at dksX7_round_1 5 rfl rfl)
theorem dX7_round_30 : decode cX7_round 30 = .ok (.if_icmp .ge 20, 3) := dk_162 0 20 (dk_at dksX7_round_1 6 rfl rfl)
theorem dX7_round_33 : decode cX7_round 33 = .ok (.iload_n 2, 1) := dk_28 (dk_at dksX7_round_1 9 rfl rfl)
theorem dX7_round_34 : decode cX7_round 34 = .ok (.iconst 1, 1) := dk_4 (dk_at dksX7_round_1 10 rfl rfl)
theorem dX7_round_35 : decode cX7_round 35 = .ok (.aload_n 0, 1) := dk_42 (dk_at dksX7_round_1 11 rfl rfl)
theorem dX7_round_36 : decode cX7_round 36 = .ok (.getfield 80, 3) := dk_180 0 80 (dk_at dksX7_round_1 12 rfl rfl)
theorem dX7_round_39 : decode cX7_round 39 = .ok (.iload_n 3, 1) := dk_29 (dk_at dksX7_round_1 15 rfl rfl)
theorem dX7_round_40 : decode cX7_round 40 = .ok (.iaload, 1) := dk_46 (dk_at dksX7_round_1 16 rfl rfl)
theorem dX7_round_41 : decode cX7_round 41 = .ok (.ishl, 1) := dk_120 (dk_at dksX7_round_1 17 rfl rfl)
theorem dX7_round_42 : decode cX7_round 42 = .ok (.ior, 1) := dk_128 (dk_at dksX7_round_1 18 rfl rfl)
theorem dX7_round_43 : decode cX7_round 43 = .ok (.istore_n 2, 1) := dk_61 (dk_at dksX7_round_1 19 rfl rfl)
theorem dX7_round_44 : decode cX7_round 44 = .ok (.iinc 3 1, 3) := dk_132 3 1 (dk_at dksX7_round_1 20 rfl rfl)
theorem dX7_round_47 : decode cX7_round 47 = .ok (.goto (-24), 3) := dk_167 255 232 (dk_at dksX7_round_2 0 rfl rfl)
theorem dX7_round_50 : decode cX7_round 50 = .ok (.iconst 0, 1) := dk_3 (dk_at dksX7_round_2 3 rfl rfl)
theorem dX7_round_51 : decode cX7_round 51 = .ok (.istore_n 3, 1) := dk_62 (dk_at dksX7_round_2 4 rfl rfl)
theorem dX7_round_52 : decode cX7_round 52 = .ok (.iload_n 3, 1) := dk_29 (dk_at dksX7_round_2 5 rfl rfl)
theorem dX7_round_53 : decode cX7_round 53 = .ok (.aload_n 0, 1) := dk_42 (dk_at dksX7_round_2 6 rfl rfl)
theorem dX7_round_54 : decode cX7_round 54 = .ok (.getfield 29, 3) := dk_180 0 29 (dk_at dksX7_round_2 7 rfl rfl)
theorem dX7_round_57 : decode cX7_round 57 = .ok (.iconst 0, 1) := dk_3 (dk_at dksX7_round_2 10 rfl rfl)
theorem dX7_round_58 : decode cX7_round 58 = .ok (.iaload, 1) := dk_46 (dk_at dksX7_round_2 11 rfl rfl)
theorem dX7_round_59 : decode cX7_round 59 = .ok (.if_icmp .ge 53, 3) := dk_162 0 53 (dk_at dksX7_round_2 12 rfl rfl)
theorem dX7_round_62 : decode cX7_round 62 = .ok (.aload_n 0, 1) := dk_42 (dk_at dksX7_round_2 15 rfl rfl)
theorem dX7_round_63 : decode cX7_round 63 = .ok (.iload_n 3, 1) := dk_29 (dk_at dksX7_round_2 16 rfl rfl)
theorem dX7_round_64 : decode cX7_round 64 = .ok (.invokevirtual 415, 3) := dk_182 1 159 (dk_at dksX7_round_2 17 rfl rfl)
theorem dX7_round_67 : decode cX7_round 67 = .ok (.iconst 0, 1) := dk_3 (dk_at dksX7_round_2 20 rfl rfl)
theorem dX7_round_68 : decode cX7_round 68 = .ok (.istore 4, 2) := dk_54 4 (dk_at dksX7_round_2 21 rfl rfl)
theorem dX7_round_70 : decode cX7_round 70 = .ok (.iload 4, 2) := dk_21 4 (dk_at dksX7_round_3 0 rfl rfl)
theorem dX7_round_72 : decode cX7_round 72 = .ok (.aload_n 0, 1) := dk_42 (dk_at dksX7_round_3 2 rfl rfl)
theorem dX7_round_73 : decode cX7_round 73 = .ok (.getfield 29, 3) := dk_180 0 29 (dk_at dksX7_round_3 3 rfl rfl)
theorem dX7_round_76 : decode cX7_round 76 = .ok (.iconst 0, 1) := dk_3 (dk_at dksX7_round_3 6 rfl rfl)
theorem dX7_round_77 : decode cX7_round 77 = .ok (.iaload, 1) := dk_46 (dk_at dksX7_round_3 7 rfl rfl)
theorem dX7_round_78 : decode cX7_round 78 = .ok (.if_icmp .ge 28, 3) := dk_162 0 28 (dk_at dksX7_round_3 8 rfl rfl)
theorem dX7_round_81 : decode cX7_round 81 = .ok (.aload_n 0, 1) := dk_42 (dk_at dksX7_round_3 11 rfl rfl)
theorem dX7_round_82 : decode cX7_round 82 = .ok (.getfield 111, 3) := dk_180 0 111 (dk_at dksX7_round_3 12 rfl rfl)
theorem dX7_round_85 : decode cX7_round 85 = .ok (.bipush 8, 2) := dk_16 8 (dk_at dksX7_round_3 15 rfl rfl)
theorem dX7_round_87 : decode cX7_round 87 = .ok (.iload_n 3, 1) := dk_29 (dk_at dksX7_round_3 17 rfl rfl)
theorem dX7_round_88 : decode cX7_round 88 = .ok (.imul, 1) := dk_104 (dk_at dksX7_round_3 18 rfl rfl)
theorem dX7_round_89 : decode cX7_round 89 = .ok (.iload 4, 2) := dk_21 4 (dk_at dksX7_round_3 19 rfl rfl)
theorem dX7_round_91 : decode cX7_round 91 = .ok (.iadd, 1) := dk_96 (dk_at dksX7_round_3 21 rfl rfl)
theorem dX7_round_92 : decode cX7_round 92 = .ok (.aload_n 0, 1) := dk_42 (dk_at dksX7_round_3 22 rfl rfl)
theorem dX7_round_93 : decode cX7_round 93 = .ok (.getfield 105, 3) := dk_180 0 105 (dk_at dksX7_round_4 0 rfl rfl)
theorem dX7_round_96 : decode cX7_round 96 = .ok (.iload 4, 2) := dk_21 4 (dk_at dksX7_round_4 3 rfl rfl)
theorem dX7_round_98 : decode cX7_round 98 = .ok (.iaload, 1) := dk_46 (dk_at dksX7_round_4 5 rfl rfl)
theorem dX7_round_99 : decode cX7_round 99 = .ok (.iastore, 1) := dk_79 (dk_at dksX7_round_4 6 rfl rfl)
theorem dX7_round_100 : decode cX7_round 100 = .ok (.iinc 4 1, 3) := dk_132 4 1 (dk_at dksX7_round_4 7 rfl rfl)
theorem dX7_round_103 : decode cX7_round 103 = .ok (.goto (-33), 3) := dk_167 255 223 (dk_at dksX7_round_4 10 rfl rfl)
theorem dX7_round_106 : decode cX7_round 106 = .ok (.iinc 3 1, 3) := dk_132 3 1 (dk_at dksX7_round_4 13 rfl rfl)
theorem dX7_round_109 : decode cX7_round 109 = .ok (.goto (-57), 3) := dk_167 255 199 (dk_at dksX7_round_4 16 rfl rfl)
theorem dX7_round_112 : decode cX7_round 112 = .ok (.aload_n 0, 1) := dk_42 (dk_at dksX7_round_4 19 rfl rfl)
theorem dX7_round_113 : decode cX7_round 113 = .ok (.getfield 56, 3) := dk_180 0 56 (dk_at dksX7_round_4 20 rfl rfl)
theorem dX7_round_116 : decode cX7_round 116 = .ok (.iload_n 1, 1) := dk_27 (dk_at dksX7_round_4 23 rfl rfl)
theorem dX7_round_117 : decode cX7_round 117 = .ok (.iaload, 1) := dk_46 (dk_at dksX7_round_5 0 rfl rfl)
theorem dX7_round_118 : decode cX7_round 118 = .ok (.istore_n 3, 1) := dk_62 (dk_at dksX7_round_5 1 rfl rfl)
theorem dX7_round_119 : decode cX7_round 119 = .ok (.iload_n 2, 1) := dk_28 (dk_at dksX7_round_5 2 rfl rfl)
theorem dX7_round_120 : decode cX7_round 120 = .ok (.ifCond .ne 7, 3) := dk_154 0 7 (dk_at dksX7_round_5 3 rfl rfl)
theorem dX7_round_123 : decode cX7_round 123 = .ok (.iconst 0, 1) := dk_3 (dk_at dksX7_round_5 6 rfl rfl)
theorem dX7_round_124 : decode cX7_round 124 = .ok (.goto 5, 3) := dk_167 0 5 (dk_at dksX7_round_5 7 rfl rfl)
theorem dX7_round_127 : decode cX7_round 127 = .ok (.ldc 186, 2) := dk_18 186 (dk_at dksX7_round_5 10 rfl rfl)
theorem dX7_round_129 : decode cX7_round 129 = .ok (.istore 4, 2) := dk_54 4 (dk_at dksX7_round_5 12 rfl rfl)
theorem dX7_round_131 : decode cX7_round 131 = .ok (.iconst 1, 1) := dk_4 (dk_at dksX7_round_5 14 rfl rfl)
theorem dX7_round_132 : decode cX7_round 132 = .ok (.istore 5, 2) := dk_54 5 (dk_at dksX7_round_5 15 rfl rfl)
theorem dX7_round_134 : decode cX7_round 134 = .ok (.iload 5, 2) := dk_21 5 (dk_at dksX7_round_5 17 rfl rfl)
theorem dX7_round_136 : decode cX7_round 136 = .ok (.iload_n 2, 1) := dk_28 (dk_at dksX7_round_5 19 rfl rfl)
theorem dX7_round_137 : decode cX7_round 137 = .ok (.if_icmp .gt 199, 3) := dk_163 0 199 (dk_at dksX7_round_5 20 rfl rfl)
theorem dX7_round_140 : decode cX7_round 140 = .ok (.iconst 0, 1) := dk_3 (dk_at dksX7_round_5 23 rfl rfl)
theorem dX7_round_141 : decode cX7_round 141 = .ok (.istore 6, 2) := dk_54 6 (dk_at dksX7_round_6 0 rfl rfl)
theorem dX7_round_143 : decode cX7_round 143 = .ok (.iload 6, 2) := dk_21 6 (dk_at dksX7_round_6 2 rfl rfl)
theorem dX7_round_145 : decode cX7_round 145 = .ok (.aload_n 0, 1) := dk_42 (dk_at dksX7_round_6 4 rfl rfl)
theorem dX7_round_146 : decode cX7_round 146 = .ok (.getfield 29, 3) := dk_180 0 29 (dk_at dksX7_round_6 5 rfl rfl)
theorem dX7_round_149 : decode cX7_round 149 = .ok (.iconst 0, 1) := dk_3 (dk_at dksX7_round_6 8 rfl rfl)
theorem dX7_round_150 : decode cX7_round 150 = .ok (.iaload, 1) := dk_46 (dk_at dksX7_round_6 9 rfl rfl)
theorem dX7_round_151 : decode cX7_round 151 = .ok (.if_icmp .ge 179, 3) := dk_162 0 179 (dk_at dksX7_round_6 10 rfl rfl)
theorem dX7_round_154 : decode cX7_round 154 = .ok (.ldc 186, 2) := dk_18 186 (dk_at dksX7_round_6 13 rfl rfl)
theorem dX7_round_156 : decode cX7_round 156 = .ok (.istore 7, 2) := dk_54 7 (dk_at dksX7_round_6 15 rfl rfl)
theorem dX7_round_158 : decode cX7_round 158 = .ok (.iload 5, 2) := dk_21 5 (dk_at dksX7_round_6 17 rfl rfl)
theorem dX7_round_160 : decode cX7_round 160 = .ok (.iload_n 2, 1) := dk_28 (dk_at dksX7_round_6 19 rfl rfl)
theorem dX7_round_161 : decode cX7_round 161 = .ok (.iand, 1) := dk_126 (dk_at dksX7_round_6 20 rfl rfl)
theorem dX7_round_162 : decode cX7_round 162 = .ok (.iload 6, 2) := dk_21 6 (dk_at dksX7_round_6 21 rfl rfl)
theorem dX7_round_164 : decode cX7_round 164 = .ok (.invokestatic 424, 3) := dk_184 1 168 (dk_at dksX7_round_7 0 rfl rfl)
theorem dX7_round_167 : decode cX7_round 167 = .ok (.ifCond .eq 110, 3) := dk_153 0 110 (dk_at dksX7_round_7 3 rfl rfl)
theorem dX7_round_170 : decode cX7_round 170 = .ok (.iload 5, 2) := dk_21 5 (dk_at dksX7_round_7 6 rfl rfl)
theorem dX7_round_172 : decode cX7_round 172 = .ok (.iload_n 2, 1) := dk_28 (dk_at dksX7_round_7 8 rfl rfl)
theorem dX7_round_173 : decode cX7_round 173 = .ok (.iconst (-1), 1) := dk_2 (dk_at dksX7_round_7 9 rfl rfl)
theorem dX7_round_174 : decode cX7_round 174 = .ok (.ixor, 1) := dk_130 (dk_at dksX7_round_7 10 rfl rfl)
theorem dX7_round_175 : decode cX7_round 175 = .ok (.iand, 1) := dk_126 (dk_at dksX7_round_7 11 rfl rfl)
theorem dX7_round_176 : decode cX7_round 176 = .ok (.ifCond .ne 101, 3) := dk_154 0 101 (dk_at dksX7_round_7 12 rfl rfl)
theorem dX7_round_179 : decode cX7_round 179 = .ok (.iload 5, 2) := dk_21 5 (dk_at dksX7_round_7 15 rfl rfl)
theorem dX7_round_181 : decode cX7_round 181 = .ok (.iconst 1, 1) := dk_4 (dk_at dksX7_round_7 17 rfl rfl)
theorem dX7_round_182 : decode cX7_round 182 = .ok (.iload 6, 2) := dk_21 6 (dk_at dksX7_round_7 18 rfl rfl)
theorem dX7_round_184 : decode cX7_round 184 = .ok (.ishl, 1) := dk_120 (dk_at dksX7_round_7 20 rfl rfl)
theorem dX7_round_185 : decode cX7_round 185 = .ok (.iconst (-1), 1) := dk_2 (dk_at dksX7_round_7 21 rfl rfl)
theorem dX7_round_186 : decode cX7_round 186 = .ok (.ixor, 1) := dk_130 (dk_at dksX7_round_7 22 rfl rfl)
theorem dX7_round_187 : decode cX7_round 187 = .ok (.iand, 1) := dk_126 (dk_at dksX7_round_7 23 rfl rfl)
theorem dX7_round_188 : decode cX7_round 188 = .ok (.istore 8, 2) := dk_54 8 (dk_at dksX7_round_8 0 rfl rfl)
theorem dX7_round_190 : decode cX7_round 190 = .ok (.iload 8, 2) := dk_21 8 (dk_at dksX7_round_8 2 rfl rfl)
theorem dX7_round_192 : decode cX7_round 192 = .ok (.ifCond .ne 18, 3) := dk_154 0 18 (dk_at dksX7_round_8 4 rfl rfl)
theorem dX7_round_195 : decode cX7_round 195 = .ok (.aload_n 0, 1) := dk_42 (dk_at dksX7_round_8 7 rfl rfl)
theorem dX7_round_196 : decode cX7_round 196 = .ok (.getfield 111, 3) := dk_180 0 111 (dk_at dksX7_round_8 8 rfl rfl)
theorem dX7_round_199 : decode cX7_round 199 = .ok (.bipush 8, 2) := dk_16 8 (dk_at dksX7_round_8 11 rfl rfl)
theorem dX7_round_201 : decode cX7_round 201 = .ok (.iload_n 3, 1) := dk_29 (dk_at dksX7_round_8 13 rfl rfl)
theorem dX7_round_202 : decode cX7_round 202 = .ok (.imul, 1) := dk_104 (dk_at dksX7_round_8 14 rfl rfl)
theorem dX7_round_203 : decode cX7_round 203 = .ok (.iload 6, 2) := dk_21 6 (dk_at dksX7_round_8 15 rfl rfl)
theorem dX7_round_205 : decode cX7_round 205 = .ok (.iadd, 1) := dk_96 (dk_at dksX7_round_8 17 rfl rfl)
theorem dX7_round_206 : decode cX7_round 206 = .ok (.iaload, 1) := dk_46 (dk_at dksX7_round_8 18 rfl rfl)
theorem dX7_round_207 : decode cX7_round 207 = .ok (.goto 5, 3) := dk_167 0 5 (dk_at dksX7_round_8 19 rfl rfl)
theorem dX7_round_210 : decode cX7_round 210 = .ok (.ldc 186, 2) := dk_18 186 (dk_at dksX7_round_8 22 rfl rfl)
theorem dX7_round_212 : decode cX7_round 212 = .ok (.istore 7, 2) := dk_54 7 (dk_at dksX7_round_9 0 rfl rfl)
theorem dX7_round_214 : decode cX7_round 214 = .ok (.iconst 0, 1) := dk_3 (dk_at dksX7_round_9 2 rfl rfl)
theorem dX7_round_215 : decode cX7_round 215 = .ok (.istore 9, 2) := dk_54 9 (dk_at dksX7_round_9 3 rfl rfl)
theorem dX7_round_217 : decode cX7_round 217 = .ok (.iload 9, 2) := dk_21 9 (dk_at dksX7_round_9 5 rfl rfl)
theorem dX7_round_219 : decode cX7_round 219 = .ok (.aload_n 0, 1) := dk_42 (dk_at dksX7_round_9 7 rfl rfl)
theorem dX7_round_220 : decode cX7_round 220 = .ok (.getfield 29, 3) := dk_180 0 29 (dk_at dksX7_round_9 8 rfl rfl)
theorem dX7_round_223 : decode cX7_round 223 = .ok (.iconst 0, 1) := dk_3 (dk_at dksX7_round_9 11 rfl rfl)
theorem dX7_round_224 : decode cX7_round 224 = .ok (.iaload, 1) := dk_46 (dk_at dksX7_round_9 12 rfl rfl)
theorem dX7_round_225 : decode cX7_round 225 = .ok (.if_icmp .ge 52, 3) := dk_162 0 52 (dk_at dksX7_round_9 13 rfl rfl)
theorem dX7_round_228 : decode cX7_round 228 = .ok (.iload 8, 2) := dk_21 8 (dk_at dksX7_round_9 16 rfl rfl)
theorem dX7_round_230 : decode cX7_round 230 = .ok (.iload 9, 2) := dk_21 9 (dk_at dksX7_round_9 18 rfl rfl)
theorem dX7_round_232 : decode cX7_round 232 = .ok (.invokestatic 424, 3) := dk_184 1 168 (dk_at dksX7_round_9 20 rfl rfl)
theorem dX7_round_235 : decode cX7_round 235 = .ok (.ifCond .eq 36, 3) := dk_153 0 36 (dk_at dksX7_round_10 0 rfl rfl)
theorem dX7_round_238 : decode cX7_round 238 = .ok (.iload 7, 2) := dk_21 7 (dk_at dksX7_round_10 3 rfl rfl)
theorem dX7_round_240 : decode cX7_round 240 = .ok (.aload_n 0, 1) := dk_42 (dk_at dksX7_round_10 5 rfl rfl)
theorem dX7_round_241 : decode cX7_round 241 = .ok (.getfield 108, 3) := dk_180 0 108 (dk_at dksX7_round_10 6 rfl rfl)
theorem dX7_round_244 : decode cX7_round 244 = .ok (.iload 8, 2) := dk_21 8 (dk_at dksX7_round_10 9 rfl rfl)
theorem dX7_round_246 : decode cX7_round 246 = .ok (.iconst 3, 1) := dk_6 (dk_at dksX7_round_10 11 rfl rfl)
theorem dX7_round_247 : decode cX7_round 247 = .ok (.ishl, 1) := dk_120 (dk_at dksX7_round_10 12 rfl rfl)
theorem dX7_round_248 : decode cX7_round 248 = .ok (.iload 9, 2) := dk_21 9 (dk_at dksX7_round_10 13 rfl rfl)
theorem dX7_round_250 : decode cX7_round 250 = .ok (.iadd, 1) := dk_96 (dk_at dksX7_round_10 15 rfl rfl)
theorem dX7_round_251 : decode cX7_round 251 = .ok (.iaload, 1) := dk_46 (dk_at dksX7_round_10 16 rfl rfl)
theorem dX7_round_252 : decode cX7_round 252 = .ok (.aload_n 0, 1) := dk_42 (dk_at dksX7_round_10 17 rfl rfl)
theorem dX7_round_253 : decode cX7_round 253 = .ok (.getfield 111, 3) := dk_180 0 111 (dk_at dksX7_round_10 18 rfl rfl)
theorem dX7_round_256 : decode cX7_round 256 = .ok (.bipush 8, 2) := dk_16 8 (dk_at dksX7_round_10 21 rfl rfl)
theorem dX7_round_258 : decode cX7_round 258 = .ok (.iload 9, 2) := dk_21 9 (dk_at dksX7_round_11 0 rfl rfl)
theorem dX7_round_260 : decode cX7_round 260 = .ok (.imul, 1) := dk_104 (dk_at dksX7_round_11 2 rfl rfl)
theorem dX7_round_261 : decode cX7_round 261 = .ok (.iload 6, 2) := dk_21 6 (dk_at dksX7_round_11 3 rfl rfl)
theorem dX7_round_263 : decode cX7_round 263 = .ok (.iadd, 1) := dk_96 (dk_at dksX7_round_11 5 rfl rfl)
theorem dX7_round_264 : decode cX7_round 264 = .ok (.iaload, 1) := dk_46 (dk_at dksX7_round_11 6 rfl rfl)
theorem dX7_round_265 : decode cX7_round 265 = .ok (.iadd, 1) := dk_96 (dk_at dksX7_round_11 7 rfl rfl)
theorem dX7_round_266 : decode cX7_round 266 = .ok (.invokestatic 187, 3) := dk_184 0 187 (dk_at dksX7_round_11 8 rfl rfl)
theorem dX7_round_269 : decode cX7_round 269 = .ok (.istore 7, 2) := dk_54 7 (dk_at dksX7_round_11 11 rfl rfl)
theorem dX7_round_271 : decode cX7_round 271 = .ok (.iinc 9 1, 3) := dk_132 9 1 (dk_at dksX7_round_11 13 rfl rfl)
theorem dX7_round_274 : decode cX7_round 274 = .ok (.goto (-57), 3) := dk_167 255 199 (dk_at dksX7_round_11 16 rfl rfl)
theorem dX7_round_277 : decode cX7_round 277 = .ok (.aload_n 0, 1) := dk_42 (dk_at dksX7_round_11 19 rfl rfl)
theorem dX7_round_278 : decode cX7_round 278 = .ok (.getfield 108, 3) := dk_180 0 108 (dk_at dksX7_round_11 20 rfl rfl)
theorem dX7_round_281 : decode cX7_round 281 = .ok (.iload 5, 2) := dk_21 5 (dk_at dksX7_round_12 0 rfl rfl)
theorem dX7_round_283 : decode cX7_round 283 = .ok (.iconst 3, 1) := dk_6 (dk_at dksX7_round_12 2 rfl rfl)
theorem dX7_round_284 : decode cX7_round 284 = .ok (.ishl, 1) := dk_120 (dk_at dksX7_round_12 3 rfl rfl)
theorem dX7_round_285 : decode cX7_round 285 = .ok (.iload 6, 2) := dk_21 6 (dk_at dksX7_round_12 4 rfl rfl)
theorem dX7_round_287 : decode cX7_round 287 = .ok (.iadd, 1) := dk_96 (dk_at dksX7_round_12 6 rfl rfl)
theorem dX7_round_288 : decode cX7_round 288 = .ok (.ldc 186, 2) := dk_18 186 (dk_at dksX7_round_12 7 rfl rfl)
theorem dX7_round_290 : decode cX7_round 290 = .ok (.iload 7, 2) := dk_21 7 (dk_at dksX7_round_12 9 rfl rfl)
theorem dX7_round_292 : decode cX7_round 292 = .ok (.invokestatic 187, 3) := dk_184 0 187 (dk_at dksX7_round_12 11 rfl rfl)
theorem dX7_round_295 : decode cX7_round 295 = .ok (.iastore, 1) := dk_79 (dk_at dksX7_round_12 14 rfl rfl)
theorem dX7_round_296 : decode cX7_round 296 = .ok (.iload 5, 2) := dk_21 5 (dk_at dksX7_round_12 15 rfl rfl)
theorem dX7_round_298 : decode cX7_round 298 = .ok (.iload_n 2, 1) := dk_28 (dk_at dksX7_round_12 17 rfl rfl)
theorem dX7_round_299 : decode cX7_round 299 = .ok (.if_icmp .ne 25, 3) := dk_160 0 25 (dk_at dksX7_round_12 18 rfl rfl)
theorem dX7_round_302 : decode cX7_round 302 = .ok (.iload 4, 2) := dk_21 4 (dk_at dksX7_round_12 21 rfl rfl)
theorem dX7_round_304 : decode cX7_round 304 = .ok (.iload 7, 2) := dk_21 7 (dk_at dksX7_round_13 0 rfl rfl)
theorem dX7_round_306 : decode cX7_round 306 = .ok (.aload_n 0, 1) := dk_42 (dk_at dksX7_round_13 2 rfl rfl)
theorem dX7_round_307 : decode cX7_round 307 = .ok (.getfield 111, 3) := dk_180 0 111 (dk_at dksX7_round_13 3 rfl rfl)
theorem dX7_round_310 : decode cX7_round 310 = .ok (.bipush 8, 2) := dk_16 8 (dk_at dksX7_round_13 6 rfl rfl)
theorem dX7_round_312 : decode cX7_round 312 = .ok (.iload 6, 2) := dk_21 6 (dk_at dksX7_round_13 8 rfl rfl)
theorem dX7_round_314 : decode cX7_round 314 = .ok (.imul, 1) := dk_104 (dk_at dksX7_round_13 10 rfl rfl)
theorem dX7_round_315 : decode cX7_round 315 = .ok (.iload_n 3, 1) := dk_29 (dk_at dksX7_round_13 11 rfl rfl)
theorem dX7_round_316 : decode cX7_round 316 = .ok (.iadd, 1) := dk_96 (dk_at dksX7_round_13 12 rfl rfl)
theorem dX7_round_317 : decode cX7_round 317 = .ok (.iaload, 1) := dk_46 (dk_at dksX7_round_13 13 rfl rfl)
theorem dX7_round_318 : decode cX7_round 318 = .ok (.iadd, 1) := dk_96 (dk_at dksX7_round_13 14 rfl rfl)
theorem dX7_round_319 : decode cX7_round 319 = .ok (.invokestatic 187, 3) := dk_184 0 187 (dk_at dksX7_round_13 15 rfl rfl)
theorem dX7_round_322 : decode cX7_round 322 = .ok (.istore 4, 2) := dk_54 4 (dk_at dksX7_round_13 18 rfl rfl)
theorem dX7_round_324 : decode cX7_round 324 = .ok (.iinc 6 1, 3) := dk_132 6 1 (dk_at dksX7_round_13 20 rfl rfl)
theorem dX7_round_327 : decode cX7_round 327 = .ok (.goto (-184), 3) := dk_167 255 72 (dk_at dksX7_round_14 0 rfl rfl)
theorem dX7_round_330 : decode cX7_round 330 = .ok (.iinc 5 1, 3) := dk_132 5 1 (dk_at dksX7_round_14 3 rfl rfl)
theorem dX7_round_333 : decode cX7_round 333 = .ok (.goto (-199), 3) := dk_167 255 57 (dk_at dksX7_round_14 6 rfl rfl)
theorem dX7_round_336 : decode cX7_round 336 = .ok (.iload 4, 2) := dk_21 4 (dk_at dksX7_round_14 9 rfl rfl)
theorem dX7_round_338 : decode cX7_round 338 = .ok (.ldc 186, 2) := dk_18 186 (dk_at dksX7_round_14 11 rfl rfl)
theorem dX7_round_340 : decode cX7_round 340 = .ok (.if_icmp .lt 7, 3) := dk_161 0 7 (dk_at dksX7_round_14 13 rfl rfl)
theorem dX7_round_343 : decode cX7_round 343 = .ok (.iconst (-1), 1) := dk_2 (dk_at dksX7_round_14 16 rfl rfl)
theorem dX7_round_344 : decode cX7_round 344 = .ok (.goto 5, 3) := dk_167 0 5 (dk_at dksX7_round_14 17 rfl rfl)
theorem dX7_round_347 : decode cX7_round 347 = .ok (.iload 4, 2) := dk_21 4 (dk_at dksX7_round_14 20 rfl rfl)
theorem dX7_round_349 : decode cX7_round 349 = .ok (.ireturn, 1) := dk_172 (dk_at dksX7_round_14 22 rfl rfl)
abbrev cX7_isFort : ByteArray := prog_18_method_8_code
def yX7_isFort : MethodName := ⟨RX7, "isFort", "(I)Z"⟩
def dkwX7_isFort_0 : List UInt8 := [27, 133, 9, 42, 180, 0, 29, 6, 46, 4, 100, 133, 184, 0, 153, 172]
abbrev dktX7_isFort_0 : List UInt8 := dkwX7_isFort_0 ++ []
theorem dksX7_isFort_0 : cX7_isFort.data.toList.drop 0 = dktX7_isFort_0 := by decide +kernel
theorem dX7_isFort_0 : decode cX7_isFort 0 = .ok (.iload_n 1, 1) := dk_27 (dk_at dksX7_isFort_0 0 rfl rfl)
theorem dX7_isFort_1 : decode cX7_isFort 1 = .ok (.i2l, 1) := dk_133 (dk_at dksX7_isFort_0 1 rfl rfl)
theorem dX7_isFort_2 : decode cX7_isFort 2 = .ok (.lconst 0, 1) := dk_9 (dk_at dksX7_isFort_0 2 rfl rfl)
theorem dX7_isFort_3 : decode cX7_isFort 3 = .ok (.aload_n 0, 1) := dk_42 (dk_at dksX7_isFort_0 3 rfl rfl)
theorem dX7_isFort_4 : decode cX7_isFort 4 = .ok (.getfield 29, 3) := dk_180 0 29 (dk_at dksX7_isFort_0 4 rfl rfl)
theorem dX7_isFort_7 : decode cX7_isFort 7 = .ok (.iconst 3, 1) := dk_6 (dk_at dksX7_isFort_0 7 rfl rfl)
theorem dX7_isFort_8 : decode cX7_isFort 8 = .ok (.iaload, 1) := dk_46 (dk_at dksX7_isFort_0 8 rfl rfl)
theorem dX7_isFort_9 : decode cX7_isFort 9 = .ok (.iconst 1, 1) := dk_4 (dk_at dksX7_isFort_0 9 rfl rfl)
theorem dX7_isFort_10 : decode cX7_isFort 10 = .ok (.isub, 1) := dk_100 (dk_at dksX7_isFort_0 10 rfl rfl)
theorem dX7_isFort_11 : decode cX7_isFort 11 = .ok (.i2l, 1) := dk_133 (dk_at dksX7_isFort_0 11 rfl rfl)
theorem dX7_isFort_12 : decode cX7_isFort 12 = .ok (.invokestatic 153, 3) := dk_184 0 153 (dk_at dksX7_isFort_0 12 rfl rfl)
theorem dX7_isFort_15 : decode cX7_isFort 15 = .ok (.ireturn, 1) := dk_172 (dk_at dksX7_isFort_0 15 rfl rfl)
abbrev cX7_isOf : ByteArray := prog_18_method_5_code
def yX7_isOf : MethodName := ⟨RX7, "isOf", "(II)Z"⟩
def dkwX7_isOf_0 : List UInt8 := [26, 27, 122, 4, 126, 4, 160, 0, 7, 4, 167, 0, 4, 3, 172]
abbrev dktX7_isOf_0 : List UInt8 := dkwX7_isOf_0 ++ []
theorem dksX7_isOf_0 : cX7_isOf.data.toList.drop 0 = dktX7_isOf_0 := by decide +kernel
theorem dX7_isOf_0 : decode cX7_isOf 0 = .ok (.iload_n 0, 1) := dk_26 (dk_at dksX7_isOf_0 0 rfl rfl)
theorem dX7_isOf_1 : decode cX7_isOf 1 = .ok (.iload_n 1, 1) := dk_27 (dk_at dksX7_isOf_0 1 rfl rfl)
theorem dX7_isOf_2 : decode cX7_isOf 2 = .ok (.ishr, 1) := dk_122 (dk_at dksX7_isOf_0 2 rfl rfl)
theorem dX7_isOf_3 : decode cX7_isOf 3 = .ok (.iconst 1, 1) := dk_4 (dk_at dksX7_isOf_0 3 rfl rfl)
theorem dX7_isOf_4 : decode cX7_isOf 4 = .ok (.iand, 1) := dk_126 (dk_at dksX7_isOf_0 4 rfl rfl)
theorem dX7_isOf_5 : decode cX7_isOf 5 = .ok (.iconst 1, 1) := dk_4 (dk_at dksX7_isOf_0 5 rfl rfl)
theorem dX7_isOf_6 : decode cX7_isOf 6 = .ok (.if_icmp .ne 7, 3) := dk_160 0 7 (dk_at dksX7_isOf_0 6 rfl rfl)
theorem dX7_isOf_9 : decode cX7_isOf 9 = .ok (.iconst 1, 1) := dk_4 (dk_at dksX7_isOf_0 9 rfl rfl)
theorem dX7_isOf_10 : decode cX7_isOf 10 = .ok (.goto 4, 3) := dk_167 0 4 (dk_at dksX7_isOf_0 10 rfl rfl)
theorem dX7_isOf_13 : decode cX7_isOf 13 = .ok (.iconst 0, 1) := dk_3 (dk_at dksX7_isOf_0 13 rfl rfl)
theorem dX7_isOf_14 : decode cX7_isOf 14 = .ok (.ireturn, 1) := dk_172 (dk_at dksX7_isOf_0 14 rfl rfl)
abbrev cX7_first : ByteArray := prog_18_method_84_code
def yX7_first : MethodName := ⟨RX7, "first", "(I)I"⟩
def dkwX7_first_3 : List UInt8 := [62, 132, 4, 1, 167, 255, 208, 28, 172]
abbrev dktX7_first_3 : List UInt8 := dkwX7_first_3 ++ []
def dkwX7_first_2 : List UInt8 := [180, 0, 80, 27, 46, 182, 1, 162, 54, 5, 21, 5, 29, 161, 0, 6, 167, 0, 9, 21, 4, 61, 21, 5]
abbrev dktX7_first_2 : List UInt8 := dkwX7_first_2 ++ dktX7_first_3
def dkwX7_first_1 : List UInt8 := [3, 54, 4, 21, 4, 42, 180, 0, 29, 6, 46, 162, 0, 43, 42, 42, 180, 0, 56, 21, 4, 46, 42]
abbrev dktX7_first_1 : List UInt8 := dkwX7_first_1 ++ dktX7_first_2
def dkwX7_first_0 : List UInt8 := [42, 3, 181, 0, 150, 42, 27, 182, 1, 126, 154, 0, 9, 42, 4, 182, 1, 47, 172, 2, 61, 18, 186, 62]
abbrev dktX7_first_0 : List UInt8 := dkwX7_first_0 ++ dktX7_first_1
theorem dksX7_first_0 : cX7_first.data.toList.drop 0 = dktX7_first_0 := by decide +kernel
theorem dksX7_first_1 : cX7_first.data.toList.drop 24 = dktX7_first_1 := dk_seg dksX7_first_0 24 rfl rfl
theorem dksX7_first_2 : cX7_first.data.toList.drop 47 = dktX7_first_2 := dk_seg dksX7_first_1 23 rfl rfl
theorem dksX7_first_3 : cX7_first.data.toList.drop 71 = dktX7_first_3 := dk_seg dksX7_first_2 24 rfl rfl
theorem dX7_first_0 : decode cX7_first 0 = .ok (.aload_n 0, 1) := dk_42 (dk_at dksX7_first_0 0 rfl rfl)
theorem dX7_first_1 : decode cX7_first 1 = .ok (.iconst 0, 1) := dk_3 (dk_at dksX7_first_0 1 rfl rfl)
theorem dX7_first_2 : decode cX7_first 2 = .ok (.putfield 150, 3) := dk_181 0 150 (dk_at dksX7_first_0 2 rfl rfl)
theorem dX7_first_5 : decode cX7_first 5 = .ok (.aload_n 0, 1) := dk_42 (dk_at dksX7_first_0 5 rfl rfl)
theorem dX7_first_6 : decode cX7_first 6 = .ok (.iload_n 1, 1) := dk_27 (dk_at dksX7_first_0 6 rfl rfl)
theorem dX7_first_7 : decode cX7_first 7 = .ok (.invokevirtual 382, 3) := dk_182 1 126 (dk_at dksX7_first_0 7 rfl rfl)
theorem dX7_first_10 : decode cX7_first 10 = .ok (.ifCond .ne 9, 3) := dk_154 0 9 (dk_at dksX7_first_0 10 rfl rfl)
theorem dX7_first_13 : decode cX7_first 13 = .ok (.aload_n 0, 1) := dk_42 (dk_at dksX7_first_0 13 rfl rfl)
theorem dX7_first_14 : decode cX7_first 14 = .ok (.iconst 1, 1) := dk_4 (dk_at dksX7_first_0 14 rfl rfl)
theorem dX7_first_15 : decode cX7_first 15 = .ok (.invokevirtual 303, 3) := dk_182 1 47 (dk_at dksX7_first_0 15 rfl rfl)
theorem dX7_first_18 : decode cX7_first 18 = .ok (.ireturn, 1) := dk_172 (dk_at dksX7_first_0 18 rfl rfl)
theorem dX7_first_19 : decode cX7_first 19 = .ok (.iconst (-1), 1) := dk_2 (dk_at dksX7_first_0 19 rfl rfl)
theorem dX7_first_20 : decode cX7_first 20 = .ok (.istore_n 2, 1) := dk_61 (dk_at dksX7_first_0 20 rfl rfl)
theorem dX7_first_21 : decode cX7_first 21 = .ok (.ldc 186, 2) := dk_18 186 (dk_at dksX7_first_0 21 rfl rfl)
theorem dX7_first_23 : decode cX7_first 23 = .ok (.istore_n 3, 1) := dk_62 (dk_at dksX7_first_0 23 rfl rfl)
theorem dX7_first_24 : decode cX7_first 24 = .ok (.iconst 0, 1) := dk_3 (dk_at dksX7_first_1 0 rfl rfl)
theorem dX7_first_25 : decode cX7_first 25 = .ok (.istore 4, 2) := dk_54 4 (dk_at dksX7_first_1 1 rfl rfl)
theorem dX7_first_27 : decode cX7_first 27 = .ok (.iload 4, 2) := dk_21 4 (dk_at dksX7_first_1 3 rfl rfl)
theorem dX7_first_29 : decode cX7_first 29 = .ok (.aload_n 0, 1) := dk_42 (dk_at dksX7_first_1 5 rfl rfl)
theorem dX7_first_30 : decode cX7_first 30 = .ok (.getfield 29, 3) := dk_180 0 29 (dk_at dksX7_first_1 6 rfl rfl)
theorem dX7_first_33 : decode cX7_first 33 = .ok (.iconst 3, 1) := dk_6 (dk_at dksX7_first_1 9 rfl rfl)
theorem dX7_first_34 : decode cX7_first 34 = .ok (.iaload, 1) := dk_46 (dk_at dksX7_first_1 10 rfl rfl)
theorem dX7_first_35 : decode cX7_first 35 = .ok (.if_icmp .ge 43, 3) := dk_162 0 43 (dk_at dksX7_first_1 11 rfl rfl)
theorem dX7_first_38 : decode cX7_first 38 = .ok (.aload_n 0, 1) := dk_42 (dk_at dksX7_first_1 14 rfl rfl)
theorem dX7_first_39 : decode cX7_first 39 = .ok (.aload_n 0, 1) := dk_42 (dk_at dksX7_first_1 15 rfl rfl)
theorem dX7_first_40 : decode cX7_first 40 = .ok (.getfield 56, 3) := dk_180 0 56 (dk_at dksX7_first_1 16 rfl rfl)
theorem dX7_first_43 : decode cX7_first 43 = .ok (.iload 4, 2) := dk_21 4 (dk_at dksX7_first_1 19 rfl rfl)
theorem dX7_first_45 : decode cX7_first 45 = .ok (.iaload, 1) := dk_46 (dk_at dksX7_first_1 21 rfl rfl)
theorem dX7_first_46 : decode cX7_first 46 = .ok (.aload_n 0, 1) := dk_42 (dk_at dksX7_first_1 22 rfl rfl)
theorem dX7_first_47 : decode cX7_first 47 = .ok (.getfield 80, 3) := dk_180 0 80 (dk_at dksX7_first_2 0 rfl rfl)
theorem dX7_first_50 : decode cX7_first 50 = .ok (.iload_n 1, 1) := dk_27 (dk_at dksX7_first_2 3 rfl rfl)
theorem dX7_first_51 : decode cX7_first 51 = .ok (.iaload, 1) := dk_46 (dk_at dksX7_first_2 4 rfl rfl)
theorem dX7_first_52 : decode cX7_first 52 = .ok (.invokevirtual 418, 3) := dk_182 1 162 (dk_at dksX7_first_2 5 rfl rfl)
theorem dX7_first_55 : decode cX7_first 55 = .ok (.istore 5, 2) := dk_54 5 (dk_at dksX7_first_2 8 rfl rfl)
theorem dX7_first_57 : decode cX7_first 57 = .ok (.iload 5, 2) := dk_21 5 (dk_at dksX7_first_2 10 rfl rfl)
theorem dX7_first_59 : decode cX7_first 59 = .ok (.iload_n 3, 1) := dk_29 (dk_at dksX7_first_2 12 rfl rfl)
theorem dX7_first_60 : decode cX7_first 60 = .ok (.if_icmp .lt 6, 3) := dk_161 0 6 (dk_at dksX7_first_2 13 rfl rfl)
theorem dX7_first_63 : decode cX7_first 63 = .ok (.goto 9, 3) := dk_167 0 9 (dk_at dksX7_first_2 16 rfl rfl)
theorem dX7_first_66 : decode cX7_first 66 = .ok (.iload 4, 2) := dk_21 4 (dk_at dksX7_first_2 19 rfl rfl)
theorem dX7_first_68 : decode cX7_first 68 = .ok (.istore_n 2, 1) := dk_61 (dk_at dksX7_first_2 21 rfl rfl)
theorem dX7_first_69 : decode cX7_first 69 = .ok (.iload 5, 2) := dk_21 5 (dk_at dksX7_first_2 22 rfl rfl)
theorem dX7_first_71 : decode cX7_first 71 = .ok (.istore_n 3, 1) := dk_62 (dk_at dksX7_first_3 0 rfl rfl)
theorem dX7_first_72 : decode cX7_first 72 = .ok (.iinc 4 1, 3) := dk_132 4 1 (dk_at dksX7_first_3 1 rfl rfl)
theorem dX7_first_75 : decode cX7_first 75 = .ok (.goto (-48), 3) := dk_167 255 208 (dk_at dksX7_first_3 4 rfl rfl)
theorem dX7_first_78 : decode cX7_first 78 = .ok (.iload_n 2, 1) := dk_28 (dk_at dksX7_first_3 7 rfl rfl)
theorem dX7_first_79 : decode cX7_first 79 = .ok (.ireturn, 1) := dk_172 (dk_at dksX7_first_3 8 rfl rfl)
abbrev cX7_meeting : ByteArray := prog_18_method_85_code
def yX7_meeting : MethodName := ⟨RX7, "meeting", "(III)I"⟩
def dkwX7_meeting_5 : List UInt8 := [160, 0, 8, 21, 4, 167, 0, 5, 21, 5, 172]
abbrev dktX7_meeting_5 : List UInt8 := dkwX7_meeting_5 ++ []
def dkwX7_meeting_4 : List UInt8 := [167, 0, 11, 21, 6, 54, 4, 21, 7, 54, 5, 132, 6, 1, 167, 255, 195, 29, 153, 0, 9, 21, 4, 2]
abbrev dktX7_meeting_4 : List UInt8 := dkwX7_meeting_4 ++ dktX7_meeting_5
def dkwX7_meeting_3 : List UInt8 := [42, 180, 0, 56, 28, 46, 21, 6, 182, 1, 162, 184, 1, 93, 54, 7, 21, 7, 21, 5, 161, 0, 6]
abbrev dktX7_meeting_3 : List UInt8 := dkwX7_meeting_3 ++ dktX7_meeting_4
def dkwX7_meeting_2 : List UInt8 := [21, 6, 42, 180, 0, 29, 3, 46, 162, 0, 56, 42, 42, 180, 0, 56, 27, 46, 21, 6, 182, 1, 162, 42]
abbrev dktX7_meeting_2 : List UInt8 := dkwX7_meeting_2 ++ dktX7_meeting_3
def dkwX7_meeting_1 : List UInt8 := [155, 0, 8, 29, 4, 164, 0, 9, 42, 4, 182, 1, 47, 172, 2, 54, 4, 18, 186, 54, 5, 3, 54, 6]
abbrev dktX7_meeting_1 : List UInt8 := dkwX7_meeting_1 ++ dktX7_meeting_2
def dkwX7_meeting_0 : List UInt8 := [42, 3, 181, 0, 150, 42, 27, 182, 1, 165, 153, 0, 20, 42, 28, 182, 1, 165, 153, 0, 12, 29]
abbrev dktX7_meeting_0 : List UInt8 := dkwX7_meeting_0 ++ dktX7_meeting_1
theorem dksX7_meeting_0 : cX7_meeting.data.toList.drop 0 = dktX7_meeting_0 := by decide +kernel
theorem dksX7_meeting_1 : cX7_meeting.data.toList.drop 22 = dktX7_meeting_1 := dk_seg dksX7_meeting_0 22 rfl rfl
theorem dksX7_meeting_2 : cX7_meeting.data.toList.drop 46 = dktX7_meeting_2 := dk_seg dksX7_meeting_1 24 rfl rfl
theorem dksX7_meeting_3 : cX7_meeting.data.toList.drop 70 = dktX7_meeting_3 := dk_seg dksX7_meeting_2 24 rfl rfl
theorem dksX7_meeting_4 : cX7_meeting.data.toList.drop 93 = dktX7_meeting_4 := dk_seg dksX7_meeting_3 23 rfl rfl
theorem dksX7_meeting_5 : cX7_meeting.data.toList.drop 117 = dktX7_meeting_5 := dk_seg dksX7_meeting_4 24 rfl rfl
theorem dX7_meeting_0 : decode cX7_meeting 0 = .ok (.aload_n 0, 1) := dk_42 (dk_at dksX7_meeting_0 0 rfl rfl)
theorem dX7_meeting_1 : decode cX7_meeting 1 = .ok (.iconst 0, 1) := dk_3 (dk_at dksX7_meeting_0 1 rfl rfl)
theorem dX7_meeting_2 : decode cX7_meeting 2 = .ok (.putfield 150, 3) := dk_181 0 150 (dk_at dksX7_meeting_0 2 rfl rfl)
theorem dX7_meeting_5 : decode cX7_meeting 5 = .ok (.aload_n 0, 1) := dk_42 (dk_at dksX7_meeting_0 5 rfl rfl)
theorem dX7_meeting_6 : decode cX7_meeting 6 = .ok (.iload_n 1, 1) := dk_27 (dk_at dksX7_meeting_0 6 rfl rfl)
theorem dX7_meeting_7 : decode cX7_meeting 7 = .ok (.invokevirtual 421, 3) := dk_182 1 165 (dk_at dksX7_meeting_0 7 rfl rfl)
theorem dX7_meeting_10 : decode cX7_meeting 10 = .ok (.ifCond .eq 20, 3) := dk_153 0 20 (dk_at dksX7_meeting_0 10 rfl rfl)
theorem dX7_meeting_13 : decode cX7_meeting 13 = .ok (.aload_n 0, 1) := dk_42 (dk_at dksX7_meeting_0 13 rfl rfl)
theorem dX7_meeting_14 : decode cX7_meeting 14 = .ok (.iload_n 2, 1) := dk_28 (dk_at dksX7_meeting_0 14 rfl rfl)
theorem dX7_meeting_15 : decode cX7_meeting 15 = .ok (.invokevirtual 421, 3) := dk_182 1 165 (dk_at dksX7_meeting_0 15 rfl rfl)
theorem dX7_meeting_18 : decode cX7_meeting 18 = .ok (.ifCond .eq 12, 3) := dk_153 0 12 (dk_at dksX7_meeting_0 18 rfl rfl)
theorem dX7_meeting_21 : decode cX7_meeting 21 = .ok (.iload_n 3, 1) := dk_29 (dk_at dksX7_meeting_0 21 rfl rfl)
theorem dX7_meeting_22 : decode cX7_meeting 22 = .ok (.ifCond .lt 8, 3) := dk_155 0 8 (dk_at dksX7_meeting_1 0 rfl rfl)
theorem dX7_meeting_25 : decode cX7_meeting 25 = .ok (.iload_n 3, 1) := dk_29 (dk_at dksX7_meeting_1 3 rfl rfl)
theorem dX7_meeting_26 : decode cX7_meeting 26 = .ok (.iconst 1, 1) := dk_4 (dk_at dksX7_meeting_1 4 rfl rfl)
theorem dX7_meeting_27 : decode cX7_meeting 27 = .ok (.if_icmp .le 9, 3) := dk_164 0 9 (dk_at dksX7_meeting_1 5 rfl rfl)
theorem dX7_meeting_30 : decode cX7_meeting 30 = .ok (.aload_n 0, 1) := dk_42 (dk_at dksX7_meeting_1 8 rfl rfl)
theorem dX7_meeting_31 : decode cX7_meeting 31 = .ok (.iconst 1, 1) := dk_4 (dk_at dksX7_meeting_1 9 rfl rfl)
theorem dX7_meeting_32 : decode cX7_meeting 32 = .ok (.invokevirtual 303, 3) := dk_182 1 47 (dk_at dksX7_meeting_1 10 rfl rfl)
theorem dX7_meeting_35 : decode cX7_meeting 35 = .ok (.ireturn, 1) := dk_172 (dk_at dksX7_meeting_1 13 rfl rfl)
theorem dX7_meeting_36 : decode cX7_meeting 36 = .ok (.iconst (-1), 1) := dk_2 (dk_at dksX7_meeting_1 14 rfl rfl)
theorem dX7_meeting_37 : decode cX7_meeting 37 = .ok (.istore 4, 2) := dk_54 4 (dk_at dksX7_meeting_1 15 rfl rfl)
theorem dX7_meeting_39 : decode cX7_meeting 39 = .ok (.ldc 186, 2) := dk_18 186 (dk_at dksX7_meeting_1 17 rfl rfl)
theorem dX7_meeting_41 : decode cX7_meeting 41 = .ok (.istore 5, 2) := dk_54 5 (dk_at dksX7_meeting_1 19 rfl rfl)
theorem dX7_meeting_43 : decode cX7_meeting 43 = .ok (.iconst 0, 1) := dk_3 (dk_at dksX7_meeting_1 21 rfl rfl)
theorem dX7_meeting_44 : decode cX7_meeting 44 = .ok (.istore 6, 2) := dk_54 6 (dk_at dksX7_meeting_1 22 rfl rfl)
theorem dX7_meeting_46 : decode cX7_meeting 46 = .ok (.iload 6, 2) := dk_21 6 (dk_at dksX7_meeting_2 0 rfl rfl)
theorem dX7_meeting_48 : decode cX7_meeting 48 = .ok (.aload_n 0, 1) := dk_42 (dk_at dksX7_meeting_2 2 rfl rfl)
theorem dX7_meeting_49 : decode cX7_meeting 49 = .ok (.getfield 29, 3) := dk_180 0 29 (dk_at dksX7_meeting_2 3 rfl rfl)
theorem dX7_meeting_52 : decode cX7_meeting 52 = .ok (.iconst 0, 1) := dk_3 (dk_at dksX7_meeting_2 6 rfl rfl)
theorem dX7_meeting_53 : decode cX7_meeting 53 = .ok (.iaload, 1) := dk_46 (dk_at dksX7_meeting_2 7 rfl rfl)
theorem dX7_meeting_54 : decode cX7_meeting 54 = .ok (.if_icmp .ge 56, 3) := dk_162 0 56 (dk_at dksX7_meeting_2 8 rfl rfl)
theorem dX7_meeting_57 : decode cX7_meeting 57 = .ok (.aload_n 0, 1) := dk_42 (dk_at dksX7_meeting_2 11 rfl rfl)
theorem dX7_meeting_58 : decode cX7_meeting 58 = .ok (.aload_n 0, 1) := dk_42 (dk_at dksX7_meeting_2 12 rfl rfl)
theorem dX7_meeting_59 : decode cX7_meeting 59 = .ok (.getfield 56, 3) := dk_180 0 56 (dk_at dksX7_meeting_2 13 rfl rfl)
theorem dX7_meeting_62 : decode cX7_meeting 62 = .ok (.iload_n 1, 1) := dk_27 (dk_at dksX7_meeting_2 16 rfl rfl)
theorem dX7_meeting_63 : decode cX7_meeting 63 = .ok (.iaload, 1) := dk_46 (dk_at dksX7_meeting_2 17 rfl rfl)
theorem dX7_meeting_64 : decode cX7_meeting 64 = .ok (.iload 6, 2) := dk_21 6 (dk_at dksX7_meeting_2 18 rfl rfl)
theorem dX7_meeting_66 : decode cX7_meeting 66 = .ok (.invokevirtual 418, 3) := dk_182 1 162 (dk_at dksX7_meeting_2 20 rfl rfl)
theorem dX7_meeting_69 : decode cX7_meeting 69 = .ok (.aload_n 0, 1) := dk_42 (dk_at dksX7_meeting_2 23 rfl rfl)
theorem dX7_meeting_70 : decode cX7_meeting 70 = .ok (.aload_n 0, 1) := dk_42 (dk_at dksX7_meeting_3 0 rfl rfl)
theorem dX7_meeting_71 : decode cX7_meeting 71 = .ok (.getfield 56, 3) := dk_180 0 56 (dk_at dksX7_meeting_3 1 rfl rfl)
theorem dX7_meeting_74 : decode cX7_meeting 74 = .ok (.iload_n 2, 1) := dk_28 (dk_at dksX7_meeting_3 4 rfl rfl)
theorem dX7_meeting_75 : decode cX7_meeting 75 = .ok (.iaload, 1) := dk_46 (dk_at dksX7_meeting_3 5 rfl rfl)
theorem dX7_meeting_76 : decode cX7_meeting 76 = .ok (.iload 6, 2) := dk_21 6 (dk_at dksX7_meeting_3 6 rfl rfl)
theorem dX7_meeting_78 : decode cX7_meeting 78 = .ok (.invokevirtual 418, 3) := dk_182 1 162 (dk_at dksX7_meeting_3 8 rfl rfl)
theorem dX7_meeting_81 : decode cX7_meeting 81 = .ok (.invokestatic 349, 3) := dk_184 1 93 (dk_at dksX7_meeting_3 11 rfl rfl)
theorem dX7_meeting_84 : decode cX7_meeting 84 = .ok (.istore 7, 2) := dk_54 7 (dk_at dksX7_meeting_3 14 rfl rfl)
theorem dX7_meeting_86 : decode cX7_meeting 86 = .ok (.iload 7, 2) := dk_21 7 (dk_at dksX7_meeting_3 16 rfl rfl)
theorem dX7_meeting_88 : decode cX7_meeting 88 = .ok (.iload 5, 2) := dk_21 5 (dk_at dksX7_meeting_3 18 rfl rfl)
theorem dX7_meeting_90 : decode cX7_meeting 90 = .ok (.if_icmp .lt 6, 3) := dk_161 0 6 (dk_at dksX7_meeting_3 20 rfl rfl)
theorem dX7_meeting_93 : decode cX7_meeting 93 = .ok (.goto 11, 3) := dk_167 0 11 (dk_at dksX7_meeting_4 0 rfl rfl)
theorem dX7_meeting_96 : decode cX7_meeting 96 = .ok (.iload 6, 2) := dk_21 6 (dk_at dksX7_meeting_4 3 rfl rfl)
theorem dX7_meeting_98 : decode cX7_meeting 98 = .ok (.istore 4, 2) := dk_54 4 (dk_at dksX7_meeting_4 5 rfl rfl)
theorem dX7_meeting_100 : decode cX7_meeting 100 = .ok (.iload 7, 2) := dk_21 7 (dk_at dksX7_meeting_4 7 rfl rfl)
theorem dX7_meeting_102 : decode cX7_meeting 102 = .ok (.istore 5, 2) := dk_54 5 (dk_at dksX7_meeting_4 9 rfl rfl)
theorem dX7_meeting_104 : decode cX7_meeting 104 = .ok (.iinc 6 1, 3) := dk_132 6 1 (dk_at dksX7_meeting_4 11 rfl rfl)
theorem dX7_meeting_107 : decode cX7_meeting 107 = .ok (.goto (-61), 3) := dk_167 255 195 (dk_at dksX7_meeting_4 14 rfl rfl)
theorem dX7_meeting_110 : decode cX7_meeting 110 = .ok (.iload_n 3, 1) := dk_29 (dk_at dksX7_meeting_4 17 rfl rfl)
theorem dX7_meeting_111 : decode cX7_meeting 111 = .ok (.ifCond .eq 9, 3) := dk_153 0 9 (dk_at dksX7_meeting_4 18 rfl rfl)
theorem dX7_meeting_114 : decode cX7_meeting 114 = .ok (.iload 4, 2) := dk_21 4 (dk_at dksX7_meeting_4 21 rfl rfl)
theorem dX7_meeting_116 : decode cX7_meeting 116 = .ok (.iconst (-1), 1) := dk_2 (dk_at dksX7_meeting_4 23 rfl rfl)
theorem dX7_meeting_117 : decode cX7_meeting 117 = .ok (.if_icmp .ne 8, 3) := dk_160 0 8 (dk_at dksX7_meeting_5 0 rfl rfl)
theorem dX7_meeting_120 : decode cX7_meeting 120 = .ok (.iload 4, 2) := dk_21 4 (dk_at dksX7_meeting_5 3 rfl rfl)
theorem dX7_meeting_122 : decode cX7_meeting 122 = .ok (.goto 5, 3) := dk_167 0 5 (dk_at dksX7_meeting_5 5 rfl rfl)
theorem dX7_meeting_125 : decode cX7_meeting 125 = .ok (.iload 5, 2) := dk_21 5 (dk_at dksX7_meeting_5 8 rfl rfl)
theorem dX7_meeting_127 : decode cX7_meeting 127 = .ok (.ireturn, 1) := dk_172 (dk_at dksX7_meeting_5 10 rfl rfl)
abbrev cX7_where : ByteArray := prog_18_method_87_code
def yX7_where : MethodName := ⟨RX7, "where", "(III)I"⟩
def dkwX7_where_5 : List UInt8 := [21, 4, 167, 0, 5, 21, 5, 172]
abbrev dktX7_where_5 : List UInt8 := dkwX7_where_5 ++ []
def dkwX7_where_4 : List UInt8 := [161, 0, 6, 167, 0, 11, 21, 6, 54, 4, 21, 7, 54, 5, 132, 6, 1, 167, 255, 208, 29, 154, 0, 8]
abbrev dktX7_where_4 : List UInt8 := dkwX7_where_4 ++ dktX7_where_5
def dkwX7_where_3 : List UInt8 := [46, 162, 0, 43, 42, 180, 0, 80, 27, 21, 6, 79, 42, 27, 28, 182, 1, 173, 54, 7, 21, 7, 21, 5]
abbrev dktX7_where_3 : List UInt8 := dkwX7_where_3 ++ dktX7_where_4
def dkwX7_where_2 : List UInt8 := [180, 0, 102, 3, 182, 1, 129, 2, 54, 4, 18, 186, 54, 5, 3, 54, 6, 21, 6, 42, 180, 0, 29, 3]
abbrev dktX7_where_2 : List UInt8 := dkwX7_where_2 ++ dktX7_where_3
def dkwX7_where_1 : List UInt8 := [182, 1, 47, 172, 28, 133, 10, 20, 1, 171, 184, 0, 153, 154, 0, 9, 42, 5, 182, 1, 47, 172, 42, 42]
abbrev dktX7_where_1 : List UInt8 := dkwX7_where_1 ++ dktX7_where_2
def dkwX7_where_0 : List UInt8 := [42, 3, 181, 0, 150, 42, 27, 182, 1, 126, 153, 0, 12, 29, 155, 0, 8, 29, 4, 164, 0, 9, 42, 4]
abbrev dktX7_where_0 : List UInt8 := dkwX7_where_0 ++ dktX7_where_1
theorem dksX7_where_0 : cX7_where.data.toList.drop 0 = dktX7_where_0 := by decide +kernel
theorem dksX7_where_1 : cX7_where.data.toList.drop 24 = dktX7_where_1 := dk_seg dksX7_where_0 24 rfl rfl
theorem dksX7_where_2 : cX7_where.data.toList.drop 48 = dktX7_where_2 := dk_seg dksX7_where_1 24 rfl rfl
theorem dksX7_where_3 : cX7_where.data.toList.drop 72 = dktX7_where_3 := dk_seg dksX7_where_2 24 rfl rfl
theorem dksX7_where_4 : cX7_where.data.toList.drop 96 = dktX7_where_4 := dk_seg dksX7_where_3 24 rfl rfl
theorem dksX7_where_5 : cX7_where.data.toList.drop 120 = dktX7_where_5 := dk_seg dksX7_where_4 24 rfl rfl
theorem dX7_where_0 : decode cX7_where 0 = .ok (.aload_n 0, 1) := dk_42 (dk_at dksX7_where_0 0 rfl rfl)
theorem dX7_where_1 : decode cX7_where 1 = .ok (.iconst 0, 1) := dk_3 (dk_at dksX7_where_0 1 rfl rfl)
theorem dX7_where_2 : decode cX7_where 2 = .ok (.putfield 150, 3) := dk_181 0 150 (dk_at dksX7_where_0 2 rfl rfl)
theorem dX7_where_5 : decode cX7_where 5 = .ok (.aload_n 0, 1) := dk_42 (dk_at dksX7_where_0 5 rfl rfl)
theorem dX7_where_6 : decode cX7_where 6 = .ok (.iload_n 1, 1) := dk_27 (dk_at dksX7_where_0 6 rfl rfl)
theorem dX7_where_7 : decode cX7_where 7 = .ok (.invokevirtual 382, 3) := dk_182 1 126 (dk_at dksX7_where_0 7 rfl rfl)
theorem dX7_where_10 : decode cX7_where 10 = .ok (.ifCond .eq 12, 3) := dk_153 0 12 (dk_at dksX7_where_0 10 rfl rfl)
theorem dX7_where_13 : decode cX7_where 13 = .ok (.iload_n 3, 1) := dk_29 (dk_at dksX7_where_0 13 rfl rfl)
theorem dX7_where_14 : decode cX7_where 14 = .ok (.ifCond .lt 8, 3) := dk_155 0 8 (dk_at dksX7_where_0 14 rfl rfl)
theorem dX7_where_17 : decode cX7_where 17 = .ok (.iload_n 3, 1) := dk_29 (dk_at dksX7_where_0 17 rfl rfl)
theorem dX7_where_18 : decode cX7_where 18 = .ok (.iconst 1, 1) := dk_4 (dk_at dksX7_where_0 18 rfl rfl)
theorem dX7_where_19 : decode cX7_where 19 = .ok (.if_icmp .le 9, 3) := dk_164 0 9 (dk_at dksX7_where_0 19 rfl rfl)
theorem dX7_where_22 : decode cX7_where 22 = .ok (.aload_n 0, 1) := dk_42 (dk_at dksX7_where_0 22 rfl rfl)
theorem dX7_where_23 : decode cX7_where 23 = .ok (.iconst 1, 1) := dk_4 (dk_at dksX7_where_0 23 rfl rfl)
theorem dX7_where_24 : decode cX7_where 24 = .ok (.invokevirtual 303, 3) := dk_182 1 47 (dk_at dksX7_where_1 0 rfl rfl)
theorem dX7_where_27 : decode cX7_where 27 = .ok (.ireturn, 1) := dk_172 (dk_at dksX7_where_1 3 rfl rfl)
theorem dX7_where_28 : decode cX7_where 28 = .ok (.iload_n 2, 1) := dk_28 (dk_at dksX7_where_1 4 rfl rfl)
theorem dX7_where_29 : decode cX7_where 29 = .ok (.i2l, 1) := dk_133 (dk_at dksX7_where_1 5 rfl rfl)
theorem dX7_where_30 : decode cX7_where 30 = .ok (.lconst 1, 1) := dk_10 (dk_at dksX7_where_1 6 rfl rfl)
theorem dX7_where_31 : decode cX7_where 31 = .ok (.ldc2_w 427, 3) := dk_20 1 171 (dk_at dksX7_where_1 7 rfl rfl)
theorem dX7_where_34 : decode cX7_where 34 = .ok (.invokestatic 153, 3) := dk_184 0 153 (dk_at dksX7_where_1 10 rfl rfl)
theorem dX7_where_37 : decode cX7_where 37 = .ok (.ifCond .ne 9, 3) := dk_154 0 9 (dk_at dksX7_where_1 13 rfl rfl)
theorem dX7_where_40 : decode cX7_where 40 = .ok (.aload_n 0, 1) := dk_42 (dk_at dksX7_where_1 16 rfl rfl)
theorem dX7_where_41 : decode cX7_where 41 = .ok (.iconst 2, 1) := dk_5 (dk_at dksX7_where_1 17 rfl rfl)
theorem dX7_where_42 : decode cX7_where 42 = .ok (.invokevirtual 303, 3) := dk_182 1 47 (dk_at dksX7_where_1 18 rfl rfl)
theorem dX7_where_45 : decode cX7_where 45 = .ok (.ireturn, 1) := dk_172 (dk_at dksX7_where_1 21 rfl rfl)
theorem dX7_where_46 : decode cX7_where 46 = .ok (.aload_n 0, 1) := dk_42 (dk_at dksX7_where_1 22 rfl rfl)
theorem dX7_where_47 : decode cX7_where 47 = .ok (.aload_n 0, 1) := dk_42 (dk_at dksX7_where_1 23 rfl rfl)
theorem dX7_where_48 : decode cX7_where 48 = .ok (.getfield 102, 3) := dk_180 0 102 (dk_at dksX7_where_2 0 rfl rfl)
theorem dX7_where_51 : decode cX7_where 51 = .ok (.iconst 0, 1) := dk_3 (dk_at dksX7_where_2 3 rfl rfl)
theorem dX7_where_52 : decode cX7_where 52 = .ok (.invokevirtual 385, 3) := dk_182 1 129 (dk_at dksX7_where_2 4 rfl rfl)
theorem dX7_where_55 : decode cX7_where 55 = .ok (.iconst (-1), 1) := dk_2 (dk_at dksX7_where_2 7 rfl rfl)
theorem dX7_where_56 : decode cX7_where 56 = .ok (.istore 4, 2) := dk_54 4 (dk_at dksX7_where_2 8 rfl rfl)
theorem dX7_where_58 : decode cX7_where 58 = .ok (.ldc 186, 2) := dk_18 186 (dk_at dksX7_where_2 10 rfl rfl)
theorem dX7_where_60 : decode cX7_where 60 = .ok (.istore 5, 2) := dk_54 5 (dk_at dksX7_where_2 12 rfl rfl)
theorem dX7_where_62 : decode cX7_where 62 = .ok (.iconst 0, 1) := dk_3 (dk_at dksX7_where_2 14 rfl rfl)
theorem dX7_where_63 : decode cX7_where 63 = .ok (.istore 6, 2) := dk_54 6 (dk_at dksX7_where_2 15 rfl rfl)
theorem dX7_where_65 : decode cX7_where 65 = .ok (.iload 6, 2) := dk_21 6 (dk_at dksX7_where_2 17 rfl rfl)
theorem dX7_where_67 : decode cX7_where 67 = .ok (.aload_n 0, 1) := dk_42 (dk_at dksX7_where_2 19 rfl rfl)
theorem dX7_where_68 : decode cX7_where 68 = .ok (.getfield 29, 3) := dk_180 0 29 (dk_at dksX7_where_2 20 rfl rfl)
theorem dX7_where_71 : decode cX7_where 71 = .ok (.iconst 0, 1) := dk_3 (dk_at dksX7_where_2 23 rfl rfl)
theorem dX7_where_72 : decode cX7_where 72 = .ok (.iaload, 1) := dk_46 (dk_at dksX7_where_3 0 rfl rfl)
theorem dX7_where_73 : decode cX7_where 73 = .ok (.if_icmp .ge 43, 3) := dk_162 0 43 (dk_at dksX7_where_3 1 rfl rfl)
theorem dX7_where_76 : decode cX7_where 76 = .ok (.aload_n 0, 1) := dk_42 (dk_at dksX7_where_3 4 rfl rfl)
theorem dX7_where_77 : decode cX7_where 77 = .ok (.getfield 80, 3) := dk_180 0 80 (dk_at dksX7_where_3 5 rfl rfl)
theorem dX7_where_80 : decode cX7_where 80 = .ok (.iload_n 1, 1) := dk_27 (dk_at dksX7_where_3 8 rfl rfl)
theorem dX7_where_81 : decode cX7_where 81 = .ok (.iload 6, 2) := dk_21 6 (dk_at dksX7_where_3 9 rfl rfl)
theorem dX7_where_83 : decode cX7_where 83 = .ok (.iastore, 1) := dk_79 (dk_at dksX7_where_3 11 rfl rfl)
theorem dX7_where_84 : decode cX7_where 84 = .ok (.aload_n 0, 1) := dk_42 (dk_at dksX7_where_3 12 rfl rfl)
theorem dX7_where_85 : decode cX7_where 85 = .ok (.iload_n 1, 1) := dk_27 (dk_at dksX7_where_3 13 rfl rfl)
theorem dX7_where_86 : decode cX7_where 86 = .ok (.iload_n 2, 1) := dk_28 (dk_at dksX7_where_3 14 rfl rfl)
theorem dX7_where_87 : decode cX7_where 87 = .ok (.invokevirtual 429, 3) := dk_182 1 173 (dk_at dksX7_where_3 15 rfl rfl)
theorem dX7_where_90 : decode cX7_where 90 = .ok (.istore 7, 2) := dk_54 7 (dk_at dksX7_where_3 18 rfl rfl)
theorem dX7_where_92 : decode cX7_where 92 = .ok (.iload 7, 2) := dk_21 7 (dk_at dksX7_where_3 20 rfl rfl)
theorem dX7_where_94 : decode cX7_where 94 = .ok (.iload 5, 2) := dk_21 5 (dk_at dksX7_where_3 22 rfl rfl)
theorem dX7_where_96 : decode cX7_where 96 = .ok (.if_icmp .lt 6, 3) := dk_161 0 6 (dk_at dksX7_where_4 0 rfl rfl)
theorem dX7_where_99 : decode cX7_where 99 = .ok (.goto 11, 3) := dk_167 0 11 (dk_at dksX7_where_4 3 rfl rfl)
theorem dX7_where_102 : decode cX7_where 102 = .ok (.iload 6, 2) := dk_21 6 (dk_at dksX7_where_4 6 rfl rfl)
theorem dX7_where_104 : decode cX7_where 104 = .ok (.istore 4, 2) := dk_54 4 (dk_at dksX7_where_4 8 rfl rfl)
theorem dX7_where_106 : decode cX7_where 106 = .ok (.iload 7, 2) := dk_21 7 (dk_at dksX7_where_4 10 rfl rfl)
theorem dX7_where_108 : decode cX7_where 108 = .ok (.istore 5, 2) := dk_54 5 (dk_at dksX7_where_4 12 rfl rfl)
theorem dX7_where_110 : decode cX7_where 110 = .ok (.iinc 6 1, 3) := dk_132 6 1 (dk_at dksX7_where_4 14 rfl rfl)
theorem dX7_where_113 : decode cX7_where 113 = .ok (.goto (-48), 3) := dk_167 255 208 (dk_at dksX7_where_4 17 rfl rfl)
theorem dX7_where_116 : decode cX7_where 116 = .ok (.iload_n 3, 1) := dk_29 (dk_at dksX7_where_4 20 rfl rfl)
theorem dX7_where_117 : decode cX7_where 117 = .ok (.ifCond .ne 8, 3) := dk_154 0 8 (dk_at dksX7_where_4 21 rfl rfl)
theorem dX7_where_120 : decode cX7_where 120 = .ok (.iload 4, 2) := dk_21 4 (dk_at dksX7_where_5 0 rfl rfl)
theorem dX7_where_122 : decode cX7_where 122 = .ok (.goto 5, 3) := dk_167 0 5 (dk_at dksX7_where_5 2 rfl rfl)
theorem dX7_where_125 : decode cX7_where 125 = .ok (.iload 5, 2) := dk_21 5 (dk_at dksX7_where_5 5 rfl rfl)
theorem dX7_where_127 : decode cX7_where 127 = .ok (.ireturn, 1) := dk_172 (dk_at dksX7_where_5 7 rfl rfl)
abbrev cX7_owesIn : ByteArray := prog_18_method_86_code
def yX7_owesIn : MethodName := ⟨RX7, "owesIn", "(II)I"⟩
def dkwX7_owesIn_0 : List UInt8 := [42, 28, 182, 1, 141, 42, 180, 0, 88, 27, 46, 62, 42, 42, 180, 0, 102, 3, 182, 1, 148, 29, 172]
abbrev dktX7_owesIn_0 : List UInt8 := dkwX7_owesIn_0 ++ []
theorem dksX7_owesIn_0 : cX7_owesIn.data.toList.drop 0 = dktX7_owesIn_0 := by decide +kernel
theorem dX7_owesIn_0 : decode cX7_owesIn 0 = .ok (.aload_n 0, 1) := dk_42 (dk_at dksX7_owesIn_0 0 rfl rfl)
theorem dX7_owesIn_1 : decode cX7_owesIn 1 = .ok (.iload_n 2, 1) := dk_28 (dk_at dksX7_owesIn_0 1 rfl rfl)
theorem dX7_owesIn_2 : decode cX7_owesIn 2 = .ok (.invokevirtual 397, 3) := dk_182 1 141 (dk_at dksX7_owesIn_0 2 rfl rfl)
theorem dX7_owesIn_5 : decode cX7_owesIn 5 = .ok (.aload_n 0, 1) := dk_42 (dk_at dksX7_owesIn_0 5 rfl rfl)
theorem dX7_owesIn_6 : decode cX7_owesIn 6 = .ok (.getfield 88, 3) := dk_180 0 88 (dk_at dksX7_owesIn_0 6 rfl rfl)
theorem dX7_owesIn_9 : decode cX7_owesIn 9 = .ok (.iload_n 1, 1) := dk_27 (dk_at dksX7_owesIn_0 9 rfl rfl)
theorem dX7_owesIn_10 : decode cX7_owesIn 10 = .ok (.iaload, 1) := dk_46 (dk_at dksX7_owesIn_0 10 rfl rfl)
theorem dX7_owesIn_11 : decode cX7_owesIn 11 = .ok (.istore_n 3, 1) := dk_62 (dk_at dksX7_owesIn_0 11 rfl rfl)
theorem dX7_owesIn_12 : decode cX7_owesIn 12 = .ok (.aload_n 0, 1) := dk_42 (dk_at dksX7_owesIn_0 12 rfl rfl)
theorem dX7_owesIn_13 : decode cX7_owesIn 13 = .ok (.aload_n 0, 1) := dk_42 (dk_at dksX7_owesIn_0 13 rfl rfl)
theorem dX7_owesIn_14 : decode cX7_owesIn 14 = .ok (.getfield 102, 3) := dk_180 0 102 (dk_at dksX7_owesIn_0 14 rfl rfl)
theorem dX7_owesIn_17 : decode cX7_owesIn 17 = .ok (.iconst 0, 1) := dk_3 (dk_at dksX7_owesIn_0 17 rfl rfl)
theorem dX7_owesIn_18 : decode cX7_owesIn 18 = .ok (.invokevirtual 404, 3) := dk_182 1 148 (dk_at dksX7_owesIn_0 18 rfl rfl)
theorem dX7_owesIn_21 : decode cX7_owesIn 21 = .ok (.iload_n 3, 1) := dk_29 (dk_at dksX7_owesIn_0 21 rfl rfl)
theorem dX7_owesIn_22 : decode cX7_owesIn 22 = .ok (.ireturn, 1) := dk_172 (dk_at dksX7_owesIn_0 22 rfl rfl)
abbrev cX7_counted : ByteArray := prog_18_method_88_code
def yX7_counted : MethodName := ⟨RX7, "counted", "(II)I"⟩
def dkwX7_counted_3 : List UInt8 := [172, 132, 3, 255, 167, 255, 231, 2, 172]
abbrev dktX7_counted_3 : List UInt8 := dkwX7_counted_3 ++ []
def dkwX7_counted_2 : List UInt8 := [16, 30, 62, 29, 155, 0, 27, 42, 180, 0, 83, 27, 29, 79, 42, 27, 28, 182, 1, 173, 154, 0, 5, 29]
abbrev dktX7_counted_2 : List UInt8 := dkwX7_counted_2 ++ dktX7_counted_3
def dkwX7_counted_1 : List UInt8 := [20, 1, 171, 184, 0, 153, 154, 0, 9, 42, 5, 182, 1, 47, 172, 42, 42, 180, 0, 102, 3, 182, 1, 129]
abbrev dktX7_counted_1 : List UInt8 := dkwX7_counted_1 ++ dktX7_counted_2
def dkwX7_counted_0 : List UInt8 := [42, 3, 181, 0, 150, 42, 27, 182, 1, 126, 154, 0, 9, 42, 4, 182, 1, 47, 172, 28, 133, 10]
abbrev dktX7_counted_0 : List UInt8 := dkwX7_counted_0 ++ dktX7_counted_1
theorem dksX7_counted_0 : cX7_counted.data.toList.drop 0 = dktX7_counted_0 := by decide +kernel
theorem dksX7_counted_1 : cX7_counted.data.toList.drop 22 = dktX7_counted_1 := dk_seg dksX7_counted_0 22 rfl rfl
theorem dksX7_counted_2 : cX7_counted.data.toList.drop 46 = dktX7_counted_2 := dk_seg dksX7_counted_1 24 rfl rfl
theorem dksX7_counted_3 : cX7_counted.data.toList.drop 70 = dktX7_counted_3 := dk_seg dksX7_counted_2 24 rfl rfl
theorem dX7_counted_0 : decode cX7_counted 0 = .ok (.aload_n 0, 1) := dk_42 (dk_at dksX7_counted_0 0 rfl rfl)
theorem dX7_counted_1 : decode cX7_counted 1 = .ok (.iconst 0, 1) := dk_3 (dk_at dksX7_counted_0 1 rfl rfl)
theorem dX7_counted_2 : decode cX7_counted 2 = .ok (.putfield 150, 3) := dk_181 0 150 (dk_at dksX7_counted_0 2 rfl rfl)
theorem dX7_counted_5 : decode cX7_counted 5 = .ok (.aload_n 0, 1) := dk_42 (dk_at dksX7_counted_0 5 rfl rfl)
theorem dX7_counted_6 : decode cX7_counted 6 = .ok (.iload_n 1, 1) := dk_27 (dk_at dksX7_counted_0 6 rfl rfl)
theorem dX7_counted_7 : decode cX7_counted 7 = .ok (.invokevirtual 382, 3) := dk_182 1 126 (dk_at dksX7_counted_0 7 rfl rfl)
theorem dX7_counted_10 : decode cX7_counted 10 = .ok (.ifCond .ne 9, 3) := dk_154 0 9 (dk_at dksX7_counted_0 10 rfl rfl)
theorem dX7_counted_13 : decode cX7_counted 13 = .ok (.aload_n 0, 1) := dk_42 (dk_at dksX7_counted_0 13 rfl rfl)
theorem dX7_counted_14 : decode cX7_counted 14 = .ok (.iconst 1, 1) := dk_4 (dk_at dksX7_counted_0 14 rfl rfl)
theorem dX7_counted_15 : decode cX7_counted 15 = .ok (.invokevirtual 303, 3) := dk_182 1 47 (dk_at dksX7_counted_0 15 rfl rfl)
theorem dX7_counted_18 : decode cX7_counted 18 = .ok (.ireturn, 1) := dk_172 (dk_at dksX7_counted_0 18 rfl rfl)
theorem dX7_counted_19 : decode cX7_counted 19 = .ok (.iload_n 2, 1) := dk_28 (dk_at dksX7_counted_0 19 rfl rfl)
theorem dX7_counted_20 : decode cX7_counted 20 = .ok (.i2l, 1) := dk_133 (dk_at dksX7_counted_0 20 rfl rfl)
theorem dX7_counted_21 : decode cX7_counted 21 = .ok (.lconst 1, 1) := dk_10 (dk_at dksX7_counted_0 21 rfl rfl)
theorem dX7_counted_22 : decode cX7_counted 22 = .ok (.ldc2_w 427, 3) := dk_20 1 171 (dk_at dksX7_counted_1 0 rfl rfl)
theorem dX7_counted_25 : decode cX7_counted 25 = .ok (.invokestatic 153, 3) := dk_184 0 153 (dk_at dksX7_counted_1 3 rfl rfl)
theorem dX7_counted_28 : decode cX7_counted 28 = .ok (.ifCond .ne 9, 3) := dk_154 0 9 (dk_at dksX7_counted_1 6 rfl rfl)
theorem dX7_counted_31 : decode cX7_counted 31 = .ok (.aload_n 0, 1) := dk_42 (dk_at dksX7_counted_1 9 rfl rfl)
theorem dX7_counted_32 : decode cX7_counted 32 = .ok (.iconst 2, 1) := dk_5 (dk_at dksX7_counted_1 10 rfl rfl)
theorem dX7_counted_33 : decode cX7_counted 33 = .ok (.invokevirtual 303, 3) := dk_182 1 47 (dk_at dksX7_counted_1 11 rfl rfl)
theorem dX7_counted_36 : decode cX7_counted 36 = .ok (.ireturn, 1) := dk_172 (dk_at dksX7_counted_1 14 rfl rfl)
theorem dX7_counted_37 : decode cX7_counted 37 = .ok (.aload_n 0, 1) := dk_42 (dk_at dksX7_counted_1 15 rfl rfl)
theorem dX7_counted_38 : decode cX7_counted 38 = .ok (.aload_n 0, 1) := dk_42 (dk_at dksX7_counted_1 16 rfl rfl)
theorem dX7_counted_39 : decode cX7_counted 39 = .ok (.getfield 102, 3) := dk_180 0 102 (dk_at dksX7_counted_1 17 rfl rfl)
theorem dX7_counted_42 : decode cX7_counted 42 = .ok (.iconst 0, 1) := dk_3 (dk_at dksX7_counted_1 20 rfl rfl)
theorem dX7_counted_43 : decode cX7_counted 43 = .ok (.invokevirtual 385, 3) := dk_182 1 129 (dk_at dksX7_counted_1 21 rfl rfl)
theorem dX7_counted_46 : decode cX7_counted 46 = .ok (.bipush 30, 2) := dk_16 30 (dk_at dksX7_counted_2 0 rfl rfl)
theorem dX7_counted_48 : decode cX7_counted 48 = .ok (.istore_n 3, 1) := dk_62 (dk_at dksX7_counted_2 2 rfl rfl)
theorem dX7_counted_49 : decode cX7_counted 49 = .ok (.iload_n 3, 1) := dk_29 (dk_at dksX7_counted_2 3 rfl rfl)
theorem dX7_counted_50 : decode cX7_counted 50 = .ok (.ifCond .lt 27, 3) := dk_155 0 27 (dk_at dksX7_counted_2 4 rfl rfl)
theorem dX7_counted_53 : decode cX7_counted 53 = .ok (.aload_n 0, 1) := dk_42 (dk_at dksX7_counted_2 7 rfl rfl)
theorem dX7_counted_54 : decode cX7_counted 54 = .ok (.getfield 83, 3) := dk_180 0 83 (dk_at dksX7_counted_2 8 rfl rfl)
theorem dX7_counted_57 : decode cX7_counted 57 = .ok (.iload_n 1, 1) := dk_27 (dk_at dksX7_counted_2 11 rfl rfl)
theorem dX7_counted_58 : decode cX7_counted 58 = .ok (.iload_n 3, 1) := dk_29 (dk_at dksX7_counted_2 12 rfl rfl)
theorem dX7_counted_59 : decode cX7_counted 59 = .ok (.iastore, 1) := dk_79 (dk_at dksX7_counted_2 13 rfl rfl)
theorem dX7_counted_60 : decode cX7_counted 60 = .ok (.aload_n 0, 1) := dk_42 (dk_at dksX7_counted_2 14 rfl rfl)
theorem dX7_counted_61 : decode cX7_counted 61 = .ok (.iload_n 1, 1) := dk_27 (dk_at dksX7_counted_2 15 rfl rfl)
theorem dX7_counted_62 : decode cX7_counted 62 = .ok (.iload_n 2, 1) := dk_28 (dk_at dksX7_counted_2 16 rfl rfl)
theorem dX7_counted_63 : decode cX7_counted 63 = .ok (.invokevirtual 429, 3) := dk_182 1 173 (dk_at dksX7_counted_2 17 rfl rfl)
theorem dX7_counted_66 : decode cX7_counted 66 = .ok (.ifCond .ne 5, 3) := dk_154 0 5 (dk_at dksX7_counted_2 20 rfl rfl)
theorem dX7_counted_69 : decode cX7_counted 69 = .ok (.iload_n 3, 1) := dk_29 (dk_at dksX7_counted_2 23 rfl rfl)
theorem dX7_counted_70 : decode cX7_counted 70 = .ok (.ireturn, 1) := dk_172 (dk_at dksX7_counted_3 0 rfl rfl)
theorem dX7_counted_71 : decode cX7_counted 71 = .ok (.iinc 3 (-1), 3) := dk_132 3 255 (dk_at dksX7_counted_3 1 rfl rfl)
theorem dX7_counted_74 : decode cX7_counted 74 = .ok (.goto (-25), 3) := dk_167 255 231 (dk_at dksX7_counted_3 4 rfl rfl)
theorem dX7_counted_77 : decode cX7_counted 77 = .ok (.iconst (-1), 1) := dk_2 (dk_at dksX7_counted_3 7 rfl rfl)
theorem dX7_counted_78 : decode cX7_counted 78 = .ok (.ireturn, 1) := dk_172 (dk_at dksX7_counted_3 8 rfl rfl)
abbrev cX7_spy : ByteArray := prog_18_method_89_code
def yX7_spy : MethodName := ⟨RX7, "spy", "(III)I"⟩
def dkwX7_spy_4 : List UInt8 := [4, 96, 181, 1, 71, 42, 180, 1, 71, 172]
abbrev dktX7_spy_4 : List UInt8 := dkwX7_spy_4 ++ []
def dkwX7_spy_3 : List UInt8 := [180, 0, 117, 42, 180, 1, 71, 28, 79, 42, 180, 0, 120, 42, 180, 1, 71, 29, 79, 42, 89, 180, 1, 71]
abbrev dktX7_spy_3 : List UInt8 := dkwX7_spy_3 ++ dktX7_spy_4
def dkwX7_spy_2 : List UInt8 := [184, 0, 153, 154, 0, 9, 42, 5, 182, 1, 135, 172, 42, 180, 0, 114, 42, 180, 1, 71, 27, 79, 42]
abbrev dktX7_spy_2 : List UInt8 := dkwX7_spy_2 ++ dktX7_spy_3
def dkwX7_spy_1 : List UInt8 := [16, 8, 159, 0, 27, 28, 133, 9, 20, 1, 171, 184, 0, 153, 153, 0, 15, 29, 133, 9, 20, 1, 176]
abbrev dktX7_spy_1 : List UInt8 := dkwX7_spy_1 ++ dktX7_spy_2
def dkwX7_spy_0 : List UInt8 := [42, 3, 181, 0, 150, 42, 27, 182, 1, 126, 154, 0, 9, 42, 4, 182, 1, 47, 172, 42, 180, 1, 71]
abbrev dktX7_spy_0 : List UInt8 := dkwX7_spy_0 ++ dktX7_spy_1
theorem dksX7_spy_0 : cX7_spy.data.toList.drop 0 = dktX7_spy_0 := by decide +kernel
theorem dksX7_spy_1 : cX7_spy.data.toList.drop 23 = dktX7_spy_1 := dk_seg dksX7_spy_0 23 rfl rfl
theorem dksX7_spy_2 : cX7_spy.data.toList.drop 46 = dktX7_spy_2 := dk_seg dksX7_spy_1 23 rfl rfl
theorem dksX7_spy_3 : cX7_spy.data.toList.drop 69 = dktX7_spy_3 := dk_seg dksX7_spy_2 23 rfl rfl
theorem dksX7_spy_4 : cX7_spy.data.toList.drop 93 = dktX7_spy_4 := dk_seg dksX7_spy_3 24 rfl rfl
theorem dX7_spy_0 : decode cX7_spy 0 = .ok (.aload_n 0, 1) := dk_42 (dk_at dksX7_spy_0 0 rfl rfl)
theorem dX7_spy_1 : decode cX7_spy 1 = .ok (.iconst 0, 1) := dk_3 (dk_at dksX7_spy_0 1 rfl rfl)
theorem dX7_spy_2 : decode cX7_spy 2 = .ok (.putfield 150, 3) := dk_181 0 150 (dk_at dksX7_spy_0 2 rfl rfl)
theorem dX7_spy_5 : decode cX7_spy 5 = .ok (.aload_n 0, 1) := dk_42 (dk_at dksX7_spy_0 5 rfl rfl)
theorem dX7_spy_6 : decode cX7_spy 6 = .ok (.iload_n 1, 1) := dk_27 (dk_at dksX7_spy_0 6 rfl rfl)
theorem dX7_spy_7 : decode cX7_spy 7 = .ok (.invokevirtual 382, 3) := dk_182 1 126 (dk_at dksX7_spy_0 7 rfl rfl)
theorem dX7_spy_10 : decode cX7_spy 10 = .ok (.ifCond .ne 9, 3) := dk_154 0 9 (dk_at dksX7_spy_0 10 rfl rfl)
theorem dX7_spy_13 : decode cX7_spy 13 = .ok (.aload_n 0, 1) := dk_42 (dk_at dksX7_spy_0 13 rfl rfl)
theorem dX7_spy_14 : decode cX7_spy 14 = .ok (.iconst 1, 1) := dk_4 (dk_at dksX7_spy_0 14 rfl rfl)
theorem dX7_spy_15 : decode cX7_spy 15 = .ok (.invokevirtual 303, 3) := dk_182 1 47 (dk_at dksX7_spy_0 15 rfl rfl)
theorem dX7_spy_18 : decode cX7_spy 18 = .ok (.ireturn, 1) := dk_172 (dk_at dksX7_spy_0 18 rfl rfl)
theorem dX7_spy_19 : decode cX7_spy 19 = .ok (.aload_n 0, 1) := dk_42 (dk_at dksX7_spy_0 19 rfl rfl)
theorem dX7_spy_20 : decode cX7_spy 20 = .ok (.getfield 327, 3) := dk_180 1 71 (dk_at dksX7_spy_0 20 rfl rfl)
theorem dX7_spy_23 : decode cX7_spy 23 = .ok (.bipush 8, 2) := dk_16 8 (dk_at dksX7_spy_1 0 rfl rfl)
theorem dX7_spy_25 : decode cX7_spy 25 = .ok (.if_icmp .eq 27, 3) := dk_159 0 27 (dk_at dksX7_spy_1 2 rfl rfl)
theorem dX7_spy_28 : decode cX7_spy 28 = .ok (.iload_n 2, 1) := dk_28 (dk_at dksX7_spy_1 5 rfl rfl)
theorem dX7_spy_29 : decode cX7_spy 29 = .ok (.i2l, 1) := dk_133 (dk_at dksX7_spy_1 6 rfl rfl)
theorem dX7_spy_30 : decode cX7_spy 30 = .ok (.lconst 0, 1) := dk_9 (dk_at dksX7_spy_1 7 rfl rfl)
theorem dX7_spy_31 : decode cX7_spy 31 = .ok (.ldc2_w 427, 3) := dk_20 1 171 (dk_at dksX7_spy_1 8 rfl rfl)
theorem dX7_spy_34 : decode cX7_spy 34 = .ok (.invokestatic 153, 3) := dk_184 0 153 (dk_at dksX7_spy_1 11 rfl rfl)
theorem dX7_spy_37 : decode cX7_spy 37 = .ok (.ifCond .eq 15, 3) := dk_153 0 15 (dk_at dksX7_spy_1 14 rfl rfl)
theorem dX7_spy_40 : decode cX7_spy 40 = .ok (.iload_n 3, 1) := dk_29 (dk_at dksX7_spy_1 17 rfl rfl)
theorem dX7_spy_41 : decode cX7_spy 41 = .ok (.i2l, 1) := dk_133 (dk_at dksX7_spy_1 18 rfl rfl)
theorem dX7_spy_42 : decode cX7_spy 42 = .ok (.lconst 0, 1) := dk_9 (dk_at dksX7_spy_1 19 rfl rfl)
theorem dX7_spy_43 : decode cX7_spy 43 = .ok (.ldc2_w 432, 3) := dk_20 1 176 (dk_at dksX7_spy_1 20 rfl rfl)
theorem dX7_spy_46 : decode cX7_spy 46 = .ok (.invokestatic 153, 3) := dk_184 0 153 (dk_at dksX7_spy_2 0 rfl rfl)
theorem dX7_spy_49 : decode cX7_spy 49 = .ok (.ifCond .ne 9, 3) := dk_154 0 9 (dk_at dksX7_spy_2 3 rfl rfl)
theorem dX7_spy_52 : decode cX7_spy 52 = .ok (.aload_n 0, 1) := dk_42 (dk_at dksX7_spy_2 6 rfl rfl)
theorem dX7_spy_53 : decode cX7_spy 53 = .ok (.iconst 2, 1) := dk_5 (dk_at dksX7_spy_2 7 rfl rfl)
theorem dX7_spy_54 : decode cX7_spy 54 = .ok (.invokevirtual 391, 3) := dk_182 1 135 (dk_at dksX7_spy_2 8 rfl rfl)
theorem dX7_spy_57 : decode cX7_spy 57 = .ok (.ireturn, 1) := dk_172 (dk_at dksX7_spy_2 11 rfl rfl)
theorem dX7_spy_58 : decode cX7_spy 58 = .ok (.aload_n 0, 1) := dk_42 (dk_at dksX7_spy_2 12 rfl rfl)
theorem dX7_spy_59 : decode cX7_spy 59 = .ok (.getfield 114, 3) := dk_180 0 114 (dk_at dksX7_spy_2 13 rfl rfl)
theorem dX7_spy_62 : decode cX7_spy 62 = .ok (.aload_n 0, 1) := dk_42 (dk_at dksX7_spy_2 16 rfl rfl)
theorem dX7_spy_63 : decode cX7_spy 63 = .ok (.getfield 327, 3) := dk_180 1 71 (dk_at dksX7_spy_2 17 rfl rfl)
theorem dX7_spy_66 : decode cX7_spy 66 = .ok (.iload_n 1, 1) := dk_27 (dk_at dksX7_spy_2 20 rfl rfl)
theorem dX7_spy_67 : decode cX7_spy 67 = .ok (.iastore, 1) := dk_79 (dk_at dksX7_spy_2 21 rfl rfl)
theorem dX7_spy_68 : decode cX7_spy 68 = .ok (.aload_n 0, 1) := dk_42 (dk_at dksX7_spy_2 22 rfl rfl)
theorem dX7_spy_69 : decode cX7_spy 69 = .ok (.getfield 117, 3) := dk_180 0 117 (dk_at dksX7_spy_3 0 rfl rfl)
theorem dX7_spy_72 : decode cX7_spy 72 = .ok (.aload_n 0, 1) := dk_42 (dk_at dksX7_spy_3 3 rfl rfl)
theorem dX7_spy_73 : decode cX7_spy 73 = .ok (.getfield 327, 3) := dk_180 1 71 (dk_at dksX7_spy_3 4 rfl rfl)
theorem dX7_spy_76 : decode cX7_spy 76 = .ok (.iload_n 2, 1) := dk_28 (dk_at dksX7_spy_3 7 rfl rfl)
theorem dX7_spy_77 : decode cX7_spy 77 = .ok (.iastore, 1) := dk_79 (dk_at dksX7_spy_3 8 rfl rfl)
theorem dX7_spy_78 : decode cX7_spy 78 = .ok (.aload_n 0, 1) := dk_42 (dk_at dksX7_spy_3 9 rfl rfl)
theorem dX7_spy_79 : decode cX7_spy 79 = .ok (.getfield 120, 3) := dk_180 0 120 (dk_at dksX7_spy_3 10 rfl rfl)
theorem dX7_spy_82 : decode cX7_spy 82 = .ok (.aload_n 0, 1) := dk_42 (dk_at dksX7_spy_3 13 rfl rfl)
theorem dX7_spy_83 : decode cX7_spy 83 = .ok (.getfield 327, 3) := dk_180 1 71 (dk_at dksX7_spy_3 14 rfl rfl)
theorem dX7_spy_86 : decode cX7_spy 86 = .ok (.iload_n 3, 1) := dk_29 (dk_at dksX7_spy_3 17 rfl rfl)
theorem dX7_spy_87 : decode cX7_spy 87 = .ok (.iastore, 1) := dk_79 (dk_at dksX7_spy_3 18 rfl rfl)
theorem dX7_spy_88 : decode cX7_spy 88 = .ok (.aload_n 0, 1) := dk_42 (dk_at dksX7_spy_3 19 rfl rfl)
theorem dX7_spy_89 : decode cX7_spy 89 = .ok (.dup, 1) := dk_89 (dk_at dksX7_spy_3 20 rfl rfl)
theorem dX7_spy_90 : decode cX7_spy 90 = .ok (.getfield 327, 3) := dk_180 1 71 (dk_at dksX7_spy_3 21 rfl rfl)
theorem dX7_spy_93 : decode cX7_spy 93 = .ok (.iconst 1, 1) := dk_4 (dk_at dksX7_spy_4 0 rfl rfl)
theorem dX7_spy_94 : decode cX7_spy 94 = .ok (.iadd, 1) := dk_96 (dk_at dksX7_spy_4 1 rfl rfl)
theorem dX7_spy_95 : decode cX7_spy 95 = .ok (.putfield 327, 3) := dk_181 1 71 (dk_at dksX7_spy_4 2 rfl rfl)
theorem dX7_spy_98 : decode cX7_spy 98 = .ok (.aload_n 0, 1) := dk_42 (dk_at dksX7_spy_4 5 rfl rfl)
theorem dX7_spy_99 : decode cX7_spy 99 = .ok (.getfield 327, 3) := dk_180 1 71 (dk_at dksX7_spy_4 6 rfl rfl)
theorem dX7_spy_102 : decode cX7_spy 102 = .ok (.ireturn, 1) := dk_172 (dk_at dksX7_spy_4 9 rfl rfl)
abbrev cX7_hidden : ByteArray := prog_18_method_92_code
def yX7_hidden : MethodName := ⟨RX7, "hidden", "(I)I"⟩
def dkwX7_hidden_3 : List UInt8 := [180, 0, 126, 3, 46, 172]
abbrev dktX7_hidden_3 : List UInt8 := dkwX7_hidden_3 ++ []
def dkwX7_hidden_2 : List UInt8 := [154, 0, 10, 42, 180, 1, 178, 167, 0, 20, 42, 180, 1, 178, 154, 0, 7, 2, 167, 0, 9, 42]
abbrev dktX7_hidden_2 : List UInt8 := dkwX7_hidden_2 ++ dktX7_hidden_3
def dkwX7_hidden_1 : List UInt8 := [5, 160, 0, 16, 42, 182, 1, 181, 153, 0, 7, 4, 167, 0, 4, 3, 172, 42, 182, 1, 187, 27]
abbrev dktX7_hidden_1 : List UInt8 := dkwX7_hidden_1 ++ dktX7_hidden_2
def dkwX7_hidden_0 : List UInt8 := [42, 3, 181, 0, 150, 27, 133, 9, 20, 1, 185, 184, 0, 153, 154, 0, 9, 42, 4, 182, 1, 47, 172, 27]
abbrev dktX7_hidden_0 : List UInt8 := dkwX7_hidden_0 ++ dktX7_hidden_1
theorem dksX7_hidden_0 : cX7_hidden.data.toList.drop 0 = dktX7_hidden_0 := by decide +kernel
theorem dksX7_hidden_1 : cX7_hidden.data.toList.drop 24 = dktX7_hidden_1 := dk_seg dksX7_hidden_0 24 rfl rfl
theorem dksX7_hidden_2 : cX7_hidden.data.toList.drop 46 = dktX7_hidden_2 := dk_seg dksX7_hidden_1 22 rfl rfl
theorem dksX7_hidden_3 : cX7_hidden.data.toList.drop 68 = dktX7_hidden_3 := dk_seg dksX7_hidden_2 22 rfl rfl
theorem dX7_hidden_0 : decode cX7_hidden 0 = .ok (.aload_n 0, 1) := dk_42 (dk_at dksX7_hidden_0 0 rfl rfl)
theorem dX7_hidden_1 : decode cX7_hidden 1 = .ok (.iconst 0, 1) := dk_3 (dk_at dksX7_hidden_0 1 rfl rfl)
theorem dX7_hidden_2 : decode cX7_hidden 2 = .ok (.putfield 150, 3) := dk_181 0 150 (dk_at dksX7_hidden_0 2 rfl rfl)
theorem dX7_hidden_5 : decode cX7_hidden 5 = .ok (.iload_n 1, 1) := dk_27 (dk_at dksX7_hidden_0 5 rfl rfl)
theorem dX7_hidden_6 : decode cX7_hidden 6 = .ok (.i2l, 1) := dk_133 (dk_at dksX7_hidden_0 6 rfl rfl)
theorem dX7_hidden_7 : decode cX7_hidden 7 = .ok (.lconst 0, 1) := dk_9 (dk_at dksX7_hidden_0 7 rfl rfl)
theorem dX7_hidden_8 : decode cX7_hidden 8 = .ok (.ldc2_w 441, 3) := dk_20 1 185 (dk_at dksX7_hidden_0 8 rfl rfl)
theorem dX7_hidden_11 : decode cX7_hidden 11 = .ok (.invokestatic 153, 3) := dk_184 0 153 (dk_at dksX7_hidden_0 11 rfl rfl)
theorem dX7_hidden_14 : decode cX7_hidden 14 = .ok (.ifCond .ne 9, 3) := dk_154 0 9 (dk_at dksX7_hidden_0 14 rfl rfl)
theorem dX7_hidden_17 : decode cX7_hidden 17 = .ok (.aload_n 0, 1) := dk_42 (dk_at dksX7_hidden_0 17 rfl rfl)
theorem dX7_hidden_18 : decode cX7_hidden 18 = .ok (.iconst 1, 1) := dk_4 (dk_at dksX7_hidden_0 18 rfl rfl)
theorem dX7_hidden_19 : decode cX7_hidden 19 = .ok (.invokevirtual 303, 3) := dk_182 1 47 (dk_at dksX7_hidden_0 19 rfl rfl)
theorem dX7_hidden_22 : decode cX7_hidden 22 = .ok (.ireturn, 1) := dk_172 (dk_at dksX7_hidden_0 22 rfl rfl)
theorem dX7_hidden_23 : decode cX7_hidden 23 = .ok (.iload_n 1, 1) := dk_27 (dk_at dksX7_hidden_0 23 rfl rfl)
theorem dX7_hidden_24 : decode cX7_hidden 24 = .ok (.iconst 2, 1) := dk_5 (dk_at dksX7_hidden_1 0 rfl rfl)
theorem dX7_hidden_25 : decode cX7_hidden 25 = .ok (.if_icmp .ne 16, 3) := dk_160 0 16 (dk_at dksX7_hidden_1 1 rfl rfl)
theorem dX7_hidden_28 : decode cX7_hidden 28 = .ok (.aload_n 0, 1) := dk_42 (dk_at dksX7_hidden_1 4 rfl rfl)
theorem dX7_hidden_29 : decode cX7_hidden 29 = .ok (.invokevirtual 437, 3) := dk_182 1 181 (dk_at dksX7_hidden_1 5 rfl rfl)
theorem dX7_hidden_32 : decode cX7_hidden 32 = .ok (.ifCond .eq 7, 3) := dk_153 0 7 (dk_at dksX7_hidden_1 8 rfl rfl)
theorem dX7_hidden_35 : decode cX7_hidden 35 = .ok (.iconst 1, 1) := dk_4 (dk_at dksX7_hidden_1 11 rfl rfl)
theorem dX7_hidden_36 : decode cX7_hidden 36 = .ok (.goto 4, 3) := dk_167 0 4 (dk_at dksX7_hidden_1 12 rfl rfl)
theorem dX7_hidden_39 : decode cX7_hidden 39 = .ok (.iconst 0, 1) := dk_3 (dk_at dksX7_hidden_1 15 rfl rfl)
theorem dX7_hidden_40 : decode cX7_hidden 40 = .ok (.ireturn, 1) := dk_172 (dk_at dksX7_hidden_1 16 rfl rfl)
theorem dX7_hidden_41 : decode cX7_hidden 41 = .ok (.aload_n 0, 1) := dk_42 (dk_at dksX7_hidden_1 17 rfl rfl)
theorem dX7_hidden_42 : decode cX7_hidden 42 = .ok (.invokevirtual 443, 3) := dk_182 1 187 (dk_at dksX7_hidden_1 18 rfl rfl)
theorem dX7_hidden_45 : decode cX7_hidden 45 = .ok (.iload_n 1, 1) := dk_27 (dk_at dksX7_hidden_1 21 rfl rfl)
theorem dX7_hidden_46 : decode cX7_hidden 46 = .ok (.ifCond .ne 10, 3) := dk_154 0 10 (dk_at dksX7_hidden_2 0 rfl rfl)
theorem dX7_hidden_49 : decode cX7_hidden 49 = .ok (.aload_n 0, 1) := dk_42 (dk_at dksX7_hidden_2 3 rfl rfl)
theorem dX7_hidden_50 : decode cX7_hidden 50 = .ok (.getfield 434, 3) := dk_180 1 178 (dk_at dksX7_hidden_2 4 rfl rfl)
theorem dX7_hidden_53 : decode cX7_hidden 53 = .ok (.goto 20, 3) := dk_167 0 20 (dk_at dksX7_hidden_2 7 rfl rfl)
theorem dX7_hidden_56 : decode cX7_hidden 56 = .ok (.aload_n 0, 1) := dk_42 (dk_at dksX7_hidden_2 10 rfl rfl)
theorem dX7_hidden_57 : decode cX7_hidden 57 = .ok (.getfield 434, 3) := dk_180 1 178 (dk_at dksX7_hidden_2 11 rfl rfl)
theorem dX7_hidden_60 : decode cX7_hidden 60 = .ok (.ifCond .ne 7, 3) := dk_154 0 7 (dk_at dksX7_hidden_2 14 rfl rfl)
theorem dX7_hidden_63 : decode cX7_hidden 63 = .ok (.iconst (-1), 1) := dk_2 (dk_at dksX7_hidden_2 17 rfl rfl)
theorem dX7_hidden_64 : decode cX7_hidden 64 = .ok (.goto 9, 3) := dk_167 0 9 (dk_at dksX7_hidden_2 18 rfl rfl)
theorem dX7_hidden_67 : decode cX7_hidden 67 = .ok (.aload_n 0, 1) := dk_42 (dk_at dksX7_hidden_2 21 rfl rfl)
theorem dX7_hidden_68 : decode cX7_hidden 68 = .ok (.getfield 126, 3) := dk_180 0 126 (dk_at dksX7_hidden_3 0 rfl rfl)
theorem dX7_hidden_71 : decode cX7_hidden 71 = .ok (.iconst 0, 1) := dk_3 (dk_at dksX7_hidden_3 3 rfl rfl)
theorem dX7_hidden_72 : decode cX7_hidden 72 = .ok (.iaload, 1) := dk_46 (dk_at dksX7_hidden_3 4 rfl rfl)
theorem dX7_hidden_73 : decode cX7_hidden 73 = .ok (.ireturn, 1) := dk_172 (dk_at dksX7_hidden_3 5 rfl rfl)
abbrev cX7_isAsSpied : ByteArray := prog_18_method_90_code
def yX7_isAsSpied : MethodName := ⟨RX7, "isAsSpied", "()Z"⟩
def dkwX7_isAsSpied_4 : List UInt8 := [182, 1, 148, 27, 172]
abbrev dktX7_isAsSpied_4 : List UInt8 := dkwX7_isAsSpied_4 ++ []
def dkwX7_isAsSpied_3 : List UInt8 := [60, 132, 3, 1, 167, 255, 205, 42, 182, 1, 114, 132, 2, 1, 167, 255, 183, 42, 42, 180, 0, 123, 3]
abbrev dktX7_isAsSpied_3 : List UInt8 := dkwX7_isAsSpied_3 ++ dktX7_isAsSpied_4
def dkwX7_isAsSpied_2 : List UInt8 := [180, 0, 86, 42, 180, 0, 114, 29, 46, 46, 42, 180, 0, 120, 29, 46, 160, 0, 7, 4, 167, 0, 4, 3]
abbrev dktX7_isAsSpied_2 : List UInt8 := dkwX7_isAsSpied_2 ++ dktX7_isAsSpied_3
def dkwX7_isAsSpied_1 : List UInt8 := [62, 29, 42, 180, 1, 71, 162, 0, 49, 27, 153, 0, 37, 42, 180, 0, 117, 29, 46, 28, 160, 0, 23, 42]
abbrev dktX7_isAsSpied_1 : List UInt8 := dkwX7_isAsSpied_1 ++ dktX7_isAsSpied_2
def dkwX7_isAsSpied_0 : List UInt8 := [42, 42, 180, 0, 123, 3, 182, 1, 129, 4, 60, 3, 61, 28, 16, 20, 163, 0, 73, 27, 153, 0, 69, 3]
abbrev dktX7_isAsSpied_0 : List UInt8 := dkwX7_isAsSpied_0 ++ dktX7_isAsSpied_1
theorem dksX7_isAsSpied_0 : cX7_isAsSpied.data.toList.drop 0 = dktX7_isAsSpied_0 := by decide +kernel
theorem dksX7_isAsSpied_1 : cX7_isAsSpied.data.toList.drop 24 = dktX7_isAsSpied_1 := dk_seg dksX7_isAsSpied_0 24 rfl rfl
theorem dksX7_isAsSpied_2 : cX7_isAsSpied.data.toList.drop 48 = dktX7_isAsSpied_2 := dk_seg dksX7_isAsSpied_1 24 rfl rfl
theorem dksX7_isAsSpied_3 : cX7_isAsSpied.data.toList.drop 72 = dktX7_isAsSpied_3 := dk_seg dksX7_isAsSpied_2 24 rfl rfl
theorem dksX7_isAsSpied_4 : cX7_isAsSpied.data.toList.drop 95 = dktX7_isAsSpied_4 := dk_seg dksX7_isAsSpied_3 23 rfl rfl
theorem dX7_isAsSpied_0 : decode cX7_isAsSpied 0 = .ok (.aload_n 0, 1) := dk_42 (dk_at dksX7_isAsSpied_0 0 rfl rfl)
theorem dX7_isAsSpied_1 : decode cX7_isAsSpied 1 = .ok (.aload_n 0, 1) := dk_42 (dk_at dksX7_isAsSpied_0 1 rfl rfl)
theorem dX7_isAsSpied_2 : decode cX7_isAsSpied 2 = .ok (.getfield 123, 3) := dk_180 0 123 (dk_at dksX7_isAsSpied_0 2 rfl rfl)
theorem dX7_isAsSpied_5 : decode cX7_isAsSpied 5 = .ok (.iconst 0, 1) := dk_3 (dk_at dksX7_isAsSpied_0 5 rfl rfl)
theorem dX7_isAsSpied_6 : decode cX7_isAsSpied 6 = .ok (.invokevirtual 385, 3) := dk_182 1 129 (dk_at dksX7_isAsSpied_0 6 rfl rfl)
theorem dX7_isAsSpied_9 : decode cX7_isAsSpied 9 = .ok (.iconst 1, 1) := dk_4 (dk_at dksX7_isAsSpied_0 9 rfl rfl)
theorem dX7_isAsSpied_10 : decode cX7_isAsSpied 10 = .ok (.istore_n 1, 1) := dk_60 (dk_at dksX7_isAsSpied_0 10 rfl rfl)
theorem dX7_isAsSpied_11 : decode cX7_isAsSpied 11 = .ok (.iconst 0, 1) := dk_3 (dk_at dksX7_isAsSpied_0 11 rfl rfl)
theorem dX7_isAsSpied_12 : decode cX7_isAsSpied 12 = .ok (.istore_n 2, 1) := dk_61 (dk_at dksX7_isAsSpied_0 12 rfl rfl)
theorem dX7_isAsSpied_13 : decode cX7_isAsSpied 13 = .ok (.iload_n 2, 1) := dk_28 (dk_at dksX7_isAsSpied_0 13 rfl rfl)
theorem dX7_isAsSpied_14 : decode cX7_isAsSpied 14 = .ok (.bipush 20, 2) := dk_16 20 (dk_at dksX7_isAsSpied_0 14 rfl rfl)
theorem dX7_isAsSpied_16 : decode cX7_isAsSpied 16 = .ok (.if_icmp .gt 73, 3) := dk_163 0 73 (dk_at dksX7_isAsSpied_0 16 rfl rfl)
theorem dX7_isAsSpied_19 : decode cX7_isAsSpied 19 = .ok (.iload_n 1, 1) := dk_27 (dk_at dksX7_isAsSpied_0 19 rfl rfl)
theorem dX7_isAsSpied_20 : decode cX7_isAsSpied 20 = .ok (.ifCond .eq 69, 3) := dk_153 0 69 (dk_at dksX7_isAsSpied_0 20 rfl rfl)
theorem dX7_isAsSpied_23 : decode cX7_isAsSpied 23 = .ok (.iconst 0, 1) := dk_3 (dk_at dksX7_isAsSpied_0 23 rfl rfl)
theorem dX7_isAsSpied_24 : decode cX7_isAsSpied 24 = .ok (.istore_n 3, 1) := dk_62 (dk_at dksX7_isAsSpied_1 0 rfl rfl)
theorem dX7_isAsSpied_25 : decode cX7_isAsSpied 25 = .ok (.iload_n 3, 1) := dk_29 (dk_at dksX7_isAsSpied_1 1 rfl rfl)
theorem dX7_isAsSpied_26 : decode cX7_isAsSpied 26 = .ok (.aload_n 0, 1) := dk_42 (dk_at dksX7_isAsSpied_1 2 rfl rfl)
theorem dX7_isAsSpied_27 : decode cX7_isAsSpied 27 = .ok (.getfield 327, 3) := dk_180 1 71 (dk_at dksX7_isAsSpied_1 3 rfl rfl)
theorem dX7_isAsSpied_30 : decode cX7_isAsSpied 30 = .ok (.if_icmp .ge 49, 3) := dk_162 0 49 (dk_at dksX7_isAsSpied_1 6 rfl rfl)
theorem dX7_isAsSpied_33 : decode cX7_isAsSpied 33 = .ok (.iload_n 1, 1) := dk_27 (dk_at dksX7_isAsSpied_1 9 rfl rfl)
theorem dX7_isAsSpied_34 : decode cX7_isAsSpied 34 = .ok (.ifCond .eq 37, 3) := dk_153 0 37 (dk_at dksX7_isAsSpied_1 10 rfl rfl)
theorem dX7_isAsSpied_37 : decode cX7_isAsSpied 37 = .ok (.aload_n 0, 1) := dk_42 (dk_at dksX7_isAsSpied_1 13 rfl rfl)
theorem dX7_isAsSpied_38 : decode cX7_isAsSpied 38 = .ok (.getfield 117, 3) := dk_180 0 117 (dk_at dksX7_isAsSpied_1 14 rfl rfl)
theorem dX7_isAsSpied_41 : decode cX7_isAsSpied 41 = .ok (.iload_n 3, 1) := dk_29 (dk_at dksX7_isAsSpied_1 17 rfl rfl)
theorem dX7_isAsSpied_42 : decode cX7_isAsSpied 42 = .ok (.iaload, 1) := dk_46 (dk_at dksX7_isAsSpied_1 18 rfl rfl)
theorem dX7_isAsSpied_43 : decode cX7_isAsSpied 43 = .ok (.iload_n 2, 1) := dk_28 (dk_at dksX7_isAsSpied_1 19 rfl rfl)
theorem dX7_isAsSpied_44 : decode cX7_isAsSpied 44 = .ok (.if_icmp .ne 23, 3) := dk_160 0 23 (dk_at dksX7_isAsSpied_1 20 rfl rfl)
theorem dX7_isAsSpied_47 : decode cX7_isAsSpied 47 = .ok (.aload_n 0, 1) := dk_42 (dk_at dksX7_isAsSpied_1 23 rfl rfl)
theorem dX7_isAsSpied_48 : decode cX7_isAsSpied 48 = .ok (.getfield 86, 3) := dk_180 0 86 (dk_at dksX7_isAsSpied_2 0 rfl rfl)
theorem dX7_isAsSpied_51 : decode cX7_isAsSpied 51 = .ok (.aload_n 0, 1) := dk_42 (dk_at dksX7_isAsSpied_2 3 rfl rfl)
theorem dX7_isAsSpied_52 : decode cX7_isAsSpied 52 = .ok (.getfield 114, 3) := dk_180 0 114 (dk_at dksX7_isAsSpied_2 4 rfl rfl)
theorem dX7_isAsSpied_55 : decode cX7_isAsSpied 55 = .ok (.iload_n 3, 1) := dk_29 (dk_at dksX7_isAsSpied_2 7 rfl rfl)
theorem dX7_isAsSpied_56 : decode cX7_isAsSpied 56 = .ok (.iaload, 1) := dk_46 (dk_at dksX7_isAsSpied_2 8 rfl rfl)
theorem dX7_isAsSpied_57 : decode cX7_isAsSpied 57 = .ok (.iaload, 1) := dk_46 (dk_at dksX7_isAsSpied_2 9 rfl rfl)
theorem dX7_isAsSpied_58 : decode cX7_isAsSpied 58 = .ok (.aload_n 0, 1) := dk_42 (dk_at dksX7_isAsSpied_2 10 rfl rfl)
theorem dX7_isAsSpied_59 : decode cX7_isAsSpied 59 = .ok (.getfield 120, 3) := dk_180 0 120 (dk_at dksX7_isAsSpied_2 11 rfl rfl)
theorem dX7_isAsSpied_62 : decode cX7_isAsSpied 62 = .ok (.iload_n 3, 1) := dk_29 (dk_at dksX7_isAsSpied_2 14 rfl rfl)
theorem dX7_isAsSpied_63 : decode cX7_isAsSpied 63 = .ok (.iaload, 1) := dk_46 (dk_at dksX7_isAsSpied_2 15 rfl rfl)
theorem dX7_isAsSpied_64 : decode cX7_isAsSpied 64 = .ok (.if_icmp .ne 7, 3) := dk_160 0 7 (dk_at dksX7_isAsSpied_2 16 rfl rfl)
theorem dX7_isAsSpied_67 : decode cX7_isAsSpied 67 = .ok (.iconst 1, 1) := dk_4 (dk_at dksX7_isAsSpied_2 19 rfl rfl)
theorem dX7_isAsSpied_68 : decode cX7_isAsSpied 68 = .ok (.goto 4, 3) := dk_167 0 4 (dk_at dksX7_isAsSpied_2 20 rfl rfl)
theorem dX7_isAsSpied_71 : decode cX7_isAsSpied 71 = .ok (.iconst 0, 1) := dk_3 (dk_at dksX7_isAsSpied_2 23 rfl rfl)
theorem dX7_isAsSpied_72 : decode cX7_isAsSpied 72 = .ok (.istore_n 1, 1) := dk_60 (dk_at dksX7_isAsSpied_3 0 rfl rfl)
theorem dX7_isAsSpied_73 : decode cX7_isAsSpied 73 = .ok (.iinc 3 1, 3) := dk_132 3 1 (dk_at dksX7_isAsSpied_3 1 rfl rfl)
theorem dX7_isAsSpied_76 : decode cX7_isAsSpied 76 = .ok (.goto (-51), 3) := dk_167 255 205 (dk_at dksX7_isAsSpied_3 4 rfl rfl)
theorem dX7_isAsSpied_79 : decode cX7_isAsSpied 79 = .ok (.aload_n 0, 1) := dk_42 (dk_at dksX7_isAsSpied_3 7 rfl rfl)
theorem dX7_isAsSpied_80 : decode cX7_isAsSpied 80 = .ok (.invokevirtual 370, 3) := dk_182 1 114 (dk_at dksX7_isAsSpied_3 8 rfl rfl)
theorem dX7_isAsSpied_83 : decode cX7_isAsSpied 83 = .ok (.iinc 2 1, 3) := dk_132 2 1 (dk_at dksX7_isAsSpied_3 11 rfl rfl)
theorem dX7_isAsSpied_86 : decode cX7_isAsSpied 86 = .ok (.goto (-73), 3) := dk_167 255 183 (dk_at dksX7_isAsSpied_3 14 rfl rfl)
theorem dX7_isAsSpied_89 : decode cX7_isAsSpied 89 = .ok (.aload_n 0, 1) := dk_42 (dk_at dksX7_isAsSpied_3 17 rfl rfl)
theorem dX7_isAsSpied_90 : decode cX7_isAsSpied 90 = .ok (.aload_n 0, 1) := dk_42 (dk_at dksX7_isAsSpied_3 18 rfl rfl)
theorem dX7_isAsSpied_91 : decode cX7_isAsSpied 91 = .ok (.getfield 123, 3) := dk_180 0 123 (dk_at dksX7_isAsSpied_3 19 rfl rfl)
theorem dX7_isAsSpied_94 : decode cX7_isAsSpied 94 = .ok (.iconst 0, 1) := dk_3 (dk_at dksX7_isAsSpied_3 22 rfl rfl)
theorem dX7_isAsSpied_95 : decode cX7_isAsSpied 95 = .ok (.invokevirtual 404, 3) := dk_182 1 148 (dk_at dksX7_isAsSpied_4 0 rfl rfl)
theorem dX7_isAsSpied_98 : decode cX7_isAsSpied 98 = .ok (.iload_n 1, 1) := dk_27 (dk_at dksX7_isAsSpied_4 3 rfl rfl)
theorem dX7_isAsSpied_99 : decode cX7_isAsSpied 99 = .ok (.ireturn, 1) := dk_172 (dk_at dksX7_isAsSpied_4 4 rfl rfl)
abbrev cX7_tellFits : ByteArray := prog_18_method_91_code
def yX7_tellFits : MethodName := ⟨RX7, "tellFits", "()V"⟩
def dkwX7_tellFits_4 : List UInt8 := [167, 255, 168, 177]
abbrev dktX7_tellFits_4 : List UInt8 := dkwX7_tellFits_4 ++ []
def dkwX7_tellFits_3 : List UInt8 := [180, 1, 178, 4, 96, 181, 1, 178, 132, 3, 1, 167, 255, 200, 42, 180, 0, 48, 27, 28, 79, 132, 1, 1]
abbrev dktX7_tellFits_3 : List UInt8 := dkwX7_tellFits_3 ++ dktX7_tellFits_4
def dkwX7_tellFits_2 : List UInt8 := [154, 0, 6, 167, 0, 28, 42, 180, 0, 126, 42, 180, 1, 178, 16, 100, 27, 104, 29, 96, 79, 42, 89]
abbrev dktX7_tellFits_2 : List UInt8 := dkwX7_tellFits_2 ++ dktX7_tellFits_3
def dkwX7_tellFits_1 : List UInt8 := [4, 62, 29, 16, 30, 163, 0, 56, 42, 180, 0, 48, 27, 29, 79, 29, 28, 159, 0, 38, 42, 182, 1, 181]
abbrev dktX7_tellFits_1 : List UInt8 := dkwX7_tellFits_1 ++ dktX7_tellFits_2
def dkwX7_tellFits_0 : List UInt8 := [42, 3, 181, 1, 178, 3, 60, 27, 42, 180, 0, 29, 5, 46, 162, 0, 84, 42, 180, 0, 48, 27, 46, 61]
abbrev dktX7_tellFits_0 : List UInt8 := dkwX7_tellFits_0 ++ dktX7_tellFits_1
theorem dksX7_tellFits_0 : cX7_tellFits.data.toList.drop 0 = dktX7_tellFits_0 := by decide +kernel
theorem dksX7_tellFits_1 : cX7_tellFits.data.toList.drop 24 = dktX7_tellFits_1 := dk_seg dksX7_tellFits_0 24 rfl rfl
theorem dksX7_tellFits_2 : cX7_tellFits.data.toList.drop 48 = dktX7_tellFits_2 := dk_seg dksX7_tellFits_1 24 rfl rfl
theorem dksX7_tellFits_3 : cX7_tellFits.data.toList.drop 71 = dktX7_tellFits_3 := dk_seg dksX7_tellFits_2 23 rfl rfl
theorem dksX7_tellFits_4 : cX7_tellFits.data.toList.drop 95 = dktX7_tellFits_4 := dk_seg dksX7_tellFits_3 24 rfl rfl
theorem dX7_tellFits_0 : decode cX7_tellFits 0 = .ok (.aload_n 0, 1) := dk_42 (dk_at dksX7_tellFits_0 0 rfl rfl)
theorem dX7_tellFits_1 : decode cX7_tellFits 1 = .ok (.iconst 0, 1) := dk_3 (dk_at dksX7_tellFits_0 1 rfl rfl)
theorem dX7_tellFits_2 : decode cX7_tellFits 2 = .ok (.putfield 434, 3) := dk_181 1 178 (dk_at dksX7_tellFits_0 2 rfl rfl)
theorem dX7_tellFits_5 : decode cX7_tellFits 5 = .ok (.iconst 0, 1) := dk_3 (dk_at dksX7_tellFits_0 5 rfl rfl)
theorem dX7_tellFits_6 : decode cX7_tellFits 6 = .ok (.istore_n 1, 1) := dk_60 (dk_at dksX7_tellFits_0 6 rfl rfl)
theorem dX7_tellFits_7 : decode cX7_tellFits 7 = .ok (.iload_n 1, 1) := dk_27 (dk_at dksX7_tellFits_0 7 rfl rfl)
theorem dX7_tellFits_8 : decode cX7_tellFits 8 = .ok (.aload_n 0, 1) := dk_42 (dk_at dksX7_tellFits_0 8 rfl rfl)
theorem dX7_tellFits_9 : decode cX7_tellFits 9 = .ok (.getfield 29, 3) := dk_180 0 29 (dk_at dksX7_tellFits_0 9 rfl rfl)
theorem dX7_tellFits_12 : decode cX7_tellFits 12 = .ok (.iconst 2, 1) := dk_5 (dk_at dksX7_tellFits_0 12 rfl rfl)
theorem dX7_tellFits_13 : decode cX7_tellFits 13 = .ok (.iaload, 1) := dk_46 (dk_at dksX7_tellFits_0 13 rfl rfl)
theorem dX7_tellFits_14 : decode cX7_tellFits 14 = .ok (.if_icmp .ge 84, 3) := dk_162 0 84 (dk_at dksX7_tellFits_0 14 rfl rfl)
theorem dX7_tellFits_17 : decode cX7_tellFits 17 = .ok (.aload_n 0, 1) := dk_42 (dk_at dksX7_tellFits_0 17 rfl rfl)
theorem dX7_tellFits_18 : decode cX7_tellFits 18 = .ok (.getfield 48, 3) := dk_180 0 48 (dk_at dksX7_tellFits_0 18 rfl rfl)
theorem dX7_tellFits_21 : decode cX7_tellFits 21 = .ok (.iload_n 1, 1) := dk_27 (dk_at dksX7_tellFits_0 21 rfl rfl)
theorem dX7_tellFits_22 : decode cX7_tellFits 22 = .ok (.iaload, 1) := dk_46 (dk_at dksX7_tellFits_0 22 rfl rfl)
theorem dX7_tellFits_23 : decode cX7_tellFits 23 = .ok (.istore_n 2, 1) := dk_61 (dk_at dksX7_tellFits_0 23 rfl rfl)
theorem dX7_tellFits_24 : decode cX7_tellFits 24 = .ok (.iconst 1, 1) := dk_4 (dk_at dksX7_tellFits_1 0 rfl rfl)
theorem dX7_tellFits_25 : decode cX7_tellFits 25 = .ok (.istore_n 3, 1) := dk_62 (dk_at dksX7_tellFits_1 1 rfl rfl)
theorem dX7_tellFits_26 : decode cX7_tellFits 26 = .ok (.iload_n 3, 1) := dk_29 (dk_at dksX7_tellFits_1 2 rfl rfl)
theorem dX7_tellFits_27 : decode cX7_tellFits 27 = .ok (.bipush 30, 2) := dk_16 30 (dk_at dksX7_tellFits_1 3 rfl rfl)
theorem dX7_tellFits_29 : decode cX7_tellFits 29 = .ok (.if_icmp .gt 56, 3) := dk_163 0 56 (dk_at dksX7_tellFits_1 5 rfl rfl)
theorem dX7_tellFits_32 : decode cX7_tellFits 32 = .ok (.aload_n 0, 1) := dk_42 (dk_at dksX7_tellFits_1 8 rfl rfl)
theorem dX7_tellFits_33 : decode cX7_tellFits 33 = .ok (.getfield 48, 3) := dk_180 0 48 (dk_at dksX7_tellFits_1 9 rfl rfl)
theorem dX7_tellFits_36 : decode cX7_tellFits 36 = .ok (.iload_n 1, 1) := dk_27 (dk_at dksX7_tellFits_1 12 rfl rfl)
theorem dX7_tellFits_37 : decode cX7_tellFits 37 = .ok (.iload_n 3, 1) := dk_29 (dk_at dksX7_tellFits_1 13 rfl rfl)
theorem dX7_tellFits_38 : decode cX7_tellFits 38 = .ok (.iastore, 1) := dk_79 (dk_at dksX7_tellFits_1 14 rfl rfl)
theorem dX7_tellFits_39 : decode cX7_tellFits 39 = .ok (.iload_n 3, 1) := dk_29 (dk_at dksX7_tellFits_1 15 rfl rfl)
theorem dX7_tellFits_40 : decode cX7_tellFits 40 = .ok (.iload_n 2, 1) := dk_28 (dk_at dksX7_tellFits_1 16 rfl rfl)
theorem dX7_tellFits_41 : decode cX7_tellFits 41 = .ok (.if_icmp .eq 38, 3) := dk_159 0 38 (dk_at dksX7_tellFits_1 17 rfl rfl)
theorem dX7_tellFits_44 : decode cX7_tellFits 44 = .ok (.aload_n 0, 1) := dk_42 (dk_at dksX7_tellFits_1 20 rfl rfl)
theorem dX7_tellFits_45 : decode cX7_tellFits 45 = .ok (.invokevirtual 437, 3) := dk_182 1 181 (dk_at dksX7_tellFits_1 21 rfl rfl)
theorem dX7_tellFits_48 : decode cX7_tellFits 48 = .ok (.ifCond .ne 6, 3) := dk_154 0 6 (dk_at dksX7_tellFits_2 0 rfl rfl)
theorem dX7_tellFits_51 : decode cX7_tellFits 51 = .ok (.goto 28, 3) := dk_167 0 28 (dk_at dksX7_tellFits_2 3 rfl rfl)
theorem dX7_tellFits_54 : decode cX7_tellFits 54 = .ok (.aload_n 0, 1) := dk_42 (dk_at dksX7_tellFits_2 6 rfl rfl)
theorem dX7_tellFits_55 : decode cX7_tellFits 55 = .ok (.getfield 126, 3) := dk_180 0 126 (dk_at dksX7_tellFits_2 7 rfl rfl)
theorem dX7_tellFits_58 : decode cX7_tellFits 58 = .ok (.aload_n 0, 1) := dk_42 (dk_at dksX7_tellFits_2 10 rfl rfl)
theorem dX7_tellFits_59 : decode cX7_tellFits 59 = .ok (.getfield 434, 3) := dk_180 1 178 (dk_at dksX7_tellFits_2 11 rfl rfl)
theorem dX7_tellFits_62 : decode cX7_tellFits 62 = .ok (.bipush 100, 2) := dk_16 100 (dk_at dksX7_tellFits_2 14 rfl rfl)
theorem dX7_tellFits_64 : decode cX7_tellFits 64 = .ok (.iload_n 1, 1) := dk_27 (dk_at dksX7_tellFits_2 16 rfl rfl)
theorem dX7_tellFits_65 : decode cX7_tellFits 65 = .ok (.imul, 1) := dk_104 (dk_at dksX7_tellFits_2 17 rfl rfl)
theorem dX7_tellFits_66 : decode cX7_tellFits 66 = .ok (.iload_n 3, 1) := dk_29 (dk_at dksX7_tellFits_2 18 rfl rfl)
theorem dX7_tellFits_67 : decode cX7_tellFits 67 = .ok (.iadd, 1) := dk_96 (dk_at dksX7_tellFits_2 19 rfl rfl)
theorem dX7_tellFits_68 : decode cX7_tellFits 68 = .ok (.iastore, 1) := dk_79 (dk_at dksX7_tellFits_2 20 rfl rfl)
theorem dX7_tellFits_69 : decode cX7_tellFits 69 = .ok (.aload_n 0, 1) := dk_42 (dk_at dksX7_tellFits_2 21 rfl rfl)
theorem dX7_tellFits_70 : decode cX7_tellFits 70 = .ok (.dup, 1) := dk_89 (dk_at dksX7_tellFits_2 22 rfl rfl)
theorem dX7_tellFits_71 : decode cX7_tellFits 71 = .ok (.getfield 434, 3) := dk_180 1 178 (dk_at dksX7_tellFits_3 0 rfl rfl)
theorem dX7_tellFits_74 : decode cX7_tellFits 74 = .ok (.iconst 1, 1) := dk_4 (dk_at dksX7_tellFits_3 3 rfl rfl)
theorem dX7_tellFits_75 : decode cX7_tellFits 75 = .ok (.iadd, 1) := dk_96 (dk_at dksX7_tellFits_3 4 rfl rfl)
theorem dX7_tellFits_76 : decode cX7_tellFits 76 = .ok (.putfield 434, 3) := dk_181 1 178 (dk_at dksX7_tellFits_3 5 rfl rfl)
theorem dX7_tellFits_79 : decode cX7_tellFits 79 = .ok (.iinc 3 1, 3) := dk_132 3 1 (dk_at dksX7_tellFits_3 8 rfl rfl)
theorem dX7_tellFits_82 : decode cX7_tellFits 82 = .ok (.goto (-56), 3) := dk_167 255 200 (dk_at dksX7_tellFits_3 11 rfl rfl)
theorem dX7_tellFits_85 : decode cX7_tellFits 85 = .ok (.aload_n 0, 1) := dk_42 (dk_at dksX7_tellFits_3 14 rfl rfl)
theorem dX7_tellFits_86 : decode cX7_tellFits 86 = .ok (.getfield 48, 3) := dk_180 0 48 (dk_at dksX7_tellFits_3 15 rfl rfl)
theorem dX7_tellFits_89 : decode cX7_tellFits 89 = .ok (.iload_n 1, 1) := dk_27 (dk_at dksX7_tellFits_3 18 rfl rfl)
theorem dX7_tellFits_90 : decode cX7_tellFits 90 = .ok (.iload_n 2, 1) := dk_28 (dk_at dksX7_tellFits_3 19 rfl rfl)
theorem dX7_tellFits_91 : decode cX7_tellFits 91 = .ok (.iastore, 1) := dk_79 (dk_at dksX7_tellFits_3 20 rfl rfl)
theorem dX7_tellFits_92 : decode cX7_tellFits 92 = .ok (.iinc 1 1, 3) := dk_132 1 1 (dk_at dksX7_tellFits_3 21 rfl rfl)
theorem dX7_tellFits_95 : decode cX7_tellFits 95 = .ok (.goto (-88), 3) := dk_167 255 168 (dk_at dksX7_tellFits_4 0 rfl rfl)
theorem dX7_tellFits_98 : decode cX7_tellFits 98 = .ok (.return_, 1) := dk_177 (dk_at dksX7_tellFits_4 3 rfl rfl)
abbrev cX7_look : ByteArray := prog_18_method_94_code
def yX7_look : MethodName := ⟨RX7, "look", "(I)I"⟩
def dkwX7_look_8 : List UInt8 := [154, 0, 7, 28, 167, 0, 4, 29, 172]
abbrev dktX7_look_8 : List UInt8 := dkwX7_look_8 ++ []
def dkwX7_look_7 : List UInt8 := [21, 5, 29, 163, 0, 6, 167, 0, 9, 21, 4, 61, 21, 5, 62, 132, 4, 1, 167, 255, 219, 27]
abbrev dktX7_look_7 : List UInt8 := dkwX7_look_7 ++ dktX7_look_8
def dkwX7_look_6 : List UInt8 := [3, 62, 3, 54, 4, 21, 4, 42, 180, 0, 29, 5, 46, 162, 0, 32, 42, 21, 4, 182, 1, 190, 54, 5]
abbrev dktX7_look_6 : List UInt8 := dkwX7_look_6 ++ dktX7_look_7
def dkwX7_look_5 : List UInt8 := [180, 0, 48, 29, 21, 4, 79, 42, 42, 180, 0, 102, 3, 182, 1, 148, 132, 2, 1, 167, 255, 155, 2, 61]
abbrev dktX7_look_5 : List UInt8 := dkwX7_look_5 ++ dktX7_look_6
def dkwX7_look_4 : List UInt8 := [16, 6, 28, 104, 21, 5, 96, 42, 180, 0, 86, 21, 5, 46, 79, 132, 5, 1, 167, 255, 227, 42]
abbrev dktX7_look_4 : List UInt8 := dkwX7_look_4 ++ dktX7_look_5
def dkwX7_look_3 : List UInt8 := [16, 100, 112, 79, 42, 8, 182, 1, 141, 3, 54, 5, 21, 5, 16, 6, 162, 0, 28, 42, 180, 0, 129]
abbrev dktX7_look_3 : List UInt8 := dkwX7_look_3 ++ dktX7_look_4
def dkwX7_look_2 : List UInt8 := [46, 16, 100, 108, 62, 42, 180, 0, 48, 29, 46, 54, 4, 42, 180, 0, 48, 29, 42, 180, 0, 126, 28, 46]
abbrev dktX7_look_2 : List UInt8 := dkwX7_look_2 ++ dktX7_look_3
def dkwX7_look_1 : List UInt8 := [42, 42, 180, 0, 102, 3, 182, 1, 129, 3, 61, 28, 42, 180, 1, 178, 162, 0, 99, 42, 180, 0, 126, 28]
abbrev dktX7_look_1 : List UInt8 := dkwX7_look_1 ++ dktX7_look_2
def dkwX7_look_0 : List UInt8 := [42, 3, 181, 0, 150, 27, 155, 0, 8, 27, 4, 164, 0, 9, 42, 4, 182, 1, 47, 172, 42, 182, 1, 187]
abbrev dktX7_look_0 : List UInt8 := dkwX7_look_0 ++ dktX7_look_1
theorem dksX7_look_0 : cX7_look.data.toList.drop 0 = dktX7_look_0 := by decide +kernel
theorem dksX7_look_1 : cX7_look.data.toList.drop 24 = dktX7_look_1 := dk_seg dksX7_look_0 24 rfl rfl
theorem dksX7_look_2 : cX7_look.data.toList.drop 48 = dktX7_look_2 := dk_seg dksX7_look_1 24 rfl rfl
theorem dksX7_look_3 : cX7_look.data.toList.drop 72 = dktX7_look_3 := dk_seg dksX7_look_2 24 rfl rfl
theorem dksX7_look_4 : cX7_look.data.toList.drop 95 = dktX7_look_4 := dk_seg dksX7_look_3 23 rfl rfl
theorem dksX7_look_5 : cX7_look.data.toList.drop 117 = dktX7_look_5 := dk_seg dksX7_look_4 22 rfl rfl
theorem dksX7_look_6 : cX7_look.data.toList.drop 141 = dktX7_look_6 := dk_seg dksX7_look_5 24 rfl rfl
theorem dksX7_look_7 : cX7_look.data.toList.drop 165 = dktX7_look_7 := dk_seg dksX7_look_6 24 rfl rfl
theorem dksX7_look_8 : cX7_look.data.toList.drop 187 = dktX7_look_8 := dk_seg dksX7_look_7 22 rfl rfl
theorem dX7_look_0 : decode cX7_look 0 = .ok (.aload_n 0, 1) := dk_42 (dk_at dksX7_look_0 0 rfl rfl)
theorem dX7_look_1 : decode cX7_look 1 = .ok (.iconst 0, 1) := dk_3 (dk_at dksX7_look_0 1 rfl rfl)
theorem dX7_look_2 : decode cX7_look 2 = .ok (.putfield 150, 3) := dk_181 0 150 (dk_at dksX7_look_0 2 rfl rfl)
theorem dX7_look_5 : decode cX7_look 5 = .ok (.iload_n 1, 1) := dk_27 (dk_at dksX7_look_0 5 rfl rfl)
theorem dX7_look_6 : decode cX7_look 6 = .ok (.ifCond .lt 8, 3) := dk_155 0 8 (dk_at dksX7_look_0 6 rfl rfl)
theorem dX7_look_9 : decode cX7_look 9 = .ok (.iload_n 1, 1) := dk_27 (dk_at dksX7_look_0 9 rfl rfl)
theorem dX7_look_10 : decode cX7_look 10 = .ok (.iconst 1, 1) := dk_4 (dk_at dksX7_look_0 10 rfl rfl)
theorem dX7_look_11 : decode cX7_look 11 = .ok (.if_icmp .le 9, 3) := dk_164 0 9 (dk_at dksX7_look_0 11 rfl rfl)
theorem dX7_look_14 : decode cX7_look 14 = .ok (.aload_n 0, 1) := dk_42 (dk_at dksX7_look_0 14 rfl rfl)
theorem dX7_look_15 : decode cX7_look 15 = .ok (.iconst 1, 1) := dk_4 (dk_at dksX7_look_0 15 rfl rfl)
theorem dX7_look_16 : decode cX7_look 16 = .ok (.invokevirtual 303, 3) := dk_182 1 47 (dk_at dksX7_look_0 16 rfl rfl)
theorem dX7_look_19 : decode cX7_look 19 = .ok (.ireturn, 1) := dk_172 (dk_at dksX7_look_0 19 rfl rfl)
theorem dX7_look_20 : decode cX7_look 20 = .ok (.aload_n 0, 1) := dk_42 (dk_at dksX7_look_0 20 rfl rfl)
theorem dX7_look_21 : decode cX7_look 21 = .ok (.invokevirtual 443, 3) := dk_182 1 187 (dk_at dksX7_look_0 21 rfl rfl)
theorem dX7_look_24 : decode cX7_look 24 = .ok (.aload_n 0, 1) := dk_42 (dk_at dksX7_look_1 0 rfl rfl)
theorem dX7_look_25 : decode cX7_look 25 = .ok (.aload_n 0, 1) := dk_42 (dk_at dksX7_look_1 1 rfl rfl)
theorem dX7_look_26 : decode cX7_look 26 = .ok (.getfield 102, 3) := dk_180 0 102 (dk_at dksX7_look_1 2 rfl rfl)
theorem dX7_look_29 : decode cX7_look 29 = .ok (.iconst 0, 1) := dk_3 (dk_at dksX7_look_1 5 rfl rfl)
theorem dX7_look_30 : decode cX7_look 30 = .ok (.invokevirtual 385, 3) := dk_182 1 129 (dk_at dksX7_look_1 6 rfl rfl)
theorem dX7_look_33 : decode cX7_look 33 = .ok (.iconst 0, 1) := dk_3 (dk_at dksX7_look_1 9 rfl rfl)
theorem dX7_look_34 : decode cX7_look 34 = .ok (.istore_n 2, 1) := dk_61 (dk_at dksX7_look_1 10 rfl rfl)
theorem dX7_look_35 : decode cX7_look 35 = .ok (.iload_n 2, 1) := dk_28 (dk_at dksX7_look_1 11 rfl rfl)
theorem dX7_look_36 : decode cX7_look 36 = .ok (.aload_n 0, 1) := dk_42 (dk_at dksX7_look_1 12 rfl rfl)
theorem dX7_look_37 : decode cX7_look 37 = .ok (.getfield 434, 3) := dk_180 1 178 (dk_at dksX7_look_1 13 rfl rfl)
theorem dX7_look_40 : decode cX7_look 40 = .ok (.if_icmp .ge 99, 3) := dk_162 0 99 (dk_at dksX7_look_1 16 rfl rfl)
theorem dX7_look_43 : decode cX7_look 43 = .ok (.aload_n 0, 1) := dk_42 (dk_at dksX7_look_1 19 rfl rfl)
theorem dX7_look_44 : decode cX7_look 44 = .ok (.getfield 126, 3) := dk_180 0 126 (dk_at dksX7_look_1 20 rfl rfl)
theorem dX7_look_47 : decode cX7_look 47 = .ok (.iload_n 2, 1) := dk_28 (dk_at dksX7_look_1 23 rfl rfl)
theorem dX7_look_48 : decode cX7_look 48 = .ok (.iaload, 1) := dk_46 (dk_at dksX7_look_2 0 rfl rfl)
theorem dX7_look_49 : decode cX7_look 49 = .ok (.bipush 100, 2) := dk_16 100 (dk_at dksX7_look_2 1 rfl rfl)
theorem dX7_look_51 : decode cX7_look 51 = .ok (.idiv, 1) := dk_108 (dk_at dksX7_look_2 3 rfl rfl)
theorem dX7_look_52 : decode cX7_look 52 = .ok (.istore_n 3, 1) := dk_62 (dk_at dksX7_look_2 4 rfl rfl)
theorem dX7_look_53 : decode cX7_look 53 = .ok (.aload_n 0, 1) := dk_42 (dk_at dksX7_look_2 5 rfl rfl)
theorem dX7_look_54 : decode cX7_look 54 = .ok (.getfield 48, 3) := dk_180 0 48 (dk_at dksX7_look_2 6 rfl rfl)
theorem dX7_look_57 : decode cX7_look 57 = .ok (.iload_n 3, 1) := dk_29 (dk_at dksX7_look_2 9 rfl rfl)
theorem dX7_look_58 : decode cX7_look 58 = .ok (.iaload, 1) := dk_46 (dk_at dksX7_look_2 10 rfl rfl)
theorem dX7_look_59 : decode cX7_look 59 = .ok (.istore 4, 2) := dk_54 4 (dk_at dksX7_look_2 11 rfl rfl)
theorem dX7_look_61 : decode cX7_look 61 = .ok (.aload_n 0, 1) := dk_42 (dk_at dksX7_look_2 13 rfl rfl)
theorem dX7_look_62 : decode cX7_look 62 = .ok (.getfield 48, 3) := dk_180 0 48 (dk_at dksX7_look_2 14 rfl rfl)
theorem dX7_look_65 : decode cX7_look 65 = .ok (.iload_n 3, 1) := dk_29 (dk_at dksX7_look_2 17 rfl rfl)
theorem dX7_look_66 : decode cX7_look 66 = .ok (.aload_n 0, 1) := dk_42 (dk_at dksX7_look_2 18 rfl rfl)
theorem dX7_look_67 : decode cX7_look 67 = .ok (.getfield 126, 3) := dk_180 0 126 (dk_at dksX7_look_2 19 rfl rfl)
theorem dX7_look_70 : decode cX7_look 70 = .ok (.iload_n 2, 1) := dk_28 (dk_at dksX7_look_2 22 rfl rfl)
theorem dX7_look_71 : decode cX7_look 71 = .ok (.iaload, 1) := dk_46 (dk_at dksX7_look_2 23 rfl rfl)
theorem dX7_look_72 : decode cX7_look 72 = .ok (.bipush 100, 2) := dk_16 100 (dk_at dksX7_look_3 0 rfl rfl)
theorem dX7_look_74 : decode cX7_look 74 = .ok (.irem, 1) := dk_112 (dk_at dksX7_look_3 2 rfl rfl)
theorem dX7_look_75 : decode cX7_look 75 = .ok (.iastore, 1) := dk_79 (dk_at dksX7_look_3 3 rfl rfl)
theorem dX7_look_76 : decode cX7_look 76 = .ok (.aload_n 0, 1) := dk_42 (dk_at dksX7_look_3 4 rfl rfl)
theorem dX7_look_77 : decode cX7_look 77 = .ok (.iconst 5, 1) := dk_8 (dk_at dksX7_look_3 5 rfl rfl)
theorem dX7_look_78 : decode cX7_look 78 = .ok (.invokevirtual 397, 3) := dk_182 1 141 (dk_at dksX7_look_3 6 rfl rfl)
theorem dX7_look_81 : decode cX7_look 81 = .ok (.iconst 0, 1) := dk_3 (dk_at dksX7_look_3 9 rfl rfl)
theorem dX7_look_82 : decode cX7_look 82 = .ok (.istore 5, 2) := dk_54 5 (dk_at dksX7_look_3 10 rfl rfl)
theorem dX7_look_84 : decode cX7_look 84 = .ok (.iload 5, 2) := dk_21 5 (dk_at dksX7_look_3 12 rfl rfl)
theorem dX7_look_86 : decode cX7_look 86 = .ok (.bipush 6, 2) := dk_16 6 (dk_at dksX7_look_3 14 rfl rfl)
theorem dX7_look_88 : decode cX7_look 88 = .ok (.if_icmp .ge 28, 3) := dk_162 0 28 (dk_at dksX7_look_3 16 rfl rfl)
theorem dX7_look_91 : decode cX7_look 91 = .ok (.aload_n 0, 1) := dk_42 (dk_at dksX7_look_3 19 rfl rfl)
theorem dX7_look_92 : decode cX7_look 92 = .ok (.getfield 129, 3) := dk_180 0 129 (dk_at dksX7_look_3 20 rfl rfl)
theorem dX7_look_95 : decode cX7_look 95 = .ok (.bipush 6, 2) := dk_16 6 (dk_at dksX7_look_4 0 rfl rfl)
theorem dX7_look_97 : decode cX7_look 97 = .ok (.iload_n 2, 1) := dk_28 (dk_at dksX7_look_4 2 rfl rfl)
theorem dX7_look_98 : decode cX7_look 98 = .ok (.imul, 1) := dk_104 (dk_at dksX7_look_4 3 rfl rfl)
theorem dX7_look_99 : decode cX7_look 99 = .ok (.iload 5, 2) := dk_21 5 (dk_at dksX7_look_4 4 rfl rfl)
theorem dX7_look_101 : decode cX7_look 101 = .ok (.iadd, 1) := dk_96 (dk_at dksX7_look_4 6 rfl rfl)
theorem dX7_look_102 : decode cX7_look 102 = .ok (.aload_n 0, 1) := dk_42 (dk_at dksX7_look_4 7 rfl rfl)
theorem dX7_look_103 : decode cX7_look 103 = .ok (.getfield 86, 3) := dk_180 0 86 (dk_at dksX7_look_4 8 rfl rfl)
theorem dX7_look_106 : decode cX7_look 106 = .ok (.iload 5, 2) := dk_21 5 (dk_at dksX7_look_4 11 rfl rfl)
theorem dX7_look_108 : decode cX7_look 108 = .ok (.iaload, 1) := dk_46 (dk_at dksX7_look_4 13 rfl rfl)
theorem dX7_look_109 : decode cX7_look 109 = .ok (.iastore, 1) := dk_79 (dk_at dksX7_look_4 14 rfl rfl)
theorem dX7_look_110 : decode cX7_look 110 = .ok (.iinc 5 1, 3) := dk_132 5 1 (dk_at dksX7_look_4 15 rfl rfl)
theorem dX7_look_113 : decode cX7_look 113 = .ok (.goto (-29), 3) := dk_167 255 227 (dk_at dksX7_look_4 18 rfl rfl)
theorem dX7_look_116 : decode cX7_look 116 = .ok (.aload_n 0, 1) := dk_42 (dk_at dksX7_look_4 21 rfl rfl)
theorem dX7_look_117 : decode cX7_look 117 = .ok (.getfield 48, 3) := dk_180 0 48 (dk_at dksX7_look_5 0 rfl rfl)
theorem dX7_look_120 : decode cX7_look 120 = .ok (.iload_n 3, 1) := dk_29 (dk_at dksX7_look_5 3 rfl rfl)
theorem dX7_look_121 : decode cX7_look 121 = .ok (.iload 4, 2) := dk_21 4 (dk_at dksX7_look_5 4 rfl rfl)
theorem dX7_look_123 : decode cX7_look 123 = .ok (.iastore, 1) := dk_79 (dk_at dksX7_look_5 6 rfl rfl)
theorem dX7_look_124 : decode cX7_look 124 = .ok (.aload_n 0, 1) := dk_42 (dk_at dksX7_look_5 7 rfl rfl)
theorem dX7_look_125 : decode cX7_look 125 = .ok (.aload_n 0, 1) := dk_42 (dk_at dksX7_look_5 8 rfl rfl)
theorem dX7_look_126 : decode cX7_look 126 = .ok (.getfield 102, 3) := dk_180 0 102 (dk_at dksX7_look_5 9 rfl rfl)
theorem dX7_look_129 : decode cX7_look 129 = .ok (.iconst 0, 1) := dk_3 (dk_at dksX7_look_5 12 rfl rfl)
theorem dX7_look_130 : decode cX7_look 130 = .ok (.invokevirtual 404, 3) := dk_182 1 148 (dk_at dksX7_look_5 13 rfl rfl)
theorem dX7_look_133 : decode cX7_look 133 = .ok (.iinc 2 1, 3) := dk_132 2 1 (dk_at dksX7_look_5 16 rfl rfl)
theorem dX7_look_136 : decode cX7_look 136 = .ok (.goto (-101), 3) := dk_167 255 155 (dk_at dksX7_look_5 19 rfl rfl)
theorem dX7_look_139 : decode cX7_look 139 = .ok (.iconst (-1), 1) := dk_2 (dk_at dksX7_look_5 22 rfl rfl)
theorem dX7_look_140 : decode cX7_look 140 = .ok (.istore_n 2, 1) := dk_61 (dk_at dksX7_look_5 23 rfl rfl)
theorem dX7_look_141 : decode cX7_look 141 = .ok (.iconst 0, 1) := dk_3 (dk_at dksX7_look_6 0 rfl rfl)
theorem dX7_look_142 : decode cX7_look 142 = .ok (.istore_n 3, 1) := dk_62 (dk_at dksX7_look_6 1 rfl rfl)
theorem dX7_look_143 : decode cX7_look 143 = .ok (.iconst 0, 1) := dk_3 (dk_at dksX7_look_6 2 rfl rfl)
theorem dX7_look_144 : decode cX7_look 144 = .ok (.istore 4, 2) := dk_54 4 (dk_at dksX7_look_6 3 rfl rfl)
theorem dX7_look_146 : decode cX7_look 146 = .ok (.iload 4, 2) := dk_21 4 (dk_at dksX7_look_6 5 rfl rfl)
theorem dX7_look_148 : decode cX7_look 148 = .ok (.aload_n 0, 1) := dk_42 (dk_at dksX7_look_6 7 rfl rfl)
theorem dX7_look_149 : decode cX7_look 149 = .ok (.getfield 29, 3) := dk_180 0 29 (dk_at dksX7_look_6 8 rfl rfl)
theorem dX7_look_152 : decode cX7_look 152 = .ok (.iconst 2, 1) := dk_5 (dk_at dksX7_look_6 11 rfl rfl)
theorem dX7_look_153 : decode cX7_look 153 = .ok (.iaload, 1) := dk_46 (dk_at dksX7_look_6 12 rfl rfl)
theorem dX7_look_154 : decode cX7_look 154 = .ok (.if_icmp .ge 32, 3) := dk_162 0 32 (dk_at dksX7_look_6 13 rfl rfl)
theorem dX7_look_157 : decode cX7_look 157 = .ok (.aload_n 0, 1) := dk_42 (dk_at dksX7_look_6 16 rfl rfl)
theorem dX7_look_158 : decode cX7_look 158 = .ok (.iload 4, 2) := dk_21 4 (dk_at dksX7_look_6 17 rfl rfl)
theorem dX7_look_160 : decode cX7_look 160 = .ok (.invokevirtual 446, 3) := dk_182 1 190 (dk_at dksX7_look_6 19 rfl rfl)
theorem dX7_look_163 : decode cX7_look 163 = .ok (.istore 5, 2) := dk_54 5 (dk_at dksX7_look_6 22 rfl rfl)
theorem dX7_look_165 : decode cX7_look 165 = .ok (.iload 5, 2) := dk_21 5 (dk_at dksX7_look_7 0 rfl rfl)
theorem dX7_look_167 : decode cX7_look 167 = .ok (.iload_n 3, 1) := dk_29 (dk_at dksX7_look_7 2 rfl rfl)
theorem dX7_look_168 : decode cX7_look 168 = .ok (.if_icmp .gt 6, 3) := dk_163 0 6 (dk_at dksX7_look_7 3 rfl rfl)
theorem dX7_look_171 : decode cX7_look 171 = .ok (.goto 9, 3) := dk_167 0 9 (dk_at dksX7_look_7 6 rfl rfl)
theorem dX7_look_174 : decode cX7_look 174 = .ok (.iload 4, 2) := dk_21 4 (dk_at dksX7_look_7 9 rfl rfl)
theorem dX7_look_176 : decode cX7_look 176 = .ok (.istore_n 2, 1) := dk_61 (dk_at dksX7_look_7 11 rfl rfl)
theorem dX7_look_177 : decode cX7_look 177 = .ok (.iload 5, 2) := dk_21 5 (dk_at dksX7_look_7 12 rfl rfl)
theorem dX7_look_179 : decode cX7_look 179 = .ok (.istore_n 3, 1) := dk_62 (dk_at dksX7_look_7 14 rfl rfl)
theorem dX7_look_180 : decode cX7_look 180 = .ok (.iinc 4 1, 3) := dk_132 4 1 (dk_at dksX7_look_7 15 rfl rfl)
theorem dX7_look_183 : decode cX7_look 183 = .ok (.goto (-37), 3) := dk_167 255 219 (dk_at dksX7_look_7 18 rfl rfl)
theorem dX7_look_186 : decode cX7_look 186 = .ok (.iload_n 1, 1) := dk_27 (dk_at dksX7_look_7 21 rfl rfl)
theorem dX7_look_187 : decode cX7_look 187 = .ok (.ifCond .ne 7, 3) := dk_154 0 7 (dk_at dksX7_look_8 0 rfl rfl)
theorem dX7_look_190 : decode cX7_look 190 = .ok (.iload_n 2, 1) := dk_28 (dk_at dksX7_look_8 3 rfl rfl)
theorem dX7_look_191 : decode cX7_look 191 = .ok (.goto 4, 3) := dk_167 0 4 (dk_at dksX7_look_8 4 rfl rfl)
theorem dX7_look_194 : decode cX7_look 194 = .ok (.iload_n 3, 1) := dk_29 (dk_at dksX7_look_8 7 rfl rfl)
theorem dX7_look_195 : decode cX7_look 195 = .ok (.ireturn, 1) := dk_172 (dk_at dksX7_look_8 8 rfl rfl)
abbrev cX7_unlike : ByteArray := prog_18_method_93_code
def yX7_unlike : MethodName := ⟨RX7, "unlike", "(I)I"⟩
def dkwX7_unlike_3 : List UInt8 := [153, 0, 7, 4, 167, 0, 4, 3, 96, 61, 132, 3, 1, 167, 255, 176, 28, 172]
abbrev dktX7_unlike_3 : List UInt8 := dkwX7_unlike_3 ++ []
def dkwX7_unlike_2 : List UInt8 := [104, 27, 96, 46, 159, 0, 7, 4, 167, 0, 4, 3, 54, 4, 132, 5, 1, 167, 255, 209, 28, 21, 4]
abbrev dktX7_unlike_2 : List UInt8 := dkwX7_unlike_2 ++ dktX7_unlike_3
def dkwX7_unlike_1 : List UInt8 := [21, 4, 153, 0, 42, 42, 180, 0, 129, 16, 6, 21, 5, 104, 27, 96, 46, 42, 180, 0, 129, 16, 6, 29]
abbrev dktX7_unlike_1 : List UInt8 := dkwX7_unlike_1 ++ dktX7_unlike_2
def dkwX7_unlike_0 : List UInt8 := [3, 61, 3, 62, 29, 42, 180, 1, 178, 162, 0, 78, 4, 54, 4, 3, 54, 5, 21, 5, 29, 162, 0, 47]
abbrev dktX7_unlike_0 : List UInt8 := dkwX7_unlike_0 ++ dktX7_unlike_1
theorem dksX7_unlike_0 : cX7_unlike.data.toList.drop 0 = dktX7_unlike_0 := by decide +kernel
theorem dksX7_unlike_1 : cX7_unlike.data.toList.drop 24 = dktX7_unlike_1 := dk_seg dksX7_unlike_0 24 rfl rfl
theorem dksX7_unlike_2 : cX7_unlike.data.toList.drop 48 = dktX7_unlike_2 := dk_seg dksX7_unlike_1 24 rfl rfl
theorem dksX7_unlike_3 : cX7_unlike.data.toList.drop 71 = dktX7_unlike_3 := dk_seg dksX7_unlike_2 23 rfl rfl
theorem dX7_unlike_0 : decode cX7_unlike 0 = .ok (.iconst 0, 1) := dk_3 (dk_at dksX7_unlike_0 0 rfl rfl)
theorem dX7_unlike_1 : decode cX7_unlike 1 = .ok (.istore_n 2, 1) := dk_61 (dk_at dksX7_unlike_0 1 rfl rfl)
theorem dX7_unlike_2 : decode cX7_unlike 2 = .ok (.iconst 0, 1) := dk_3 (dk_at dksX7_unlike_0 2 rfl rfl)
theorem dX7_unlike_3 : decode cX7_unlike 3 = .ok (.istore_n 3, 1) := dk_62 (dk_at dksX7_unlike_0 3 rfl rfl)
theorem dX7_unlike_4 : decode cX7_unlike 4 = .ok (.iload_n 3, 1) := dk_29 (dk_at dksX7_unlike_0 4 rfl rfl)
theorem dX7_unlike_5 : decode cX7_unlike 5 = .ok (.aload_n 0, 1) := dk_42 (dk_at dksX7_unlike_0 5 rfl rfl)
theorem dX7_unlike_6 : decode cX7_unlike 6 = .ok (.getfield 434, 3) := dk_180 1 178 (dk_at dksX7_unlike_0 6 rfl rfl)
theorem dX7_unlike_9 : decode cX7_unlike 9 = .ok (.if_icmp .ge 78, 3) := dk_162 0 78 (dk_at dksX7_unlike_0 9 rfl rfl)
theorem dX7_unlike_12 : decode cX7_unlike 12 = .ok (.iconst 1, 1) := dk_4 (dk_at dksX7_unlike_0 12 rfl rfl)
theorem dX7_unlike_13 : decode cX7_unlike 13 = .ok (.istore 4, 2) := dk_54 4 (dk_at dksX7_unlike_0 13 rfl rfl)
theorem dX7_unlike_15 : decode cX7_unlike 15 = .ok (.iconst 0, 1) := dk_3 (dk_at dksX7_unlike_0 15 rfl rfl)
theorem dX7_unlike_16 : decode cX7_unlike 16 = .ok (.istore 5, 2) := dk_54 5 (dk_at dksX7_unlike_0 16 rfl rfl)
theorem dX7_unlike_18 : decode cX7_unlike 18 = .ok (.iload 5, 2) := dk_21 5 (dk_at dksX7_unlike_0 18 rfl rfl)
theorem dX7_unlike_20 : decode cX7_unlike 20 = .ok (.iload_n 3, 1) := dk_29 (dk_at dksX7_unlike_0 20 rfl rfl)
theorem dX7_unlike_21 : decode cX7_unlike 21 = .ok (.if_icmp .ge 47, 3) := dk_162 0 47 (dk_at dksX7_unlike_0 21 rfl rfl)
theorem dX7_unlike_24 : decode cX7_unlike 24 = .ok (.iload 4, 2) := dk_21 4 (dk_at dksX7_unlike_1 0 rfl rfl)
theorem dX7_unlike_26 : decode cX7_unlike 26 = .ok (.ifCond .eq 42, 3) := dk_153 0 42 (dk_at dksX7_unlike_1 2 rfl rfl)
theorem dX7_unlike_29 : decode cX7_unlike 29 = .ok (.aload_n 0, 1) := dk_42 (dk_at dksX7_unlike_1 5 rfl rfl)
theorem dX7_unlike_30 : decode cX7_unlike 30 = .ok (.getfield 129, 3) := dk_180 0 129 (dk_at dksX7_unlike_1 6 rfl rfl)
theorem dX7_unlike_33 : decode cX7_unlike 33 = .ok (.bipush 6, 2) := dk_16 6 (dk_at dksX7_unlike_1 9 rfl rfl)
theorem dX7_unlike_35 : decode cX7_unlike 35 = .ok (.iload 5, 2) := dk_21 5 (dk_at dksX7_unlike_1 11 rfl rfl)
theorem dX7_unlike_37 : decode cX7_unlike 37 = .ok (.imul, 1) := dk_104 (dk_at dksX7_unlike_1 13 rfl rfl)
theorem dX7_unlike_38 : decode cX7_unlike 38 = .ok (.iload_n 1, 1) := dk_27 (dk_at dksX7_unlike_1 14 rfl rfl)
theorem dX7_unlike_39 : decode cX7_unlike 39 = .ok (.iadd, 1) := dk_96 (dk_at dksX7_unlike_1 15 rfl rfl)
theorem dX7_unlike_40 : decode cX7_unlike 40 = .ok (.iaload, 1) := dk_46 (dk_at dksX7_unlike_1 16 rfl rfl)
theorem dX7_unlike_41 : decode cX7_unlike 41 = .ok (.aload_n 0, 1) := dk_42 (dk_at dksX7_unlike_1 17 rfl rfl)
theorem dX7_unlike_42 : decode cX7_unlike 42 = .ok (.getfield 129, 3) := dk_180 0 129 (dk_at dksX7_unlike_1 18 rfl rfl)
theorem dX7_unlike_45 : decode cX7_unlike 45 = .ok (.bipush 6, 2) := dk_16 6 (dk_at dksX7_unlike_1 21 rfl rfl)
theorem dX7_unlike_47 : decode cX7_unlike 47 = .ok (.iload_n 3, 1) := dk_29 (dk_at dksX7_unlike_1 23 rfl rfl)
theorem dX7_unlike_48 : decode cX7_unlike 48 = .ok (.imul, 1) := dk_104 (dk_at dksX7_unlike_2 0 rfl rfl)
theorem dX7_unlike_49 : decode cX7_unlike 49 = .ok (.iload_n 1, 1) := dk_27 (dk_at dksX7_unlike_2 1 rfl rfl)
theorem dX7_unlike_50 : decode cX7_unlike 50 = .ok (.iadd, 1) := dk_96 (dk_at dksX7_unlike_2 2 rfl rfl)
theorem dX7_unlike_51 : decode cX7_unlike 51 = .ok (.iaload, 1) := dk_46 (dk_at dksX7_unlike_2 3 rfl rfl)
theorem dX7_unlike_52 : decode cX7_unlike 52 = .ok (.if_icmp .eq 7, 3) := dk_159 0 7 (dk_at dksX7_unlike_2 4 rfl rfl)
theorem dX7_unlike_55 : decode cX7_unlike 55 = .ok (.iconst 1, 1) := dk_4 (dk_at dksX7_unlike_2 7 rfl rfl)
theorem dX7_unlike_56 : decode cX7_unlike 56 = .ok (.goto 4, 3) := dk_167 0 4 (dk_at dksX7_unlike_2 8 rfl rfl)
theorem dX7_unlike_59 : decode cX7_unlike 59 = .ok (.iconst 0, 1) := dk_3 (dk_at dksX7_unlike_2 11 rfl rfl)
theorem dX7_unlike_60 : decode cX7_unlike 60 = .ok (.istore 4, 2) := dk_54 4 (dk_at dksX7_unlike_2 12 rfl rfl)
theorem dX7_unlike_62 : decode cX7_unlike 62 = .ok (.iinc 5 1, 3) := dk_132 5 1 (dk_at dksX7_unlike_2 14 rfl rfl)
theorem dX7_unlike_65 : decode cX7_unlike 65 = .ok (.goto (-47), 3) := dk_167 255 209 (dk_at dksX7_unlike_2 17 rfl rfl)
theorem dX7_unlike_68 : decode cX7_unlike 68 = .ok (.iload_n 2, 1) := dk_28 (dk_at dksX7_unlike_2 20 rfl rfl)
theorem dX7_unlike_69 : decode cX7_unlike 69 = .ok (.iload 4, 2) := dk_21 4 (dk_at dksX7_unlike_2 21 rfl rfl)
theorem dX7_unlike_71 : decode cX7_unlike 71 = .ok (.ifCond .eq 7, 3) := dk_153 0 7 (dk_at dksX7_unlike_3 0 rfl rfl)
theorem dX7_unlike_74 : decode cX7_unlike 74 = .ok (.iconst 1, 1) := dk_4 (dk_at dksX7_unlike_3 3 rfl rfl)
theorem dX7_unlike_75 : decode cX7_unlike 75 = .ok (.goto 4, 3) := dk_167 0 4 (dk_at dksX7_unlike_3 4 rfl rfl)
theorem dX7_unlike_78 : decode cX7_unlike 78 = .ok (.iconst 0, 1) := dk_3 (dk_at dksX7_unlike_3 7 rfl rfl)
theorem dX7_unlike_79 : decode cX7_unlike 79 = .ok (.iadd, 1) := dk_96 (dk_at dksX7_unlike_3 8 rfl rfl)
theorem dX7_unlike_80 : decode cX7_unlike 80 = .ok (.istore_n 2, 1) := dk_61 (dk_at dksX7_unlike_3 9 rfl rfl)
theorem dX7_unlike_81 : decode cX7_unlike 81 = .ok (.iinc 3 1, 3) := dk_132 3 1 (dk_at dksX7_unlike_3 10 rfl rfl)
theorem dX7_unlike_84 : decode cX7_unlike 84 = .ok (.goto (-80), 3) := dk_167 255 176 (dk_at dksX7_unlike_3 13 rfl rfl)
theorem dX7_unlike_87 : decode cX7_unlike 87 = .ok (.iload_n 2, 1) := dk_28 (dk_at dksX7_unlike_3 16 rfl rfl)
theorem dX7_unlike_88 : decode cX7_unlike 88 = .ok (.ireturn, 1) := dk_172 (dk_at dksX7_unlike_3 17 rfl rfl)
abbrev cX7_forget : ByteArray := prog_18_method_95_code
def yX7_forget : MethodName := ⟨RX7, "forget", "()V"⟩
def dkwX7_forget_0 : List UInt8 := [42, 3, 181, 0, 150, 42, 3, 181, 1, 71, 177]
abbrev dktX7_forget_0 : List UInt8 := dkwX7_forget_0 ++ []
theorem dksX7_forget_0 : cX7_forget.data.toList.drop 0 = dktX7_forget_0 := by decide +kernel
theorem dX7_forget_0 : decode cX7_forget 0 = .ok (.aload_n 0, 1) := dk_42 (dk_at dksX7_forget_0 0 rfl rfl)
theorem dX7_forget_1 : decode cX7_forget 1 = .ok (.iconst 0, 1) := dk_3 (dk_at dksX7_forget_0 1 rfl rfl)
theorem dX7_forget_2 : decode cX7_forget 2 = .ok (.putfield 150, 3) := dk_181 0 150 (dk_at dksX7_forget_0 2 rfl rfl)
theorem dX7_forget_5 : decode cX7_forget 5 = .ok (.aload_n 0, 1) := dk_42 (dk_at dksX7_forget_0 5 rfl rfl)
theorem dX7_forget_6 : decode cX7_forget 6 = .ok (.iconst 0, 1) := dk_3 (dk_at dksX7_forget_0 6 rfl rfl)
theorem dX7_forget_7 : decode cX7_forget 7 = .ok (.putfield 327, 3) := dk_181 1 71 (dk_at dksX7_forget_0 7 rfl rfl)
theorem dX7_forget_10 : decode cX7_forget 10 = .ok (.return_, 1) := dk_177 (dk_at dksX7_forget_0 10 rfl rfl)
abbrev cX7_game : ByteArray := prog_18_method_97_code
def yX7_game : MethodName := ⟨RX7, "game", "(IIIII)I"⟩
def dkwX7_game_9 : List UInt8 := [21, 5, 154, 0, 8, 21, 6, 167, 0, 5, 21, 7, 172]
abbrev dktX7_game_9 : List UInt8 := dkwX7_game_9 ++ []
def dkwX7_game_8 : List UInt8 := [21, 8, 5, 108, 104, 21, 8, 5, 112, 96, 167, 0, 5, 21, 7, 54, 7, 132, 8, 1, 167, 255, 130]
abbrev dktX7_game_8 : List UInt8 := dkwX7_game_8 ++ dktX7_game_9
def dkwX7_game_7 : List UInt8 := [21, 10, 21, 9, 182, 1, 193, 164, 0, 6, 167, 0, 31, 132, 6, 1, 21, 7, 2, 160, 0, 18, 16, 10]
abbrev dktX7_game_7 : List UInt8 := dkwX7_game_7 ++ dktX7_game_8
def dkwX7_game_6 : List UInt8 := [182, 1, 193, 163, 0, 62, 42, 28, 27, 29, 21, 4, 96, 21, 10, 100, 21, 9, 182, 1, 193, 42, 28, 27]
abbrev dktX7_game_6 : List UInt8 := dkwX7_game_6 ++ dktX7_game_7
def dkwX7_game_5 : List UInt8 := [54, 10, 42, 27, 28, 29, 21, 4, 96, 21, 9, 100, 21, 10, 182, 1, 193, 42, 27, 28, 21, 9, 21, 10]
abbrev dktX7_game_5 : List UInt8 := dkwX7_game_5 ++ dktX7_game_6
def dkwX7_game_4 : List UInt8 := [154, 0, 7, 29, 167, 0, 5, 21, 4, 54, 9, 21, 8, 5, 112, 154, 0, 7, 29, 167, 0, 5, 21, 4]
abbrev dktX7_game_4 : List UInt8 := dkwX7_game_4 ++ dktX7_game_5
def dkwX7_game_3 : List UInt8 := [182, 1, 47, 172, 3, 54, 6, 2, 54, 7, 3, 54, 8, 21, 8, 7, 162, 0, 126, 21, 8, 5, 108]
abbrev dktX7_game_3 : List UInt8 := dkwX7_game_3 ++ dktX7_game_4
def dkwX7_game_2 : List UInt8 := [164, 0, 9, 42, 4, 182, 1, 47, 172, 27, 28, 159, 0, 9, 29, 21, 4, 160, 0, 9, 42, 5]
abbrev dktX7_game_2 : List UInt8 := dkwX7_game_2 ++ dktX7_game_3
def dkwX7_game_1 : List UInt8 := [182, 1, 126, 153, 0, 23, 42, 21, 4, 182, 1, 126, 153, 0, 14, 21, 5, 155, 0, 9, 21, 5, 4]
abbrev dktX7_game_1 : List UInt8 := dkwX7_game_1 ++ dktX7_game_2
def dkwX7_game_0 : List UInt8 := [42, 3, 181, 0, 150, 42, 27, 182, 1, 165, 153, 0, 39, 42, 28, 182, 1, 165, 153, 0, 31, 42, 29]
abbrev dktX7_game_0 : List UInt8 := dkwX7_game_0 ++ dktX7_game_1
theorem dksX7_game_0 : cX7_game.data.toList.drop 0 = dktX7_game_0 := by decide +kernel
theorem dksX7_game_1 : cX7_game.data.toList.drop 23 = dktX7_game_1 := dk_seg dksX7_game_0 23 rfl rfl
theorem dksX7_game_2 : cX7_game.data.toList.drop 46 = dktX7_game_2 := dk_seg dksX7_game_1 23 rfl rfl
theorem dksX7_game_3 : cX7_game.data.toList.drop 68 = dktX7_game_3 := dk_seg dksX7_game_2 22 rfl rfl
theorem dksX7_game_4 : cX7_game.data.toList.drop 91 = dktX7_game_4 := dk_seg dksX7_game_3 23 rfl rfl
theorem dksX7_game_5 : cX7_game.data.toList.drop 115 = dktX7_game_5 := dk_seg dksX7_game_4 24 rfl rfl
theorem dksX7_game_6 : cX7_game.data.toList.drop 139 = dktX7_game_6 := dk_seg dksX7_game_5 24 rfl rfl
theorem dksX7_game_7 : cX7_game.data.toList.drop 163 = dktX7_game_7 := dk_seg dksX7_game_6 24 rfl rfl
theorem dksX7_game_8 : cX7_game.data.toList.drop 187 = dktX7_game_8 := dk_seg dksX7_game_7 24 rfl rfl
theorem dksX7_game_9 : cX7_game.data.toList.drop 210 = dktX7_game_9 := dk_seg dksX7_game_8 23 rfl rfl
theorem dX7_game_0 : decode cX7_game 0 = .ok (.aload_n 0, 1) := dk_42 (dk_at dksX7_game_0 0 rfl rfl)
theorem dX7_game_1 : decode cX7_game 1 = .ok (.iconst 0, 1) := dk_3 (dk_at dksX7_game_0 1 rfl rfl)
theorem dX7_game_2 : decode cX7_game 2 = .ok (.putfield 150, 3) := dk_181 0 150 (dk_at dksX7_game_0 2 rfl rfl)
theorem dX7_game_5 : decode cX7_game 5 = .ok (.aload_n 0, 1) := dk_42 (dk_at dksX7_game_0 5 rfl rfl)
theorem dX7_game_6 : decode cX7_game 6 = .ok (.iload_n 1, 1) := dk_27 (dk_at dksX7_game_0 6 rfl rfl)
theorem dX7_game_7 : decode cX7_game 7 = .ok (.invokevirtual 421, 3) := dk_182 1 165 (dk_at dksX7_game_0 7 rfl rfl)
theorem dX7_game_10 : decode cX7_game 10 = .ok (.ifCond .eq 39, 3) := dk_153 0 39 (dk_at dksX7_game_0 10 rfl rfl)
theorem dX7_game_13 : decode cX7_game 13 = .ok (.aload_n 0, 1) := dk_42 (dk_at dksX7_game_0 13 rfl rfl)
theorem dX7_game_14 : decode cX7_game 14 = .ok (.iload_n 2, 1) := dk_28 (dk_at dksX7_game_0 14 rfl rfl)
theorem dX7_game_15 : decode cX7_game 15 = .ok (.invokevirtual 421, 3) := dk_182 1 165 (dk_at dksX7_game_0 15 rfl rfl)
theorem dX7_game_18 : decode cX7_game 18 = .ok (.ifCond .eq 31, 3) := dk_153 0 31 (dk_at dksX7_game_0 18 rfl rfl)
theorem dX7_game_21 : decode cX7_game 21 = .ok (.aload_n 0, 1) := dk_42 (dk_at dksX7_game_0 21 rfl rfl)
theorem dX7_game_22 : decode cX7_game 22 = .ok (.iload_n 3, 1) := dk_29 (dk_at dksX7_game_0 22 rfl rfl)
theorem dX7_game_23 : decode cX7_game 23 = .ok (.invokevirtual 382, 3) := dk_182 1 126 (dk_at dksX7_game_1 0 rfl rfl)
theorem dX7_game_26 : decode cX7_game 26 = .ok (.ifCond .eq 23, 3) := dk_153 0 23 (dk_at dksX7_game_1 3 rfl rfl)
theorem dX7_game_29 : decode cX7_game 29 = .ok (.aload_n 0, 1) := dk_42 (dk_at dksX7_game_1 6 rfl rfl)
theorem dX7_game_30 : decode cX7_game 30 = .ok (.iload 4, 2) := dk_21 4 (dk_at dksX7_game_1 7 rfl rfl)
theorem dX7_game_32 : decode cX7_game 32 = .ok (.invokevirtual 382, 3) := dk_182 1 126 (dk_at dksX7_game_1 9 rfl rfl)
theorem dX7_game_35 : decode cX7_game 35 = .ok (.ifCond .eq 14, 3) := dk_153 0 14 (dk_at dksX7_game_1 12 rfl rfl)
theorem dX7_game_38 : decode cX7_game 38 = .ok (.iload 5, 2) := dk_21 5 (dk_at dksX7_game_1 15 rfl rfl)
theorem dX7_game_40 : decode cX7_game 40 = .ok (.ifCond .lt 9, 3) := dk_155 0 9 (dk_at dksX7_game_1 17 rfl rfl)
theorem dX7_game_43 : decode cX7_game 43 = .ok (.iload 5, 2) := dk_21 5 (dk_at dksX7_game_1 20 rfl rfl)
theorem dX7_game_45 : decode cX7_game 45 = .ok (.iconst 1, 1) := dk_4 (dk_at dksX7_game_1 22 rfl rfl)
theorem dX7_game_46 : decode cX7_game 46 = .ok (.if_icmp .le 9, 3) := dk_164 0 9 (dk_at dksX7_game_2 0 rfl rfl)
theorem dX7_game_49 : decode cX7_game 49 = .ok (.aload_n 0, 1) := dk_42 (dk_at dksX7_game_2 3 rfl rfl)
theorem dX7_game_50 : decode cX7_game 50 = .ok (.iconst 1, 1) := dk_4 (dk_at dksX7_game_2 4 rfl rfl)
theorem dX7_game_51 : decode cX7_game 51 = .ok (.invokevirtual 303, 3) := dk_182 1 47 (dk_at dksX7_game_2 5 rfl rfl)
theorem dX7_game_54 : decode cX7_game 54 = .ok (.ireturn, 1) := dk_172 (dk_at dksX7_game_2 8 rfl rfl)
theorem dX7_game_55 : decode cX7_game 55 = .ok (.iload_n 1, 1) := dk_27 (dk_at dksX7_game_2 9 rfl rfl)
theorem dX7_game_56 : decode cX7_game 56 = .ok (.iload_n 2, 1) := dk_28 (dk_at dksX7_game_2 10 rfl rfl)
theorem dX7_game_57 : decode cX7_game 57 = .ok (.if_icmp .eq 9, 3) := dk_159 0 9 (dk_at dksX7_game_2 11 rfl rfl)
theorem dX7_game_60 : decode cX7_game 60 = .ok (.iload_n 3, 1) := dk_29 (dk_at dksX7_game_2 14 rfl rfl)
theorem dX7_game_61 : decode cX7_game 61 = .ok (.iload 4, 2) := dk_21 4 (dk_at dksX7_game_2 15 rfl rfl)
theorem dX7_game_63 : decode cX7_game 63 = .ok (.if_icmp .ne 9, 3) := dk_160 0 9 (dk_at dksX7_game_2 17 rfl rfl)
theorem dX7_game_66 : decode cX7_game 66 = .ok (.aload_n 0, 1) := dk_42 (dk_at dksX7_game_2 20 rfl rfl)
theorem dX7_game_67 : decode cX7_game 67 = .ok (.iconst 2, 1) := dk_5 (dk_at dksX7_game_2 21 rfl rfl)
theorem dX7_game_68 : decode cX7_game 68 = .ok (.invokevirtual 303, 3) := dk_182 1 47 (dk_at dksX7_game_3 0 rfl rfl)
theorem dX7_game_71 : decode cX7_game 71 = .ok (.ireturn, 1) := dk_172 (dk_at dksX7_game_3 3 rfl rfl)
theorem dX7_game_72 : decode cX7_game 72 = .ok (.iconst 0, 1) := dk_3 (dk_at dksX7_game_3 4 rfl rfl)
theorem dX7_game_73 : decode cX7_game 73 = .ok (.istore 6, 2) := dk_54 6 (dk_at dksX7_game_3 5 rfl rfl)
theorem dX7_game_75 : decode cX7_game 75 = .ok (.iconst (-1), 1) := dk_2 (dk_at dksX7_game_3 7 rfl rfl)
theorem dX7_game_76 : decode cX7_game 76 = .ok (.istore 7, 2) := dk_54 7 (dk_at dksX7_game_3 8 rfl rfl)
theorem dX7_game_78 : decode cX7_game 78 = .ok (.iconst 0, 1) := dk_3 (dk_at dksX7_game_3 10 rfl rfl)
theorem dX7_game_79 : decode cX7_game 79 = .ok (.istore 8, 2) := dk_54 8 (dk_at dksX7_game_3 11 rfl rfl)
theorem dX7_game_81 : decode cX7_game 81 = .ok (.iload 8, 2) := dk_21 8 (dk_at dksX7_game_3 13 rfl rfl)
theorem dX7_game_83 : decode cX7_game 83 = .ok (.iconst 4, 1) := dk_7 (dk_at dksX7_game_3 15 rfl rfl)
theorem dX7_game_84 : decode cX7_game 84 = .ok (.if_icmp .ge 126, 3) := dk_162 0 126 (dk_at dksX7_game_3 16 rfl rfl)
theorem dX7_game_87 : decode cX7_game 87 = .ok (.iload 8, 2) := dk_21 8 (dk_at dksX7_game_3 19 rfl rfl)
theorem dX7_game_89 : decode cX7_game 89 = .ok (.iconst 2, 1) := dk_5 (dk_at dksX7_game_3 21 rfl rfl)
theorem dX7_game_90 : decode cX7_game 90 = .ok (.idiv, 1) := dk_108 (dk_at dksX7_game_3 22 rfl rfl)
theorem dX7_game_91 : decode cX7_game 91 = .ok (.ifCond .ne 7, 3) := dk_154 0 7 (dk_at dksX7_game_4 0 rfl rfl)
theorem dX7_game_94 : decode cX7_game 94 = .ok (.iload_n 3, 1) := dk_29 (dk_at dksX7_game_4 3 rfl rfl)
theorem dX7_game_95 : decode cX7_game 95 = .ok (.goto 5, 3) := dk_167 0 5 (dk_at dksX7_game_4 4 rfl rfl)
theorem dX7_game_98 : decode cX7_game 98 = .ok (.iload 4, 2) := dk_21 4 (dk_at dksX7_game_4 7 rfl rfl)
theorem dX7_game_100 : decode cX7_game 100 = .ok (.istore 9, 2) := dk_54 9 (dk_at dksX7_game_4 9 rfl rfl)
theorem dX7_game_102 : decode cX7_game 102 = .ok (.iload 8, 2) := dk_21 8 (dk_at dksX7_game_4 11 rfl rfl)
theorem dX7_game_104 : decode cX7_game 104 = .ok (.iconst 2, 1) := dk_5 (dk_at dksX7_game_4 13 rfl rfl)
theorem dX7_game_105 : decode cX7_game 105 = .ok (.irem, 1) := dk_112 (dk_at dksX7_game_4 14 rfl rfl)
theorem dX7_game_106 : decode cX7_game 106 = .ok (.ifCond .ne 7, 3) := dk_154 0 7 (dk_at dksX7_game_4 15 rfl rfl)
theorem dX7_game_109 : decode cX7_game 109 = .ok (.iload_n 3, 1) := dk_29 (dk_at dksX7_game_4 18 rfl rfl)
theorem dX7_game_110 : decode cX7_game 110 = .ok (.goto 5, 3) := dk_167 0 5 (dk_at dksX7_game_4 19 rfl rfl)
theorem dX7_game_113 : decode cX7_game 113 = .ok (.iload 4, 2) := dk_21 4 (dk_at dksX7_game_4 22 rfl rfl)
theorem dX7_game_115 : decode cX7_game 115 = .ok (.istore 10, 2) := dk_54 10 (dk_at dksX7_game_5 0 rfl rfl)
theorem dX7_game_117 : decode cX7_game 117 = .ok (.aload_n 0, 1) := dk_42 (dk_at dksX7_game_5 2 rfl rfl)
theorem dX7_game_118 : decode cX7_game 118 = .ok (.iload_n 1, 1) := dk_27 (dk_at dksX7_game_5 3 rfl rfl)
theorem dX7_game_119 : decode cX7_game 119 = .ok (.iload_n 2, 1) := dk_28 (dk_at dksX7_game_5 4 rfl rfl)
theorem dX7_game_120 : decode cX7_game 120 = .ok (.iload_n 3, 1) := dk_29 (dk_at dksX7_game_5 5 rfl rfl)
theorem dX7_game_121 : decode cX7_game 121 = .ok (.iload 4, 2) := dk_21 4 (dk_at dksX7_game_5 6 rfl rfl)
theorem dX7_game_123 : decode cX7_game 123 = .ok (.iadd, 1) := dk_96 (dk_at dksX7_game_5 8 rfl rfl)
theorem dX7_game_124 : decode cX7_game 124 = .ok (.iload 9, 2) := dk_21 9 (dk_at dksX7_game_5 9 rfl rfl)
theorem dX7_game_126 : decode cX7_game 126 = .ok (.isub, 1) := dk_100 (dk_at dksX7_game_5 11 rfl rfl)
theorem dX7_game_127 : decode cX7_game 127 = .ok (.iload 10, 2) := dk_21 10 (dk_at dksX7_game_5 12 rfl rfl)
theorem dX7_game_129 : decode cX7_game 129 = .ok (.invokevirtual 449, 3) := dk_182 1 193 (dk_at dksX7_game_5 14 rfl rfl)
theorem dX7_game_132 : decode cX7_game 132 = .ok (.aload_n 0, 1) := dk_42 (dk_at dksX7_game_5 17 rfl rfl)
theorem dX7_game_133 : decode cX7_game 133 = .ok (.iload_n 1, 1) := dk_27 (dk_at dksX7_game_5 18 rfl rfl)
theorem dX7_game_134 : decode cX7_game 134 = .ok (.iload_n 2, 1) := dk_28 (dk_at dksX7_game_5 19 rfl rfl)
theorem dX7_game_135 : decode cX7_game 135 = .ok (.iload 9, 2) := dk_21 9 (dk_at dksX7_game_5 20 rfl rfl)
theorem dX7_game_137 : decode cX7_game 137 = .ok (.iload 10, 2) := dk_21 10 (dk_at dksX7_game_5 22 rfl rfl)
theorem dX7_game_139 : decode cX7_game 139 = .ok (.invokevirtual 449, 3) := dk_182 1 193 (dk_at dksX7_game_6 0 rfl rfl)
theorem dX7_game_142 : decode cX7_game 142 = .ok (.if_icmp .gt 62, 3) := dk_163 0 62 (dk_at dksX7_game_6 3 rfl rfl)
theorem dX7_game_145 : decode cX7_game 145 = .ok (.aload_n 0, 1) := dk_42 (dk_at dksX7_game_6 6 rfl rfl)
theorem dX7_game_146 : decode cX7_game 146 = .ok (.iload_n 2, 1) := dk_28 (dk_at dksX7_game_6 7 rfl rfl)
theorem dX7_game_147 : decode cX7_game 147 = .ok (.iload_n 1, 1) := dk_27 (dk_at dksX7_game_6 8 rfl rfl)
theorem dX7_game_148 : decode cX7_game 148 = .ok (.iload_n 3, 1) := dk_29 (dk_at dksX7_game_6 9 rfl rfl)
theorem dX7_game_149 : decode cX7_game 149 = .ok (.iload 4, 2) := dk_21 4 (dk_at dksX7_game_6 10 rfl rfl)
theorem dX7_game_151 : decode cX7_game 151 = .ok (.iadd, 1) := dk_96 (dk_at dksX7_game_6 12 rfl rfl)
theorem dX7_game_152 : decode cX7_game 152 = .ok (.iload 10, 2) := dk_21 10 (dk_at dksX7_game_6 13 rfl rfl)
theorem dX7_game_154 : decode cX7_game 154 = .ok (.isub, 1) := dk_100 (dk_at dksX7_game_6 15 rfl rfl)
theorem dX7_game_155 : decode cX7_game 155 = .ok (.iload 9, 2) := dk_21 9 (dk_at dksX7_game_6 16 rfl rfl)
theorem dX7_game_157 : decode cX7_game 157 = .ok (.invokevirtual 449, 3) := dk_182 1 193 (dk_at dksX7_game_6 18 rfl rfl)
theorem dX7_game_160 : decode cX7_game 160 = .ok (.aload_n 0, 1) := dk_42 (dk_at dksX7_game_6 21 rfl rfl)
theorem dX7_game_161 : decode cX7_game 161 = .ok (.iload_n 2, 1) := dk_28 (dk_at dksX7_game_6 22 rfl rfl)
theorem dX7_game_162 : decode cX7_game 162 = .ok (.iload_n 1, 1) := dk_27 (dk_at dksX7_game_6 23 rfl rfl)
theorem dX7_game_163 : decode cX7_game 163 = .ok (.iload 10, 2) := dk_21 10 (dk_at dksX7_game_7 0 rfl rfl)
theorem dX7_game_165 : decode cX7_game 165 = .ok (.iload 9, 2) := dk_21 9 (dk_at dksX7_game_7 2 rfl rfl)
theorem dX7_game_167 : decode cX7_game 167 = .ok (.invokevirtual 449, 3) := dk_182 1 193 (dk_at dksX7_game_7 4 rfl rfl)
theorem dX7_game_170 : decode cX7_game 170 = .ok (.if_icmp .le 6, 3) := dk_164 0 6 (dk_at dksX7_game_7 7 rfl rfl)
theorem dX7_game_173 : decode cX7_game 173 = .ok (.goto 31, 3) := dk_167 0 31 (dk_at dksX7_game_7 10 rfl rfl)
theorem dX7_game_176 : decode cX7_game 176 = .ok (.iinc 6 1, 3) := dk_132 6 1 (dk_at dksX7_game_7 13 rfl rfl)
theorem dX7_game_179 : decode cX7_game 179 = .ok (.iload 7, 2) := dk_21 7 (dk_at dksX7_game_7 16 rfl rfl)
theorem dX7_game_181 : decode cX7_game 181 = .ok (.iconst (-1), 1) := dk_2 (dk_at dksX7_game_7 18 rfl rfl)
theorem dX7_game_182 : decode cX7_game 182 = .ok (.if_icmp .ne 18, 3) := dk_160 0 18 (dk_at dksX7_game_7 19 rfl rfl)
theorem dX7_game_185 : decode cX7_game 185 = .ok (.bipush 10, 2) := dk_16 10 (dk_at dksX7_game_7 22 rfl rfl)
theorem dX7_game_187 : decode cX7_game 187 = .ok (.iload 8, 2) := dk_21 8 (dk_at dksX7_game_8 0 rfl rfl)
theorem dX7_game_189 : decode cX7_game 189 = .ok (.iconst 2, 1) := dk_5 (dk_at dksX7_game_8 2 rfl rfl)
theorem dX7_game_190 : decode cX7_game 190 = .ok (.idiv, 1) := dk_108 (dk_at dksX7_game_8 3 rfl rfl)
theorem dX7_game_191 : decode cX7_game 191 = .ok (.imul, 1) := dk_104 (dk_at dksX7_game_8 4 rfl rfl)
theorem dX7_game_192 : decode cX7_game 192 = .ok (.iload 8, 2) := dk_21 8 (dk_at dksX7_game_8 5 rfl rfl)
theorem dX7_game_194 : decode cX7_game 194 = .ok (.iconst 2, 1) := dk_5 (dk_at dksX7_game_8 7 rfl rfl)
theorem dX7_game_195 : decode cX7_game 195 = .ok (.irem, 1) := dk_112 (dk_at dksX7_game_8 8 rfl rfl)
theorem dX7_game_196 : decode cX7_game 196 = .ok (.iadd, 1) := dk_96 (dk_at dksX7_game_8 9 rfl rfl)
theorem dX7_game_197 : decode cX7_game 197 = .ok (.goto 5, 3) := dk_167 0 5 (dk_at dksX7_game_8 10 rfl rfl)
theorem dX7_game_200 : decode cX7_game 200 = .ok (.iload 7, 2) := dk_21 7 (dk_at dksX7_game_8 13 rfl rfl)
theorem dX7_game_202 : decode cX7_game 202 = .ok (.istore 7, 2) := dk_54 7 (dk_at dksX7_game_8 15 rfl rfl)
theorem dX7_game_204 : decode cX7_game 204 = .ok (.iinc 8 1, 3) := dk_132 8 1 (dk_at dksX7_game_8 17 rfl rfl)
theorem dX7_game_207 : decode cX7_game 207 = .ok (.goto (-126), 3) := dk_167 255 130 (dk_at dksX7_game_8 20 rfl rfl)
theorem dX7_game_210 : decode cX7_game 210 = .ok (.iload 5, 2) := dk_21 5 (dk_at dksX7_game_9 0 rfl rfl)
theorem dX7_game_212 : decode cX7_game 212 = .ok (.ifCond .ne 8, 3) := dk_154 0 8 (dk_at dksX7_game_9 2 rfl rfl)
theorem dX7_game_215 : decode cX7_game 215 = .ok (.iload 6, 2) := dk_21 6 (dk_at dksX7_game_9 5 rfl rfl)
theorem dX7_game_217 : decode cX7_game 217 = .ok (.goto 5, 3) := dk_167 0 5 (dk_at dksX7_game_9 7 rfl rfl)
theorem dX7_game_220 : decode cX7_game 220 = .ok (.iload 7, 2) := dk_21 7 (dk_at dksX7_game_9 10 rfl rfl)
theorem dX7_game_222 : decode cX7_game 222 = .ok (.ireturn, 1) := dk_172 (dk_at dksX7_game_9 12 rfl rfl)
abbrev cX7_gain : ByteArray := prog_18_method_96_code
def yX7_gain : MethodName := ⟨RX7, "gain", "(IIII)I"⟩
def dkwX7_gain_3 : List UInt8 := [167, 0, 22, 21, 6, 21, 5, 160, 0, 14, 42, 180, 0, 86, 29, 46, 5, 108, 167, 0, 4, 3, 172]
abbrev dktX7_gain_3 : List UInt8 := dkwX7_gain_3 ++ []
def dkwX7_gain_2 : List UInt8 := [182, 1, 162, 167, 0, 5, 18, 186, 54, 6, 21, 6, 21, 5, 164, 0, 12, 42, 180, 0, 86, 29, 46]
abbrev dktX7_gain_2 : List UInt8 := dkwX7_gain_2 ++ dktX7_gain_3
def dkwX7_gain_1 : List UInt8 := [161, 0, 5, 3, 172, 21, 4, 29, 160, 0, 22, 42, 42, 180, 0, 56, 28, 46, 42, 180, 0, 80, 29, 46]
abbrev dktX7_gain_1 : List UInt8 := dkwX7_gain_1 ++ dktX7_gain_2
def dkwX7_gain_0 : List UInt8 := [42, 42, 180, 0, 56, 27, 46, 42, 180, 0, 80, 29, 46, 182, 1, 162, 54, 5, 21, 5, 18, 186]
abbrev dktX7_gain_0 : List UInt8 := dkwX7_gain_0 ++ dktX7_gain_1
theorem dksX7_gain_0 : cX7_gain.data.toList.drop 0 = dktX7_gain_0 := by decide +kernel
theorem dksX7_gain_1 : cX7_gain.data.toList.drop 22 = dktX7_gain_1 := dk_seg dksX7_gain_0 22 rfl rfl
theorem dksX7_gain_2 : cX7_gain.data.toList.drop 46 = dktX7_gain_2 := dk_seg dksX7_gain_1 24 rfl rfl
theorem dksX7_gain_3 : cX7_gain.data.toList.drop 69 = dktX7_gain_3 := dk_seg dksX7_gain_2 23 rfl rfl
theorem dX7_gain_0 : decode cX7_gain 0 = .ok (.aload_n 0, 1) := dk_42 (dk_at dksX7_gain_0 0 rfl rfl)
theorem dX7_gain_1 : decode cX7_gain 1 = .ok (.aload_n 0, 1) := dk_42 (dk_at dksX7_gain_0 1 rfl rfl)
theorem dX7_gain_2 : decode cX7_gain 2 = .ok (.getfield 56, 3) := dk_180 0 56 (dk_at dksX7_gain_0 2 rfl rfl)
theorem dX7_gain_5 : decode cX7_gain 5 = .ok (.iload_n 1, 1) := dk_27 (dk_at dksX7_gain_0 5 rfl rfl)
theorem dX7_gain_6 : decode cX7_gain 6 = .ok (.iaload, 1) := dk_46 (dk_at dksX7_gain_0 6 rfl rfl)
theorem dX7_gain_7 : decode cX7_gain 7 = .ok (.aload_n 0, 1) := dk_42 (dk_at dksX7_gain_0 7 rfl rfl)
theorem dX7_gain_8 : decode cX7_gain 8 = .ok (.getfield 80, 3) := dk_180 0 80 (dk_at dksX7_gain_0 8 rfl rfl)
theorem dX7_gain_11 : decode cX7_gain 11 = .ok (.iload_n 3, 1) := dk_29 (dk_at dksX7_gain_0 11 rfl rfl)
theorem dX7_gain_12 : decode cX7_gain 12 = .ok (.iaload, 1) := dk_46 (dk_at dksX7_gain_0 12 rfl rfl)
theorem dX7_gain_13 : decode cX7_gain 13 = .ok (.invokevirtual 418, 3) := dk_182 1 162 (dk_at dksX7_gain_0 13 rfl rfl)
theorem dX7_gain_16 : decode cX7_gain 16 = .ok (.istore 5, 2) := dk_54 5 (dk_at dksX7_gain_0 16 rfl rfl)
theorem dX7_gain_18 : decode cX7_gain 18 = .ok (.iload 5, 2) := dk_21 5 (dk_at dksX7_gain_0 18 rfl rfl)
theorem dX7_gain_20 : decode cX7_gain 20 = .ok (.ldc 186, 2) := dk_18 186 (dk_at dksX7_gain_0 20 rfl rfl)
theorem dX7_gain_22 : decode cX7_gain 22 = .ok (.if_icmp .lt 5, 3) := dk_161 0 5 (dk_at dksX7_gain_1 0 rfl rfl)
theorem dX7_gain_25 : decode cX7_gain 25 = .ok (.iconst 0, 1) := dk_3 (dk_at dksX7_gain_1 3 rfl rfl)
theorem dX7_gain_26 : decode cX7_gain 26 = .ok (.ireturn, 1) := dk_172 (dk_at dksX7_gain_1 4 rfl rfl)
theorem dX7_gain_27 : decode cX7_gain 27 = .ok (.iload 4, 2) := dk_21 4 (dk_at dksX7_gain_1 5 rfl rfl)
theorem dX7_gain_29 : decode cX7_gain 29 = .ok (.iload_n 3, 1) := dk_29 (dk_at dksX7_gain_1 7 rfl rfl)
theorem dX7_gain_30 : decode cX7_gain 30 = .ok (.if_icmp .ne 22, 3) := dk_160 0 22 (dk_at dksX7_gain_1 8 rfl rfl)
theorem dX7_gain_33 : decode cX7_gain 33 = .ok (.aload_n 0, 1) := dk_42 (dk_at dksX7_gain_1 11 rfl rfl)
theorem dX7_gain_34 : decode cX7_gain 34 = .ok (.aload_n 0, 1) := dk_42 (dk_at dksX7_gain_1 12 rfl rfl)
theorem dX7_gain_35 : decode cX7_gain 35 = .ok (.getfield 56, 3) := dk_180 0 56 (dk_at dksX7_gain_1 13 rfl rfl)
theorem dX7_gain_38 : decode cX7_gain 38 = .ok (.iload_n 2, 1) := dk_28 (dk_at dksX7_gain_1 16 rfl rfl)
theorem dX7_gain_39 : decode cX7_gain 39 = .ok (.iaload, 1) := dk_46 (dk_at dksX7_gain_1 17 rfl rfl)
theorem dX7_gain_40 : decode cX7_gain 40 = .ok (.aload_n 0, 1) := dk_42 (dk_at dksX7_gain_1 18 rfl rfl)
theorem dX7_gain_41 : decode cX7_gain 41 = .ok (.getfield 80, 3) := dk_180 0 80 (dk_at dksX7_gain_1 19 rfl rfl)
theorem dX7_gain_44 : decode cX7_gain 44 = .ok (.iload_n 3, 1) := dk_29 (dk_at dksX7_gain_1 22 rfl rfl)
theorem dX7_gain_45 : decode cX7_gain 45 = .ok (.iaload, 1) := dk_46 (dk_at dksX7_gain_1 23 rfl rfl)
theorem dX7_gain_46 : decode cX7_gain 46 = .ok (.invokevirtual 418, 3) := dk_182 1 162 (dk_at dksX7_gain_2 0 rfl rfl)
theorem dX7_gain_49 : decode cX7_gain 49 = .ok (.goto 5, 3) := dk_167 0 5 (dk_at dksX7_gain_2 3 rfl rfl)
theorem dX7_gain_52 : decode cX7_gain 52 = .ok (.ldc 186, 2) := dk_18 186 (dk_at dksX7_gain_2 6 rfl rfl)
theorem dX7_gain_54 : decode cX7_gain 54 = .ok (.istore 6, 2) := dk_54 6 (dk_at dksX7_gain_2 8 rfl rfl)
theorem dX7_gain_56 : decode cX7_gain 56 = .ok (.iload 6, 2) := dk_21 6 (dk_at dksX7_gain_2 10 rfl rfl)
theorem dX7_gain_58 : decode cX7_gain 58 = .ok (.iload 5, 2) := dk_21 5 (dk_at dksX7_gain_2 12 rfl rfl)
theorem dX7_gain_60 : decode cX7_gain 60 = .ok (.if_icmp .le 12, 3) := dk_164 0 12 (dk_at dksX7_gain_2 14 rfl rfl)
theorem dX7_gain_63 : decode cX7_gain 63 = .ok (.aload_n 0, 1) := dk_42 (dk_at dksX7_gain_2 17 rfl rfl)
theorem dX7_gain_64 : decode cX7_gain 64 = .ok (.getfield 86, 3) := dk_180 0 86 (dk_at dksX7_gain_2 18 rfl rfl)
theorem dX7_gain_67 : decode cX7_gain 67 = .ok (.iload_n 3, 1) := dk_29 (dk_at dksX7_gain_2 21 rfl rfl)
theorem dX7_gain_68 : decode cX7_gain 68 = .ok (.iaload, 1) := dk_46 (dk_at dksX7_gain_2 22 rfl rfl)
theorem dX7_gain_69 : decode cX7_gain 69 = .ok (.goto 22, 3) := dk_167 0 22 (dk_at dksX7_gain_3 0 rfl rfl)
theorem dX7_gain_72 : decode cX7_gain 72 = .ok (.iload 6, 2) := dk_21 6 (dk_at dksX7_gain_3 3 rfl rfl)
theorem dX7_gain_74 : decode cX7_gain 74 = .ok (.iload 5, 2) := dk_21 5 (dk_at dksX7_gain_3 5 rfl rfl)
theorem dX7_gain_76 : decode cX7_gain 76 = .ok (.if_icmp .ne 14, 3) := dk_160 0 14 (dk_at dksX7_gain_3 7 rfl rfl)
theorem dX7_gain_79 : decode cX7_gain 79 = .ok (.aload_n 0, 1) := dk_42 (dk_at dksX7_gain_3 10 rfl rfl)
theorem dX7_gain_80 : decode cX7_gain 80 = .ok (.getfield 86, 3) := dk_180 0 86 (dk_at dksX7_gain_3 11 rfl rfl)
theorem dX7_gain_83 : decode cX7_gain 83 = .ok (.iload_n 3, 1) := dk_29 (dk_at dksX7_gain_3 14 rfl rfl)
theorem dX7_gain_84 : decode cX7_gain 84 = .ok (.iaload, 1) := dk_46 (dk_at dksX7_gain_3 15 rfl rfl)
theorem dX7_gain_85 : decode cX7_gain 85 = .ok (.iconst 2, 1) := dk_5 (dk_at dksX7_gain_3 16 rfl rfl)
theorem dX7_gain_86 : decode cX7_gain 86 = .ok (.idiv, 1) := dk_108 (dk_at dksX7_gain_3 17 rfl rfl)
theorem dX7_gain_87 : decode cX7_gain 87 = .ok (.goto 4, 3) := dk_167 0 4 (dk_at dksX7_gain_3 18 rfl rfl)
theorem dX7_gain_90 : decode cX7_gain 90 = .ok (.iconst 0, 1) := dk_3 (dk_at dksX7_gain_3 21 rfl rfl)
theorem dX7_gain_91 : decode cX7_gain 91 = .ok (.ireturn, 1) := dk_172 (dk_at dksX7_gain_3 22 rfl rfl)
abbrev cX7_winter : ByteArray := prog_18_method_100_code
def yX7_winter : MethodName := ⟨RX7, "winter", "(III)I"⟩
def dkwX7_winter_7 : List UInt8 := [182, 1, 148, 21, 6, 172]
abbrev dktX7_winter_7 : List UInt8 := dkwX7_winter_7 ++ []
def dkwX7_winter_6 : List UInt8 := [160, 0, 13, 42, 182, 1, 151, 21, 4, 100, 167, 0, 5, 21, 5, 54, 6, 42, 42, 180, 0, 102, 3]
abbrev dktX7_winter_6 : List UInt8 := dkwX7_winter_6 ++ dktX7_winter_7
def dkwX7_winter_5 : List UInt8 := [3, 96, 54, 5, 132, 6, 1, 167, 255, 222, 29, 154, 0, 10, 42, 182, 1, 117, 167, 0, 20, 29, 4]
abbrev dktX7_winter_5 : List UInt8 := dkwX7_winter_5 ++ dktX7_winter_6
def dkwX7_winter_4 : List UInt8 := [180, 0, 29, 3, 46, 162, 0, 29, 21, 5, 42, 180, 0, 72, 21, 6, 46, 154, 0, 7, 4, 167, 0, 4]
abbrev dktX7_winter_4 : List UInt8 := dkwX7_winter_4 ++ dktX7_winter_5
def dkwX7_winter_3 : List UInt8 := [182, 1, 204, 42, 182, 1, 114, 132, 5, 1, 167, 255, 239, 3, 54, 5, 3, 54, 6, 21, 6, 42]
abbrev dktX7_winter_3 : List UInt8 := dkwX7_winter_3 ++ dktX7_winter_4
def dkwX7_winter_2 : List UInt8 := [182, 1, 129, 42, 27, 181, 1, 197, 42, 182, 1, 151, 54, 4, 3, 54, 5, 21, 5, 28, 162, 0, 17, 42]
abbrev dktX7_winter_2 : List UInt8 := dkwX7_winter_2 ++ dktX7_winter_3
def dkwX7_winter_1 : List UInt8 := [133, 9, 20, 1, 144, 184, 0, 153, 154, 0, 9, 42, 5, 182, 1, 47, 172, 42, 42, 180, 0, 102, 3]
abbrev dktX7_winter_1 : List UInt8 := dkwX7_winter_1 ++ dktX7_winter_2
def dkwX7_winter_0 : List UInt8 := [42, 3, 181, 0, 150, 29, 133, 9, 20, 1, 185, 184, 0, 153, 154, 0, 9, 42, 4, 182, 1, 47, 172, 28]
abbrev dktX7_winter_0 : List UInt8 := dkwX7_winter_0 ++ dktX7_winter_1
theorem dksX7_winter_0 : cX7_winter.data.toList.drop 0 = dktX7_winter_0 := by decide +kernel
theorem dksX7_winter_1 : cX7_winter.data.toList.drop 24 = dktX7_winter_1 := dk_seg dksX7_winter_0 24 rfl rfl
theorem dksX7_winter_2 : cX7_winter.data.toList.drop 47 = dktX7_winter_2 := dk_seg dksX7_winter_1 23 rfl rfl
theorem dksX7_winter_3 : cX7_winter.data.toList.drop 71 = dktX7_winter_3 := dk_seg dksX7_winter_2 24 rfl rfl
theorem dksX7_winter_4 : cX7_winter.data.toList.drop 93 = dktX7_winter_4 := dk_seg dksX7_winter_3 22 rfl rfl
theorem dksX7_winter_5 : cX7_winter.data.toList.drop 117 = dktX7_winter_5 := dk_seg dksX7_winter_4 24 rfl rfl
theorem dksX7_winter_6 : cX7_winter.data.toList.drop 140 = dktX7_winter_6 := dk_seg dksX7_winter_5 23 rfl rfl
theorem dksX7_winter_7 : cX7_winter.data.toList.drop 163 = dktX7_winter_7 := dk_seg dksX7_winter_6 23 rfl rfl
theorem dX7_winter_0 : decode cX7_winter 0 = .ok (.aload_n 0, 1) := dk_42 (dk_at dksX7_winter_0 0 rfl rfl)
theorem dX7_winter_1 : decode cX7_winter 1 = .ok (.iconst 0, 1) := dk_3 (dk_at dksX7_winter_0 1 rfl rfl)
theorem dX7_winter_2 : decode cX7_winter 2 = .ok (.putfield 150, 3) := dk_181 0 150 (dk_at dksX7_winter_0 2 rfl rfl)
theorem dX7_winter_5 : decode cX7_winter 5 = .ok (.iload_n 3, 1) := dk_29 (dk_at dksX7_winter_0 5 rfl rfl)
theorem dX7_winter_6 : decode cX7_winter 6 = .ok (.i2l, 1) := dk_133 (dk_at dksX7_winter_0 6 rfl rfl)
theorem dX7_winter_7 : decode cX7_winter 7 = .ok (.lconst 0, 1) := dk_9 (dk_at dksX7_winter_0 7 rfl rfl)
theorem dX7_winter_8 : decode cX7_winter 8 = .ok (.ldc2_w 441, 3) := dk_20 1 185 (dk_at dksX7_winter_0 8 rfl rfl)
theorem dX7_winter_11 : decode cX7_winter 11 = .ok (.invokestatic 153, 3) := dk_184 0 153 (dk_at dksX7_winter_0 11 rfl rfl)
theorem dX7_winter_14 : decode cX7_winter 14 = .ok (.ifCond .ne 9, 3) := dk_154 0 9 (dk_at dksX7_winter_0 14 rfl rfl)
theorem dX7_winter_17 : decode cX7_winter 17 = .ok (.aload_n 0, 1) := dk_42 (dk_at dksX7_winter_0 17 rfl rfl)
theorem dX7_winter_18 : decode cX7_winter 18 = .ok (.iconst 1, 1) := dk_4 (dk_at dksX7_winter_0 18 rfl rfl)
theorem dX7_winter_19 : decode cX7_winter 19 = .ok (.invokevirtual 303, 3) := dk_182 1 47 (dk_at dksX7_winter_0 19 rfl rfl)
theorem dX7_winter_22 : decode cX7_winter 22 = .ok (.ireturn, 1) := dk_172 (dk_at dksX7_winter_0 22 rfl rfl)
theorem dX7_winter_23 : decode cX7_winter 23 = .ok (.iload_n 2, 1) := dk_28 (dk_at dksX7_winter_0 23 rfl rfl)
theorem dX7_winter_24 : decode cX7_winter 24 = .ok (.i2l, 1) := dk_133 (dk_at dksX7_winter_1 0 rfl rfl)
theorem dX7_winter_25 : decode cX7_winter 25 = .ok (.lconst 0, 1) := dk_9 (dk_at dksX7_winter_1 1 rfl rfl)
theorem dX7_winter_26 : decode cX7_winter 26 = .ok (.ldc2_w 400, 3) := dk_20 1 144 (dk_at dksX7_winter_1 2 rfl rfl)
theorem dX7_winter_29 : decode cX7_winter 29 = .ok (.invokestatic 153, 3) := dk_184 0 153 (dk_at dksX7_winter_1 5 rfl rfl)
theorem dX7_winter_32 : decode cX7_winter 32 = .ok (.ifCond .ne 9, 3) := dk_154 0 9 (dk_at dksX7_winter_1 8 rfl rfl)
theorem dX7_winter_35 : decode cX7_winter 35 = .ok (.aload_n 0, 1) := dk_42 (dk_at dksX7_winter_1 11 rfl rfl)
theorem dX7_winter_36 : decode cX7_winter 36 = .ok (.iconst 2, 1) := dk_5 (dk_at dksX7_winter_1 12 rfl rfl)
theorem dX7_winter_37 : decode cX7_winter 37 = .ok (.invokevirtual 303, 3) := dk_182 1 47 (dk_at dksX7_winter_1 13 rfl rfl)
theorem dX7_winter_40 : decode cX7_winter 40 = .ok (.ireturn, 1) := dk_172 (dk_at dksX7_winter_1 16 rfl rfl)
theorem dX7_winter_41 : decode cX7_winter 41 = .ok (.aload_n 0, 1) := dk_42 (dk_at dksX7_winter_1 17 rfl rfl)
theorem dX7_winter_42 : decode cX7_winter 42 = .ok (.aload_n 0, 1) := dk_42 (dk_at dksX7_winter_1 18 rfl rfl)
theorem dX7_winter_43 : decode cX7_winter 43 = .ok (.getfield 102, 3) := dk_180 0 102 (dk_at dksX7_winter_1 19 rfl rfl)
theorem dX7_winter_46 : decode cX7_winter 46 = .ok (.iconst 0, 1) := dk_3 (dk_at dksX7_winter_1 22 rfl rfl)
theorem dX7_winter_47 : decode cX7_winter 47 = .ok (.invokevirtual 385, 3) := dk_182 1 129 (dk_at dksX7_winter_2 0 rfl rfl)
theorem dX7_winter_50 : decode cX7_winter 50 = .ok (.aload_n 0, 1) := dk_42 (dk_at dksX7_winter_2 3 rfl rfl)
theorem dX7_winter_51 : decode cX7_winter 51 = .ok (.iload_n 1, 1) := dk_27 (dk_at dksX7_winter_2 4 rfl rfl)
theorem dX7_winter_52 : decode cX7_winter 52 = .ok (.putfield 453, 3) := dk_181 1 197 (dk_at dksX7_winter_2 5 rfl rfl)
theorem dX7_winter_55 : decode cX7_winter 55 = .ok (.aload_n 0, 1) := dk_42 (dk_at dksX7_winter_2 8 rfl rfl)
theorem dX7_winter_56 : decode cX7_winter 56 = .ok (.invokevirtual 407, 3) := dk_182 1 151 (dk_at dksX7_winter_2 9 rfl rfl)
theorem dX7_winter_59 : decode cX7_winter 59 = .ok (.istore 4, 2) := dk_54 4 (dk_at dksX7_winter_2 12 rfl rfl)
theorem dX7_winter_61 : decode cX7_winter 61 = .ok (.iconst 0, 1) := dk_3 (dk_at dksX7_winter_2 14 rfl rfl)
theorem dX7_winter_62 : decode cX7_winter 62 = .ok (.istore 5, 2) := dk_54 5 (dk_at dksX7_winter_2 15 rfl rfl)
theorem dX7_winter_64 : decode cX7_winter 64 = .ok (.iload 5, 2) := dk_21 5 (dk_at dksX7_winter_2 17 rfl rfl)
theorem dX7_winter_66 : decode cX7_winter 66 = .ok (.iload_n 2, 1) := dk_28 (dk_at dksX7_winter_2 19 rfl rfl)
theorem dX7_winter_67 : decode cX7_winter 67 = .ok (.if_icmp .ge 17, 3) := dk_162 0 17 (dk_at dksX7_winter_2 20 rfl rfl)
theorem dX7_winter_70 : decode cX7_winter 70 = .ok (.aload_n 0, 1) := dk_42 (dk_at dksX7_winter_2 23 rfl rfl)
theorem dX7_winter_71 : decode cX7_winter 71 = .ok (.invokevirtual 460, 3) := dk_182 1 204 (dk_at dksX7_winter_3 0 rfl rfl)
theorem dX7_winter_74 : decode cX7_winter 74 = .ok (.aload_n 0, 1) := dk_42 (dk_at dksX7_winter_3 3 rfl rfl)
theorem dX7_winter_75 : decode cX7_winter 75 = .ok (.invokevirtual 370, 3) := dk_182 1 114 (dk_at dksX7_winter_3 4 rfl rfl)
theorem dX7_winter_78 : decode cX7_winter 78 = .ok (.iinc 5 1, 3) := dk_132 5 1 (dk_at dksX7_winter_3 7 rfl rfl)
theorem dX7_winter_81 : decode cX7_winter 81 = .ok (.goto (-17), 3) := dk_167 255 239 (dk_at dksX7_winter_3 10 rfl rfl)
theorem dX7_winter_84 : decode cX7_winter 84 = .ok (.iconst 0, 1) := dk_3 (dk_at dksX7_winter_3 13 rfl rfl)
theorem dX7_winter_85 : decode cX7_winter 85 = .ok (.istore 5, 2) := dk_54 5 (dk_at dksX7_winter_3 14 rfl rfl)
theorem dX7_winter_87 : decode cX7_winter 87 = .ok (.iconst 0, 1) := dk_3 (dk_at dksX7_winter_3 16 rfl rfl)
theorem dX7_winter_88 : decode cX7_winter 88 = .ok (.istore 6, 2) := dk_54 6 (dk_at dksX7_winter_3 17 rfl rfl)
theorem dX7_winter_90 : decode cX7_winter 90 = .ok (.iload 6, 2) := dk_21 6 (dk_at dksX7_winter_3 19 rfl rfl)
theorem dX7_winter_92 : decode cX7_winter 92 = .ok (.aload_n 0, 1) := dk_42 (dk_at dksX7_winter_3 21 rfl rfl)
theorem dX7_winter_93 : decode cX7_winter 93 = .ok (.getfield 29, 3) := dk_180 0 29 (dk_at dksX7_winter_4 0 rfl rfl)
theorem dX7_winter_96 : decode cX7_winter 96 = .ok (.iconst 0, 1) := dk_3 (dk_at dksX7_winter_4 3 rfl rfl)
theorem dX7_winter_97 : decode cX7_winter 97 = .ok (.iaload, 1) := dk_46 (dk_at dksX7_winter_4 4 rfl rfl)
theorem dX7_winter_98 : decode cX7_winter 98 = .ok (.if_icmp .ge 29, 3) := dk_162 0 29 (dk_at dksX7_winter_4 5 rfl rfl)
theorem dX7_winter_101 : decode cX7_winter 101 = .ok (.iload 5, 2) := dk_21 5 (dk_at dksX7_winter_4 8 rfl rfl)
theorem dX7_winter_103 : decode cX7_winter 103 = .ok (.aload_n 0, 1) := dk_42 (dk_at dksX7_winter_4 10 rfl rfl)
theorem dX7_winter_104 : decode cX7_winter 104 = .ok (.getfield 72, 3) := dk_180 0 72 (dk_at dksX7_winter_4 11 rfl rfl)
theorem dX7_winter_107 : decode cX7_winter 107 = .ok (.iload 6, 2) := dk_21 6 (dk_at dksX7_winter_4 14 rfl rfl)
theorem dX7_winter_109 : decode cX7_winter 109 = .ok (.iaload, 1) := dk_46 (dk_at dksX7_winter_4 16 rfl rfl)
theorem dX7_winter_110 : decode cX7_winter 110 = .ok (.ifCond .ne 7, 3) := dk_154 0 7 (dk_at dksX7_winter_4 17 rfl rfl)
theorem dX7_winter_113 : decode cX7_winter 113 = .ok (.iconst 1, 1) := dk_4 (dk_at dksX7_winter_4 20 rfl rfl)
theorem dX7_winter_114 : decode cX7_winter 114 = .ok (.goto 4, 3) := dk_167 0 4 (dk_at dksX7_winter_4 21 rfl rfl)
theorem dX7_winter_117 : decode cX7_winter 117 = .ok (.iconst 0, 1) := dk_3 (dk_at dksX7_winter_5 0 rfl rfl)
theorem dX7_winter_118 : decode cX7_winter 118 = .ok (.iadd, 1) := dk_96 (dk_at dksX7_winter_5 1 rfl rfl)
theorem dX7_winter_119 : decode cX7_winter 119 = .ok (.istore 5, 2) := dk_54 5 (dk_at dksX7_winter_5 2 rfl rfl)
theorem dX7_winter_121 : decode cX7_winter 121 = .ok (.iinc 6 1, 3) := dk_132 6 1 (dk_at dksX7_winter_5 4 rfl rfl)
theorem dX7_winter_124 : decode cX7_winter 124 = .ok (.goto (-34), 3) := dk_167 255 222 (dk_at dksX7_winter_5 7 rfl rfl)
theorem dX7_winter_127 : decode cX7_winter 127 = .ok (.iload_n 3, 1) := dk_29 (dk_at dksX7_winter_5 10 rfl rfl)
theorem dX7_winter_128 : decode cX7_winter 128 = .ok (.ifCond .ne 10, 3) := dk_154 0 10 (dk_at dksX7_winter_5 11 rfl rfl)
theorem dX7_winter_131 : decode cX7_winter 131 = .ok (.aload_n 0, 1) := dk_42 (dk_at dksX7_winter_5 14 rfl rfl)
theorem dX7_winter_132 : decode cX7_winter 132 = .ok (.invokevirtual 373, 3) := dk_182 1 117 (dk_at dksX7_winter_5 15 rfl rfl)
theorem dX7_winter_135 : decode cX7_winter 135 = .ok (.goto 20, 3) := dk_167 0 20 (dk_at dksX7_winter_5 18 rfl rfl)
theorem dX7_winter_138 : decode cX7_winter 138 = .ok (.iload_n 3, 1) := dk_29 (dk_at dksX7_winter_5 21 rfl rfl)
theorem dX7_winter_139 : decode cX7_winter 139 = .ok (.iconst 1, 1) := dk_4 (dk_at dksX7_winter_5 22 rfl rfl)
theorem dX7_winter_140 : decode cX7_winter 140 = .ok (.if_icmp .ne 13, 3) := dk_160 0 13 (dk_at dksX7_winter_6 0 rfl rfl)
theorem dX7_winter_143 : decode cX7_winter 143 = .ok (.aload_n 0, 1) := dk_42 (dk_at dksX7_winter_6 3 rfl rfl)
theorem dX7_winter_144 : decode cX7_winter 144 = .ok (.invokevirtual 407, 3) := dk_182 1 151 (dk_at dksX7_winter_6 4 rfl rfl)
theorem dX7_winter_147 : decode cX7_winter 147 = .ok (.iload 4, 2) := dk_21 4 (dk_at dksX7_winter_6 7 rfl rfl)
theorem dX7_winter_149 : decode cX7_winter 149 = .ok (.isub, 1) := dk_100 (dk_at dksX7_winter_6 9 rfl rfl)
theorem dX7_winter_150 : decode cX7_winter 150 = .ok (.goto 5, 3) := dk_167 0 5 (dk_at dksX7_winter_6 10 rfl rfl)
theorem dX7_winter_153 : decode cX7_winter 153 = .ok (.iload 5, 2) := dk_21 5 (dk_at dksX7_winter_6 13 rfl rfl)
theorem dX7_winter_155 : decode cX7_winter 155 = .ok (.istore 6, 2) := dk_54 6 (dk_at dksX7_winter_6 15 rfl rfl)
theorem dX7_winter_157 : decode cX7_winter 157 = .ok (.aload_n 0, 1) := dk_42 (dk_at dksX7_winter_6 17 rfl rfl)
theorem dX7_winter_158 : decode cX7_winter 158 = .ok (.aload_n 0, 1) := dk_42 (dk_at dksX7_winter_6 18 rfl rfl)
theorem dX7_winter_159 : decode cX7_winter 159 = .ok (.getfield 102, 3) := dk_180 0 102 (dk_at dksX7_winter_6 19 rfl rfl)
theorem dX7_winter_162 : decode cX7_winter 162 = .ok (.iconst 0, 1) := dk_3 (dk_at dksX7_winter_6 22 rfl rfl)
theorem dX7_winter_163 : decode cX7_winter 163 = .ok (.invokevirtual 404, 3) := dk_182 1 148 (dk_at dksX7_winter_7 0 rfl rfl)
theorem dX7_winter_166 : decode cX7_winter 166 = .ok (.iload 6, 2) := dk_21 6 (dk_at dksX7_winter_7 3 rfl rfl)
theorem dX7_winter_168 : decode cX7_winter 168 = .ok (.ireturn, 1) := dk_172 (dk_at dksX7_winter_7 5 rfl rfl)
abbrev cX7_frost : ByteArray := prog_18_method_99_code
def yX7_frost : MethodName := ⟨RX7, "frost", "()V"⟩
def dkwX7_frost_4 : List UInt8 := [46, 42, 180, 0, 72, 27, 46, 184, 0, 187, 79, 177]
abbrev dktX7_frost_4 : List UInt8 := dkwX7_frost_4 ++ []
def dkwX7_frost_3 : List UInt8 := [163, 0, 14, 42, 180, 0, 72, 27, 92, 46, 16, 10, 96, 79, 42, 180, 0, 74, 27, 42, 180, 0, 74, 27]
abbrev dktX7_frost_3 : List UInt8 := dkwX7_frost_3 ++ dktX7_frost_4
def dkwX7_frost_2 : List UInt8 := [100, 79, 28, 4, 160, 0, 32, 42, 180, 0, 72, 27, 46, 16, 10, 96, 42, 180, 0, 39, 27, 46]
abbrev dktX7_frost_2 : List UInt8 := dkwX7_frost_2 ++ dktX7_frost_3
def dkwX7_frost_1 : List UInt8 := [182, 1, 201, 61, 28, 154, 0, 21, 42, 180, 0, 72, 27, 92, 46, 42, 180, 0, 72, 27, 46, 16, 10, 108]
abbrev dktX7_frost_1 : List UInt8 := dkwX7_frost_1 ++ dktX7_frost_2
def dkwX7_frost_0 : List UInt8 := [42, 180, 0, 29, 3, 46, 154, 0, 4, 177, 42, 42, 180, 0, 29, 3, 46, 182, 1, 201, 60, 42, 7]
abbrev dktX7_frost_0 : List UInt8 := dkwX7_frost_0 ++ dktX7_frost_1
theorem dksX7_frost_0 : cX7_frost.data.toList.drop 0 = dktX7_frost_0 := by decide +kernel
theorem dksX7_frost_1 : cX7_frost.data.toList.drop 23 = dktX7_frost_1 := dk_seg dksX7_frost_0 23 rfl rfl
theorem dksX7_frost_2 : cX7_frost.data.toList.drop 47 = dktX7_frost_2 := dk_seg dksX7_frost_1 24 rfl rfl
theorem dksX7_frost_3 : cX7_frost.data.toList.drop 69 = dktX7_frost_3 := dk_seg dksX7_frost_2 22 rfl rfl
theorem dksX7_frost_4 : cX7_frost.data.toList.drop 93 = dktX7_frost_4 := dk_seg dksX7_frost_3 24 rfl rfl
theorem dX7_frost_0 : decode cX7_frost 0 = .ok (.aload_n 0, 1) := dk_42 (dk_at dksX7_frost_0 0 rfl rfl)
theorem dX7_frost_1 : decode cX7_frost 1 = .ok (.getfield 29, 3) := dk_180 0 29 (dk_at dksX7_frost_0 1 rfl rfl)
theorem dX7_frost_4 : decode cX7_frost 4 = .ok (.iconst 0, 1) := dk_3 (dk_at dksX7_frost_0 4 rfl rfl)
theorem dX7_frost_5 : decode cX7_frost 5 = .ok (.iaload, 1) := dk_46 (dk_at dksX7_frost_0 5 rfl rfl)
theorem dX7_frost_6 : decode cX7_frost 6 = .ok (.ifCond .ne 4, 3) := dk_154 0 4 (dk_at dksX7_frost_0 6 rfl rfl)
theorem dX7_frost_9 : decode cX7_frost 9 = .ok (.return_, 1) := dk_177 (dk_at dksX7_frost_0 9 rfl rfl)
theorem dX7_frost_10 : decode cX7_frost 10 = .ok (.aload_n 0, 1) := dk_42 (dk_at dksX7_frost_0 10 rfl rfl)
theorem dX7_frost_11 : decode cX7_frost 11 = .ok (.aload_n 0, 1) := dk_42 (dk_at dksX7_frost_0 11 rfl rfl)
theorem dX7_frost_12 : decode cX7_frost 12 = .ok (.getfield 29, 3) := dk_180 0 29 (dk_at dksX7_frost_0 12 rfl rfl)
theorem dX7_frost_15 : decode cX7_frost 15 = .ok (.iconst 0, 1) := dk_3 (dk_at dksX7_frost_0 15 rfl rfl)
theorem dX7_frost_16 : decode cX7_frost 16 = .ok (.iaload, 1) := dk_46 (dk_at dksX7_frost_0 16 rfl rfl)
theorem dX7_frost_17 : decode cX7_frost 17 = .ok (.invokevirtual 457, 3) := dk_182 1 201 (dk_at dksX7_frost_0 17 rfl rfl)
theorem dX7_frost_20 : decode cX7_frost 20 = .ok (.istore_n 1, 1) := dk_60 (dk_at dksX7_frost_0 20 rfl rfl)
theorem dX7_frost_21 : decode cX7_frost 21 = .ok (.aload_n 0, 1) := dk_42 (dk_at dksX7_frost_0 21 rfl rfl)
theorem dX7_frost_22 : decode cX7_frost 22 = .ok (.iconst 4, 1) := dk_7 (dk_at dksX7_frost_0 22 rfl rfl)
theorem dX7_frost_23 : decode cX7_frost 23 = .ok (.invokevirtual 457, 3) := dk_182 1 201 (dk_at dksX7_frost_1 0 rfl rfl)
theorem dX7_frost_26 : decode cX7_frost 26 = .ok (.istore_n 2, 1) := dk_61 (dk_at dksX7_frost_1 3 rfl rfl)
theorem dX7_frost_27 : decode cX7_frost 27 = .ok (.iload_n 2, 1) := dk_28 (dk_at dksX7_frost_1 4 rfl rfl)
theorem dX7_frost_28 : decode cX7_frost 28 = .ok (.ifCond .ne 21, 3) := dk_154 0 21 (dk_at dksX7_frost_1 5 rfl rfl)
theorem dX7_frost_31 : decode cX7_frost 31 = .ok (.aload_n 0, 1) := dk_42 (dk_at dksX7_frost_1 8 rfl rfl)
theorem dX7_frost_32 : decode cX7_frost 32 = .ok (.getfield 72, 3) := dk_180 0 72 (dk_at dksX7_frost_1 9 rfl rfl)
theorem dX7_frost_35 : decode cX7_frost 35 = .ok (.iload_n 1, 1) := dk_27 (dk_at dksX7_frost_1 12 rfl rfl)
theorem dX7_frost_36 : decode cX7_frost 36 = .ok (.dup2, 1) := dk_92 (dk_at dksX7_frost_1 13 rfl rfl)
theorem dX7_frost_37 : decode cX7_frost 37 = .ok (.iaload, 1) := dk_46 (dk_at dksX7_frost_1 14 rfl rfl)
theorem dX7_frost_38 : decode cX7_frost 38 = .ok (.aload_n 0, 1) := dk_42 (dk_at dksX7_frost_1 15 rfl rfl)
theorem dX7_frost_39 : decode cX7_frost 39 = .ok (.getfield 72, 3) := dk_180 0 72 (dk_at dksX7_frost_1 16 rfl rfl)
theorem dX7_frost_42 : decode cX7_frost 42 = .ok (.iload_n 1, 1) := dk_27 (dk_at dksX7_frost_1 19 rfl rfl)
theorem dX7_frost_43 : decode cX7_frost 43 = .ok (.iaload, 1) := dk_46 (dk_at dksX7_frost_1 20 rfl rfl)
theorem dX7_frost_44 : decode cX7_frost 44 = .ok (.bipush 10, 2) := dk_16 10 (dk_at dksX7_frost_1 21 rfl rfl)
theorem dX7_frost_46 : decode cX7_frost 46 = .ok (.idiv, 1) := dk_108 (dk_at dksX7_frost_1 23 rfl rfl)
theorem dX7_frost_47 : decode cX7_frost 47 = .ok (.isub, 1) := dk_100 (dk_at dksX7_frost_2 0 rfl rfl)
theorem dX7_frost_48 : decode cX7_frost 48 = .ok (.iastore, 1) := dk_79 (dk_at dksX7_frost_2 1 rfl rfl)
theorem dX7_frost_49 : decode cX7_frost 49 = .ok (.iload_n 2, 1) := dk_28 (dk_at dksX7_frost_2 2 rfl rfl)
theorem dX7_frost_50 : decode cX7_frost 50 = .ok (.iconst 1, 1) := dk_4 (dk_at dksX7_frost_2 3 rfl rfl)
theorem dX7_frost_51 : decode cX7_frost 51 = .ok (.if_icmp .ne 32, 3) := dk_160 0 32 (dk_at dksX7_frost_2 4 rfl rfl)
theorem dX7_frost_54 : decode cX7_frost 54 = .ok (.aload_n 0, 1) := dk_42 (dk_at dksX7_frost_2 7 rfl rfl)
theorem dX7_frost_55 : decode cX7_frost 55 = .ok (.getfield 72, 3) := dk_180 0 72 (dk_at dksX7_frost_2 8 rfl rfl)
theorem dX7_frost_58 : decode cX7_frost 58 = .ok (.iload_n 1, 1) := dk_27 (dk_at dksX7_frost_2 11 rfl rfl)
theorem dX7_frost_59 : decode cX7_frost 59 = .ok (.iaload, 1) := dk_46 (dk_at dksX7_frost_2 12 rfl rfl)
theorem dX7_frost_60 : decode cX7_frost 60 = .ok (.bipush 10, 2) := dk_16 10 (dk_at dksX7_frost_2 13 rfl rfl)
theorem dX7_frost_62 : decode cX7_frost 62 = .ok (.iadd, 1) := dk_96 (dk_at dksX7_frost_2 15 rfl rfl)
theorem dX7_frost_63 : decode cX7_frost 63 = .ok (.aload_n 0, 1) := dk_42 (dk_at dksX7_frost_2 16 rfl rfl)
theorem dX7_frost_64 : decode cX7_frost 64 = .ok (.getfield 39, 3) := dk_180 0 39 (dk_at dksX7_frost_2 17 rfl rfl)
theorem dX7_frost_67 : decode cX7_frost 67 = .ok (.iload_n 1, 1) := dk_27 (dk_at dksX7_frost_2 20 rfl rfl)
theorem dX7_frost_68 : decode cX7_frost 68 = .ok (.iaload, 1) := dk_46 (dk_at dksX7_frost_2 21 rfl rfl)
theorem dX7_frost_69 : decode cX7_frost 69 = .ok (.if_icmp .gt 14, 3) := dk_163 0 14 (dk_at dksX7_frost_3 0 rfl rfl)
theorem dX7_frost_72 : decode cX7_frost 72 = .ok (.aload_n 0, 1) := dk_42 (dk_at dksX7_frost_3 3 rfl rfl)
theorem dX7_frost_73 : decode cX7_frost 73 = .ok (.getfield 72, 3) := dk_180 0 72 (dk_at dksX7_frost_3 4 rfl rfl)
theorem dX7_frost_76 : decode cX7_frost 76 = .ok (.iload_n 1, 1) := dk_27 (dk_at dksX7_frost_3 7 rfl rfl)
theorem dX7_frost_77 : decode cX7_frost 77 = .ok (.dup2, 1) := dk_92 (dk_at dksX7_frost_3 8 rfl rfl)
theorem dX7_frost_78 : decode cX7_frost 78 = .ok (.iaload, 1) := dk_46 (dk_at dksX7_frost_3 9 rfl rfl)
theorem dX7_frost_79 : decode cX7_frost 79 = .ok (.bipush 10, 2) := dk_16 10 (dk_at dksX7_frost_3 10 rfl rfl)
theorem dX7_frost_81 : decode cX7_frost 81 = .ok (.iadd, 1) := dk_96 (dk_at dksX7_frost_3 12 rfl rfl)
theorem dX7_frost_82 : decode cX7_frost 82 = .ok (.iastore, 1) := dk_79 (dk_at dksX7_frost_3 13 rfl rfl)
theorem dX7_frost_83 : decode cX7_frost 83 = .ok (.aload_n 0, 1) := dk_42 (dk_at dksX7_frost_3 14 rfl rfl)
theorem dX7_frost_84 : decode cX7_frost 84 = .ok (.getfield 74, 3) := dk_180 0 74 (dk_at dksX7_frost_3 15 rfl rfl)
theorem dX7_frost_87 : decode cX7_frost 87 = .ok (.iload_n 1, 1) := dk_27 (dk_at dksX7_frost_3 18 rfl rfl)
theorem dX7_frost_88 : decode cX7_frost 88 = .ok (.aload_n 0, 1) := dk_42 (dk_at dksX7_frost_3 19 rfl rfl)
theorem dX7_frost_89 : decode cX7_frost 89 = .ok (.getfield 74, 3) := dk_180 0 74 (dk_at dksX7_frost_3 20 rfl rfl)
theorem dX7_frost_92 : decode cX7_frost 92 = .ok (.iload_n 1, 1) := dk_27 (dk_at dksX7_frost_3 23 rfl rfl)
theorem dX7_frost_93 : decode cX7_frost 93 = .ok (.iaload, 1) := dk_46 (dk_at dksX7_frost_4 0 rfl rfl)
theorem dX7_frost_94 : decode cX7_frost 94 = .ok (.aload_n 0, 1) := dk_42 (dk_at dksX7_frost_4 1 rfl rfl)
theorem dX7_frost_95 : decode cX7_frost 95 = .ok (.getfield 72, 3) := dk_180 0 72 (dk_at dksX7_frost_4 2 rfl rfl)
theorem dX7_frost_98 : decode cX7_frost 98 = .ok (.iload_n 1, 1) := dk_27 (dk_at dksX7_frost_4 5 rfl rfl)
theorem dX7_frost_99 : decode cX7_frost 99 = .ok (.iaload, 1) := dk_46 (dk_at dksX7_frost_4 6 rfl rfl)
theorem dX7_frost_100 : decode cX7_frost 100 = .ok (.invokestatic 187, 3) := dk_184 0 187 (dk_at dksX7_frost_4 7 rfl rfl)
theorem dX7_frost_103 : decode cX7_frost 103 = .ok (.iastore, 1) := dk_79 (dk_at dksX7_frost_4 10 rfl rfl)
theorem dX7_frost_104 : decode cX7_frost 104 = .ok (.return_, 1) := dk_177 (dk_at dksX7_frost_4 11 rfl rfl)
abbrev cX7_drawOf : ByteArray := prog_18_method_98_code
def yX7_drawOf : MethodName := ⟨RX7, "drawOf", "(I)I"⟩
def dkwX7_drawOf_1 : List UInt8 := [17, 127, 255, 126, 27, 112, 172]
abbrev dktX7_drawOf_1 : List UInt8 := dkwX7_drawOf_1 ++ []
def dkwX7_drawOf_0 : List UInt8 := [42, 42, 180, 1, 197, 19, 1, 200, 104, 17, 48, 57, 96, 181, 1, 197, 42, 180, 1, 197, 16, 16, 122]
abbrev dktX7_drawOf_0 : List UInt8 := dkwX7_drawOf_0 ++ dktX7_drawOf_1
theorem dksX7_drawOf_0 : cX7_drawOf.data.toList.drop 0 = dktX7_drawOf_0 := by decide +kernel
theorem dksX7_drawOf_1 : cX7_drawOf.data.toList.drop 23 = dktX7_drawOf_1 := dk_seg dksX7_drawOf_0 23 rfl rfl
theorem dX7_drawOf_0 : decode cX7_drawOf 0 = .ok (.aload_n 0, 1) := dk_42 (dk_at dksX7_drawOf_0 0 rfl rfl)
theorem dX7_drawOf_1 : decode cX7_drawOf 1 = .ok (.aload_n 0, 1) := dk_42 (dk_at dksX7_drawOf_0 1 rfl rfl)
theorem dX7_drawOf_2 : decode cX7_drawOf 2 = .ok (.getfield 453, 3) := dk_180 1 197 (dk_at dksX7_drawOf_0 2 rfl rfl)
theorem dX7_drawOf_5 : decode cX7_drawOf 5 = .ok (.ldc_w 456, 3) := dk_19 1 200 (dk_at dksX7_drawOf_0 5 rfl rfl)
theorem dX7_drawOf_8 : decode cX7_drawOf 8 = .ok (.imul, 1) := dk_104 (dk_at dksX7_drawOf_0 8 rfl rfl)
theorem dX7_drawOf_9 : decode cX7_drawOf 9 = .ok (.sipush 12345, 3) := dk_17 48 57 (dk_at dksX7_drawOf_0 9 rfl rfl)
theorem dX7_drawOf_12 : decode cX7_drawOf 12 = .ok (.iadd, 1) := dk_96 (dk_at dksX7_drawOf_0 12 rfl rfl)
theorem dX7_drawOf_13 : decode cX7_drawOf 13 = .ok (.putfield 453, 3) := dk_181 1 197 (dk_at dksX7_drawOf_0 13 rfl rfl)
theorem dX7_drawOf_16 : decode cX7_drawOf 16 = .ok (.aload_n 0, 1) := dk_42 (dk_at dksX7_drawOf_0 16 rfl rfl)
theorem dX7_drawOf_17 : decode cX7_drawOf 17 = .ok (.getfield 453, 3) := dk_180 1 197 (dk_at dksX7_drawOf_0 17 rfl rfl)
theorem dX7_drawOf_20 : decode cX7_drawOf 20 = .ok (.bipush 16, 2) := dk_16 16 (dk_at dksX7_drawOf_0 20 rfl rfl)
theorem dX7_drawOf_22 : decode cX7_drawOf 22 = .ok (.ishr, 1) := dk_122 (dk_at dksX7_drawOf_0 22 rfl rfl)
theorem dX7_drawOf_23 : decode cX7_drawOf 23 = .ok (.sipush 32767, 3) := dk_17 127 255 (dk_at dksX7_drawOf_1 0 rfl rfl)
theorem dX7_drawOf_26 : decode cX7_drawOf 26 = .ok (.iand, 1) := dk_126 (dk_at dksX7_drawOf_1 3 rfl rfl)
theorem dX7_drawOf_27 : decode cX7_drawOf 27 = .ok (.iload_n 1, 1) := dk_27 (dk_at dksX7_drawOf_1 4 rfl rfl)
theorem dX7_drawOf_28 : decode cX7_drawOf 28 = .ok (.irem, 1) := dk_112 (dk_at dksX7_drawOf_1 5 rfl rfl)
theorem dX7_drawOf_29 : decode cX7_drawOf 29 = .ok (.ireturn, 1) := dk_172 (dk_at dksX7_drawOf_1 6 rfl rfl)
abbrev cX7_image : ByteArray := prog_18_method_102_code
def yX7_image : MethodName := ⟨RX7, "image", "()V"⟩
def dkwX7_image_3 : List UInt8 := [180, 0, 144, 42, 180, 0, 120, 184, 1, 213, 42, 180, 0, 147, 42, 180, 0, 62, 184, 1, 213, 177]
abbrev dktX7_image_3 : List UInt8 := dkwX7_image_3 ++ []
def dkwX7_image_2 : List UInt8 := [180, 0, 138, 42, 180, 0, 114, 184, 1, 213, 42, 180, 0, 141, 42, 180, 0, 117, 184, 1, 213, 42]
abbrev dktX7_image_2 : List UInt8 := dkwX7_image_2 ++ dktX7_image_3
def dkwX7_image_1 : List UInt8 := [181, 1, 210, 42, 42, 180, 0, 132, 3, 182, 1, 129, 42, 180, 0, 135, 42, 180, 0, 93, 184, 1, 213, 42]
abbrev dktX7_image_1 : List UInt8 := dkwX7_image_1 ++ dktX7_image_2
def dkwX7_image_0 : List UInt8 := [42, 3, 181, 0, 150, 42, 4, 181, 1, 74, 42, 42, 180, 1, 68, 181, 1, 207, 42, 42, 180, 1, 71]
abbrev dktX7_image_0 : List UInt8 := dkwX7_image_0 ++ dktX7_image_1
theorem dksX7_image_0 : cX7_image.data.toList.drop 0 = dktX7_image_0 := by decide +kernel
theorem dksX7_image_1 : cX7_image.data.toList.drop 23 = dktX7_image_1 := dk_seg dksX7_image_0 23 rfl rfl
theorem dksX7_image_2 : cX7_image.data.toList.drop 47 = dktX7_image_2 := dk_seg dksX7_image_1 24 rfl rfl
theorem dksX7_image_3 : cX7_image.data.toList.drop 69 = dktX7_image_3 := dk_seg dksX7_image_2 22 rfl rfl
theorem dX7_image_0 : decode cX7_image 0 = .ok (.aload_n 0, 1) := dk_42 (dk_at dksX7_image_0 0 rfl rfl)
theorem dX7_image_1 : decode cX7_image 1 = .ok (.iconst 0, 1) := dk_3 (dk_at dksX7_image_0 1 rfl rfl)
theorem dX7_image_2 : decode cX7_image 2 = .ok (.putfield 150, 3) := dk_181 0 150 (dk_at dksX7_image_0 2 rfl rfl)
theorem dX7_image_5 : decode cX7_image 5 = .ok (.aload_n 0, 1) := dk_42 (dk_at dksX7_image_0 5 rfl rfl)
theorem dX7_image_6 : decode cX7_image 6 = .ok (.iconst 1, 1) := dk_4 (dk_at dksX7_image_0 6 rfl rfl)
theorem dX7_image_7 : decode cX7_image 7 = .ok (.putfield 330, 3) := dk_181 1 74 (dk_at dksX7_image_0 7 rfl rfl)
theorem dX7_image_10 : decode cX7_image 10 = .ok (.aload_n 0, 1) := dk_42 (dk_at dksX7_image_0 10 rfl rfl)
theorem dX7_image_11 : decode cX7_image 11 = .ok (.aload_n 0, 1) := dk_42 (dk_at dksX7_image_0 11 rfl rfl)
theorem dX7_image_12 : decode cX7_image 12 = .ok (.getfield 324, 3) := dk_180 1 68 (dk_at dksX7_image_0 12 rfl rfl)
theorem dX7_image_15 : decode cX7_image 15 = .ok (.putfield 463, 3) := dk_181 1 207 (dk_at dksX7_image_0 15 rfl rfl)
theorem dX7_image_18 : decode cX7_image 18 = .ok (.aload_n 0, 1) := dk_42 (dk_at dksX7_image_0 18 rfl rfl)
theorem dX7_image_19 : decode cX7_image 19 = .ok (.aload_n 0, 1) := dk_42 (dk_at dksX7_image_0 19 rfl rfl)
theorem dX7_image_20 : decode cX7_image 20 = .ok (.getfield 327, 3) := dk_180 1 71 (dk_at dksX7_image_0 20 rfl rfl)
theorem dX7_image_23 : decode cX7_image 23 = .ok (.putfield 466, 3) := dk_181 1 210 (dk_at dksX7_image_1 0 rfl rfl)
theorem dX7_image_26 : decode cX7_image 26 = .ok (.aload_n 0, 1) := dk_42 (dk_at dksX7_image_1 3 rfl rfl)
theorem dX7_image_27 : decode cX7_image 27 = .ok (.aload_n 0, 1) := dk_42 (dk_at dksX7_image_1 4 rfl rfl)
theorem dX7_image_28 : decode cX7_image 28 = .ok (.getfield 132, 3) := dk_180 0 132 (dk_at dksX7_image_1 5 rfl rfl)
theorem dX7_image_31 : decode cX7_image 31 = .ok (.iconst 0, 1) := dk_3 (dk_at dksX7_image_1 8 rfl rfl)
theorem dX7_image_32 : decode cX7_image 32 = .ok (.invokevirtual 385, 3) := dk_182 1 129 (dk_at dksX7_image_1 9 rfl rfl)
theorem dX7_image_35 : decode cX7_image 35 = .ok (.aload_n 0, 1) := dk_42 (dk_at dksX7_image_1 12 rfl rfl)
theorem dX7_image_36 : decode cX7_image 36 = .ok (.getfield 135, 3) := dk_180 0 135 (dk_at dksX7_image_1 13 rfl rfl)
theorem dX7_image_39 : decode cX7_image 39 = .ok (.aload_n 0, 1) := dk_42 (dk_at dksX7_image_1 16 rfl rfl)
theorem dX7_image_40 : decode cX7_image 40 = .ok (.getfield 93, 3) := dk_180 0 93 (dk_at dksX7_image_1 17 rfl rfl)
theorem dX7_image_43 : decode cX7_image 43 = .ok (.invokestatic 469, 3) := dk_184 1 213 (dk_at dksX7_image_1 20 rfl rfl)
theorem dX7_image_46 : decode cX7_image 46 = .ok (.aload_n 0, 1) := dk_42 (dk_at dksX7_image_1 23 rfl rfl)
theorem dX7_image_47 : decode cX7_image 47 = .ok (.getfield 138, 3) := dk_180 0 138 (dk_at dksX7_image_2 0 rfl rfl)
theorem dX7_image_50 : decode cX7_image 50 = .ok (.aload_n 0, 1) := dk_42 (dk_at dksX7_image_2 3 rfl rfl)
theorem dX7_image_51 : decode cX7_image 51 = .ok (.getfield 114, 3) := dk_180 0 114 (dk_at dksX7_image_2 4 rfl rfl)
theorem dX7_image_54 : decode cX7_image 54 = .ok (.invokestatic 469, 3) := dk_184 1 213 (dk_at dksX7_image_2 7 rfl rfl)
theorem dX7_image_57 : decode cX7_image 57 = .ok (.aload_n 0, 1) := dk_42 (dk_at dksX7_image_2 10 rfl rfl)
theorem dX7_image_58 : decode cX7_image 58 = .ok (.getfield 141, 3) := dk_180 0 141 (dk_at dksX7_image_2 11 rfl rfl)
theorem dX7_image_61 : decode cX7_image 61 = .ok (.aload_n 0, 1) := dk_42 (dk_at dksX7_image_2 14 rfl rfl)
theorem dX7_image_62 : decode cX7_image 62 = .ok (.getfield 117, 3) := dk_180 0 117 (dk_at dksX7_image_2 15 rfl rfl)
theorem dX7_image_65 : decode cX7_image 65 = .ok (.invokestatic 469, 3) := dk_184 1 213 (dk_at dksX7_image_2 18 rfl rfl)
theorem dX7_image_68 : decode cX7_image 68 = .ok (.aload_n 0, 1) := dk_42 (dk_at dksX7_image_2 21 rfl rfl)
theorem dX7_image_69 : decode cX7_image 69 = .ok (.getfield 144, 3) := dk_180 0 144 (dk_at dksX7_image_3 0 rfl rfl)
theorem dX7_image_72 : decode cX7_image 72 = .ok (.aload_n 0, 1) := dk_42 (dk_at dksX7_image_3 3 rfl rfl)
theorem dX7_image_73 : decode cX7_image 73 = .ok (.getfield 120, 3) := dk_180 0 120 (dk_at dksX7_image_3 4 rfl rfl)
theorem dX7_image_76 : decode cX7_image 76 = .ok (.invokestatic 469, 3) := dk_184 1 213 (dk_at dksX7_image_3 7 rfl rfl)
theorem dX7_image_79 : decode cX7_image 79 = .ok (.aload_n 0, 1) := dk_42 (dk_at dksX7_image_3 10 rfl rfl)
theorem dX7_image_80 : decode cX7_image 80 = .ok (.getfield 147, 3) := dk_180 0 147 (dk_at dksX7_image_3 11 rfl rfl)
theorem dX7_image_83 : decode cX7_image 83 = .ok (.aload_n 0, 1) := dk_42 (dk_at dksX7_image_3 14 rfl rfl)
theorem dX7_image_84 : decode cX7_image 84 = .ok (.getfield 62, 3) := dk_180 0 62 (dk_at dksX7_image_3 15 rfl rfl)
theorem dX7_image_87 : decode cX7_image 87 = .ok (.invokestatic 469, 3) := dk_184 1 213 (dk_at dksX7_image_3 18 rfl rfl)
theorem dX7_image_90 : decode cX7_image 90 = .ok (.return_, 1) := dk_177 (dk_at dksX7_image_3 21 rfl rfl)
abbrev cX7_copyTo : ByteArray := prog_18_method_101_code
def yX7_copyTo : MethodName := ⟨RX7, "copyTo", "([I[I)V"⟩
def dkwX7_copyTo_0 : List UInt8 := [3, 61, 28, 42, 190, 162, 0, 15, 42, 28, 43, 28, 46, 79, 132, 2, 1, 167, 255, 241, 177]
abbrev dktX7_copyTo_0 : List UInt8 := dkwX7_copyTo_0 ++ []
theorem dksX7_copyTo_0 : cX7_copyTo.data.toList.drop 0 = dktX7_copyTo_0 := by decide +kernel
theorem dX7_copyTo_0 : decode cX7_copyTo 0 = .ok (.iconst 0, 1) := dk_3 (dk_at dksX7_copyTo_0 0 rfl rfl)
theorem dX7_copyTo_1 : decode cX7_copyTo 1 = .ok (.istore_n 2, 1) := dk_61 (dk_at dksX7_copyTo_0 1 rfl rfl)
theorem dX7_copyTo_2 : decode cX7_copyTo 2 = .ok (.iload_n 2, 1) := dk_28 (dk_at dksX7_copyTo_0 2 rfl rfl)
theorem dX7_copyTo_3 : decode cX7_copyTo 3 = .ok (.aload_n 0, 1) := dk_42 (dk_at dksX7_copyTo_0 3 rfl rfl)
theorem dX7_copyTo_4 : decode cX7_copyTo 4 = .ok (.arraylength, 1) := dk_190 (dk_at dksX7_copyTo_0 4 rfl rfl)
theorem dX7_copyTo_5 : decode cX7_copyTo 5 = .ok (.if_icmp .ge 15, 3) := dk_162 0 15 (dk_at dksX7_copyTo_0 5 rfl rfl)
theorem dX7_copyTo_8 : decode cX7_copyTo 8 = .ok (.aload_n 0, 1) := dk_42 (dk_at dksX7_copyTo_0 8 rfl rfl)
theorem dX7_copyTo_9 : decode cX7_copyTo 9 = .ok (.iload_n 2, 1) := dk_28 (dk_at dksX7_copyTo_0 9 rfl rfl)
theorem dX7_copyTo_10 : decode cX7_copyTo 10 = .ok (.aload_n 1, 1) := dk_43 (dk_at dksX7_copyTo_0 10 rfl rfl)
theorem dX7_copyTo_11 : decode cX7_copyTo 11 = .ok (.iload_n 2, 1) := dk_28 (dk_at dksX7_copyTo_0 11 rfl rfl)
theorem dX7_copyTo_12 : decode cX7_copyTo 12 = .ok (.iaload, 1) := dk_46 (dk_at dksX7_copyTo_0 12 rfl rfl)
theorem dX7_copyTo_13 : decode cX7_copyTo 13 = .ok (.iastore, 1) := dk_79 (dk_at dksX7_copyTo_0 13 rfl rfl)
theorem dX7_copyTo_14 : decode cX7_copyTo 14 = .ok (.iinc 2 1, 3) := dk_132 2 1 (dk_at dksX7_copyTo_0 14 rfl rfl)
theorem dX7_copyTo_17 : decode cX7_copyTo 17 = .ok (.goto (-15), 3) := dk_167 255 241 (dk_at dksX7_copyTo_0 17 rfl rfl)
theorem dX7_copyTo_20 : decode cX7_copyTo 20 = .ok (.return_, 1) := dk_177 (dk_at dksX7_copyTo_0 20 rfl rfl)
abbrev cX7_restore : ByteArray := prog_18_method_103_code
def yX7_restore : MethodName := ⟨RX7, "restore", "()Z"⟩
def dkwX7_restore_4 : List UInt8 := [184, 1, 213, 4, 172]
abbrev dktX7_restore_4 : List UInt8 := dkwX7_restore_4 ++ []
def dkwX7_restore_3 : List UInt8 := [184, 1, 213, 42, 180, 0, 120, 42, 180, 0, 144, 184, 1, 213, 42, 180, 0, 62, 42, 180, 0, 147]
abbrev dktX7_restore_3 : List UInt8 := dkwX7_restore_3 ++ dktX7_restore_4
def dkwX7_restore_2 : List UInt8 := [184, 1, 213, 42, 180, 0, 114, 42, 180, 0, 138, 184, 1, 213, 42, 180, 0, 117, 42, 180, 0, 141]
abbrev dktX7_restore_2 : List UInt8 := dkwX7_restore_2 ++ dktX7_restore_3
def dkwX7_restore_1 : List UInt8 := [180, 1, 210, 181, 1, 71, 42, 42, 180, 0, 132, 3, 182, 1, 148, 42, 180, 0, 93, 42, 180, 0, 135]
abbrev dktX7_restore_1 : List UInt8 := dkwX7_restore_1 ++ dktX7_restore_2
def dkwX7_restore_0 : List UInt8 := [42, 3, 181, 0, 150, 42, 180, 1, 74, 154, 0, 5, 3, 172, 42, 42, 180, 1, 207, 181, 1, 68, 42, 42]
abbrev dktX7_restore_0 : List UInt8 := dkwX7_restore_0 ++ dktX7_restore_1
theorem dksX7_restore_0 : cX7_restore.data.toList.drop 0 = dktX7_restore_0 := by decide +kernel
theorem dksX7_restore_1 : cX7_restore.data.toList.drop 24 = dktX7_restore_1 := dk_seg dksX7_restore_0 24 rfl rfl
theorem dksX7_restore_2 : cX7_restore.data.toList.drop 47 = dktX7_restore_2 := dk_seg dksX7_restore_1 23 rfl rfl
theorem dksX7_restore_3 : cX7_restore.data.toList.drop 69 = dktX7_restore_3 := dk_seg dksX7_restore_2 22 rfl rfl
theorem dksX7_restore_4 : cX7_restore.data.toList.drop 91 = dktX7_restore_4 := dk_seg dksX7_restore_3 22 rfl rfl
theorem dX7_restore_0 : decode cX7_restore 0 = .ok (.aload_n 0, 1) := dk_42 (dk_at dksX7_restore_0 0 rfl rfl)
theorem dX7_restore_1 : decode cX7_restore 1 = .ok (.iconst 0, 1) := dk_3 (dk_at dksX7_restore_0 1 rfl rfl)
theorem dX7_restore_2 : decode cX7_restore 2 = .ok (.putfield 150, 3) := dk_181 0 150 (dk_at dksX7_restore_0 2 rfl rfl)
theorem dX7_restore_5 : decode cX7_restore 5 = .ok (.aload_n 0, 1) := dk_42 (dk_at dksX7_restore_0 5 rfl rfl)
theorem dX7_restore_6 : decode cX7_restore 6 = .ok (.getfield 330, 3) := dk_180 1 74 (dk_at dksX7_restore_0 6 rfl rfl)
theorem dX7_restore_9 : decode cX7_restore 9 = .ok (.ifCond .ne 5, 3) := dk_154 0 5 (dk_at dksX7_restore_0 9 rfl rfl)
theorem dX7_restore_12 : decode cX7_restore 12 = .ok (.iconst 0, 1) := dk_3 (dk_at dksX7_restore_0 12 rfl rfl)
theorem dX7_restore_13 : decode cX7_restore 13 = .ok (.ireturn, 1) := dk_172 (dk_at dksX7_restore_0 13 rfl rfl)
theorem dX7_restore_14 : decode cX7_restore 14 = .ok (.aload_n 0, 1) := dk_42 (dk_at dksX7_restore_0 14 rfl rfl)
theorem dX7_restore_15 : decode cX7_restore 15 = .ok (.aload_n 0, 1) := dk_42 (dk_at dksX7_restore_0 15 rfl rfl)
theorem dX7_restore_16 : decode cX7_restore 16 = .ok (.getfield 463, 3) := dk_180 1 207 (dk_at dksX7_restore_0 16 rfl rfl)
theorem dX7_restore_19 : decode cX7_restore 19 = .ok (.putfield 324, 3) := dk_181 1 68 (dk_at dksX7_restore_0 19 rfl rfl)
theorem dX7_restore_22 : decode cX7_restore 22 = .ok (.aload_n 0, 1) := dk_42 (dk_at dksX7_restore_0 22 rfl rfl)
theorem dX7_restore_23 : decode cX7_restore 23 = .ok (.aload_n 0, 1) := dk_42 (dk_at dksX7_restore_0 23 rfl rfl)
theorem dX7_restore_24 : decode cX7_restore 24 = .ok (.getfield 466, 3) := dk_180 1 210 (dk_at dksX7_restore_1 0 rfl rfl)
theorem dX7_restore_27 : decode cX7_restore 27 = .ok (.putfield 327, 3) := dk_181 1 71 (dk_at dksX7_restore_1 3 rfl rfl)
theorem dX7_restore_30 : decode cX7_restore 30 = .ok (.aload_n 0, 1) := dk_42 (dk_at dksX7_restore_1 6 rfl rfl)
theorem dX7_restore_31 : decode cX7_restore 31 = .ok (.aload_n 0, 1) := dk_42 (dk_at dksX7_restore_1 7 rfl rfl)
theorem dX7_restore_32 : decode cX7_restore 32 = .ok (.getfield 132, 3) := dk_180 0 132 (dk_at dksX7_restore_1 8 rfl rfl)
theorem dX7_restore_35 : decode cX7_restore 35 = .ok (.iconst 0, 1) := dk_3 (dk_at dksX7_restore_1 11 rfl rfl)
theorem dX7_restore_36 : decode cX7_restore 36 = .ok (.invokevirtual 404, 3) := dk_182 1 148 (dk_at dksX7_restore_1 12 rfl rfl)
theorem dX7_restore_39 : decode cX7_restore 39 = .ok (.aload_n 0, 1) := dk_42 (dk_at dksX7_restore_1 15 rfl rfl)
theorem dX7_restore_40 : decode cX7_restore 40 = .ok (.getfield 93, 3) := dk_180 0 93 (dk_at dksX7_restore_1 16 rfl rfl)
theorem dX7_restore_43 : decode cX7_restore 43 = .ok (.aload_n 0, 1) := dk_42 (dk_at dksX7_restore_1 19 rfl rfl)
theorem dX7_restore_44 : decode cX7_restore 44 = .ok (.getfield 135, 3) := dk_180 0 135 (dk_at dksX7_restore_1 20 rfl rfl)
theorem dX7_restore_47 : decode cX7_restore 47 = .ok (.invokestatic 469, 3) := dk_184 1 213 (dk_at dksX7_restore_2 0 rfl rfl)
theorem dX7_restore_50 : decode cX7_restore 50 = .ok (.aload_n 0, 1) := dk_42 (dk_at dksX7_restore_2 3 rfl rfl)
theorem dX7_restore_51 : decode cX7_restore 51 = .ok (.getfield 114, 3) := dk_180 0 114 (dk_at dksX7_restore_2 4 rfl rfl)
theorem dX7_restore_54 : decode cX7_restore 54 = .ok (.aload_n 0, 1) := dk_42 (dk_at dksX7_restore_2 7 rfl rfl)
theorem dX7_restore_55 : decode cX7_restore 55 = .ok (.getfield 138, 3) := dk_180 0 138 (dk_at dksX7_restore_2 8 rfl rfl)
theorem dX7_restore_58 : decode cX7_restore 58 = .ok (.invokestatic 469, 3) := dk_184 1 213 (dk_at dksX7_restore_2 11 rfl rfl)
theorem dX7_restore_61 : decode cX7_restore 61 = .ok (.aload_n 0, 1) := dk_42 (dk_at dksX7_restore_2 14 rfl rfl)
theorem dX7_restore_62 : decode cX7_restore 62 = .ok (.getfield 117, 3) := dk_180 0 117 (dk_at dksX7_restore_2 15 rfl rfl)
theorem dX7_restore_65 : decode cX7_restore 65 = .ok (.aload_n 0, 1) := dk_42 (dk_at dksX7_restore_2 18 rfl rfl)
theorem dX7_restore_66 : decode cX7_restore 66 = .ok (.getfield 141, 3) := dk_180 0 141 (dk_at dksX7_restore_2 19 rfl rfl)
theorem dX7_restore_69 : decode cX7_restore 69 = .ok (.invokestatic 469, 3) := dk_184 1 213 (dk_at dksX7_restore_3 0 rfl rfl)
theorem dX7_restore_72 : decode cX7_restore 72 = .ok (.aload_n 0, 1) := dk_42 (dk_at dksX7_restore_3 3 rfl rfl)
theorem dX7_restore_73 : decode cX7_restore 73 = .ok (.getfield 120, 3) := dk_180 0 120 (dk_at dksX7_restore_3 4 rfl rfl)
theorem dX7_restore_76 : decode cX7_restore 76 = .ok (.aload_n 0, 1) := dk_42 (dk_at dksX7_restore_3 7 rfl rfl)
theorem dX7_restore_77 : decode cX7_restore 77 = .ok (.getfield 144, 3) := dk_180 0 144 (dk_at dksX7_restore_3 8 rfl rfl)
theorem dX7_restore_80 : decode cX7_restore 80 = .ok (.invokestatic 469, 3) := dk_184 1 213 (dk_at dksX7_restore_3 11 rfl rfl)
theorem dX7_restore_83 : decode cX7_restore 83 = .ok (.aload_n 0, 1) := dk_42 (dk_at dksX7_restore_3 14 rfl rfl)
theorem dX7_restore_84 : decode cX7_restore 84 = .ok (.getfield 62, 3) := dk_180 0 62 (dk_at dksX7_restore_3 15 rfl rfl)
theorem dX7_restore_87 : decode cX7_restore 87 = .ok (.aload_n 0, 1) := dk_42 (dk_at dksX7_restore_3 18 rfl rfl)
theorem dX7_restore_88 : decode cX7_restore 88 = .ok (.getfield 147, 3) := dk_180 0 147 (dk_at dksX7_restore_3 19 rfl rfl)
theorem dX7_restore_91 : decode cX7_restore 91 = .ok (.invokestatic 469, 3) := dk_184 1 213 (dk_at dksX7_restore_4 0 rfl rfl)
theorem dX7_restore_94 : decode cX7_restore 94 = .ok (.iconst 1, 1) := dk_4 (dk_at dksX7_restore_4 3 rfl rfl)
theorem dX7_restore_95 : decode cX7_restore 95 = .ok (.ireturn, 1) := dk_172 (dk_at dksX7_restore_4 4 rfl rfl)
theorem q131 : (Jvm.Cond.initialized "SableCrownModel") ∈ lw_all := lw_g (lw_at lw_m1 27 rfl) rfl
theorem q684 : (Jvm.Cond.selects "SableCrownModel" ({ cls := "java/lang/Object", name := "getClass", desc := "()Ljava/lang/Class;" } : Jvm.MethodName) ({ cls := "java/lang/Object", name := "getClass", desc := "()Ljava/lang/Class;" } : Jvm.MethodName)) ∈ lw_all := lw_g (lw_at lw_m3 100 rfl) rfl
theorem q1663 : (Jvm.Cond.instantiable "SableCrownModel" (63 : Nat)) ∈ lw_all := lw_g (lw_at lw_m7 119 rfl) rfl
theorem q1665 : (Jvm.Cond.instanceMethod ({ cls := "SableCrownModel", name := "<init>", desc := "()V" } : Jvm.MethodName)) ∈ lw_all := lw_g (lw_at lw_m7 121 rfl) rfl
theorem q1666 : (Jvm.Cond.code ({ cls := "SableCrownModel", name := "<init>", desc := "()V" } : Jvm.MethodName) prog_18_method_1_code (1 : Nat) (Option.none : Option Jvm.ClassFile.FieldType)) ∈ lw_all := lw_g (lw_at lw_m7 122 rfl) rfl
theorem q1667 : (Jvm.Cond.methodLink "SableCrownModel" (3 : Nat) ({ cls := "java/lang/Object", name := "<init>", desc := "()V" } : Jvm.MethodName)) ∈ lw_all := lw_g (lw_at lw_m7 123 rfl) rfl
theorem q1668 : (Jvm.Cond.classLink "SableCrownModel" (9 : Nat) "java/lang/String") ∈ lw_all := lw_g (lw_at lw_m7 124 rfl) rfl
theorem q1670 : (Jvm.Cond.stringRef "SableCrownModel" (11 : Nat) "bows") ∈ lw_tbl := lw_at lw_m7 126 rfl
theorem q1671 : (Jvm.Cond.stringRef "SableCrownModel" (13 : Nat) "sables") ∈ lw_tbl := lw_at lw_m7 127 rfl
theorem q1672 : (Jvm.Cond.stringRef "SableCrownModel" (15 : Nat) "owes") ∈ lw_tbl := lw_at lw_m7 128 rfl
theorem q1673 : (Jvm.Cond.stringRef "SableCrownModel" (17 : Nat) "due") ∈ lw_tbl := lw_at lw_m7 129 rfl
theorem q1674 : (Jvm.Cond.stringRef "SableCrownModel" (19 : Nat) "year") ∈ lw_tbl := lw_at lw_m7 130 rfl
theorem q1675 : (Jvm.Cond.stringRef "SableCrownModel" (21 : Nat) "store") ∈ lw_tbl := lw_at lw_m7 131 rfl
theorem q1676 : (Jvm.Cond.stringRef "SableCrownModel" (23 : Nat) "others") ∈ lw_tbl := lw_at lw_m7 132 rfl
theorem q1677 : (Jvm.Cond.fieldLink "SableCrownModel" (25 : Nat) "SableCrownModel" "values" "[Ljava/lang/String;") ∈ lw_all := lw_g (lw_at lw_m7 133 rfl) rfl
theorem q1678 : (Jvm.Cond.fieldLink "SableCrownModel" (150 : Nat) "SableCrownModel" "code" "I") ∈ lw_all := lw_g (lw_at lw_m7 134 rfl) rfl
theorem q1679 : (Jvm.Cond.fieldLink "SableCrownModel" (29 : Nat) "SableCrownModel" "told" "[I") ∈ lw_all := lw_g (lw_at lw_m7 135 rfl) rfl
theorem q1680 : (Jvm.Cond.fieldLink "SableCrownModel" (33 : Nat) "SableCrownModel" "sablesTold" "[I") ∈ lw_all := lw_g (lw_at lw_m7 136 rfl) rfl
theorem q1681 : (Jvm.Cond.fieldLink "SableCrownModel" (36 : Nat) "SableCrownModel" "blackTold" "[I") ∈ lw_all := lw_g (lw_at lw_m7 137 rfl) rfl
theorem q1682 : (Jvm.Cond.fieldLink "SableCrownModel" (39 : Nat) "SableCrownModel" "room" "[I") ∈ lw_all := lw_g (lw_at lw_m7 138 rfl) rfl
theorem q1683 : (Jvm.Cond.fieldLink "SableCrownModel" (42 : Nat) "SableCrownModel" "grows" "[I") ∈ lw_all := lw_g (lw_at lw_m7 139 rfl) rfl
theorem q1684 : (Jvm.Cond.fieldLink "SableCrownModel" (45 : Nat) "SableCrownModel" "river" "[I") ∈ lw_all := lw_g (lw_at lw_m7 140 rfl) rfl
theorem q1685 : (Jvm.Cond.fieldLink "SableCrownModel" (48 : Nat) "SableCrownModel" "bows" "[I") ∈ lw_all := lw_g (lw_at lw_m7 141 rfl) rfl
theorem q1686 : (Jvm.Cond.fieldLink "SableCrownModel" (50 : Nat) "SableCrownModel" "whereTold" "[I") ∈ lw_all := lw_g (lw_at lw_m7 142 rfl) rfl
theorem q1687 : (Jvm.Cond.fieldLink "SableCrownModel" (53 : Nat) "SableCrownModel" "seenTold" "[I") ∈ lw_all := lw_g (lw_at lw_m7 143 rfl) rfl
theorem q1688 : (Jvm.Cond.fieldLink "SableCrownModel" (56 : Nat) "SableCrownModel" "fort" "[I") ∈ lw_all := lw_g (lw_at lw_m7 144 rfl) rfl
theorem q1689 : (Jvm.Cond.fieldLink "SableCrownModel" (59 : Nat) "SableCrownModel" "signs" "[I") ∈ lw_all := lw_g (lw_at lw_m7 145 rfl) rfl
theorem q1690 : (Jvm.Cond.fieldLink "SableCrownModel" (62 : Nat) "SableCrownModel" "status" "[I") ∈ lw_all := lw_g (lw_at lw_m7 146 rfl) rfl
theorem q1691 : (Jvm.Cond.fieldLink "SableCrownModel" (65 : Nat) "SableCrownModel" "tape" "[I") ∈ lw_all := lw_g (lw_at lw_m7 147 rfl) rfl
theorem q1692 : (Jvm.Cond.fieldLink "SableCrownModel" (157 : Nat) "SableCrownModel" "taped" "I") ∈ lw_all := lw_g (lw_at lw_m7 148 rfl) rfl
theorem q1693 : (Jvm.Cond.fieldLink "SableCrownModel" (163 : Nat) "SableCrownModel" "at" "I") ∈ lw_all := lw_g (lw_at lw_m7 149 rfl) rfl
theorem q1694 : (Jvm.Cond.fieldLink "SableCrownModel" (160 : Nat) "SableCrownModel" "size" "I") ∈ lw_all := lw_g (lw_at lw_m7 150 rfl) rfl
theorem q1695 : (Jvm.Cond.fieldLink "SableCrownModel" (173 : Nat) "SableCrownModel" "token" "I") ∈ lw_all := lw_g (lw_at lw_m7 151 rfl) rfl
theorem q1696 : (Jvm.Cond.fieldLink "SableCrownModel" (183 : Nat) "SableCrownModel" "number" "I") ∈ lw_all := lw_g (lw_at lw_m7 152 rfl) rfl
theorem q1697 : (Jvm.Cond.fieldLink "SableCrownModel" (170 : Nat) "SableCrownModel" "begins" "I") ∈ lw_all := lw_g (lw_at lw_m7 153 rfl) rfl
theorem q1698 : (Jvm.Cond.fieldLink "SableCrownModel" (196 : Nat) "SableCrownModel" "stops" "I") ∈ lw_all := lw_g (lw_at lw_m7 154 rfl) rfl
theorem q1699 : (Jvm.Cond.fieldLink "SableCrownModel" (199 : Nat) "SableCrownModel" "bad" "I") ∈ lw_all := lw_g (lw_at lw_m7 155 rfl) rfl
theorem q1700 : (Jvm.Cond.fieldLink "SableCrownModel" (202 : Nat) "SableCrownModel" "badPlace" "I") ∈ lw_all := lw_g (lw_at lw_m7 156 rfl) rfl
theorem q1701 : (Jvm.Cond.fieldLink "SableCrownModel" (68 : Nat) "SableCrownModel" "faultPlace" "I") ∈ lw_all := lw_g (lw_at lw_m7 157 rfl) rfl
theorem q1702 : (Jvm.Cond.fieldLink "SableCrownModel" (72 : Nat) "SableCrownModel" "sables" "[I") ∈ lw_all := lw_g (lw_at lw_m7 158 rfl) rfl
theorem q1703 : (Jvm.Cond.fieldLink "SableCrownModel" (74 : Nat) "SableCrownModel" "black" "[I") ∈ lw_all := lw_g (lw_at lw_m7 159 rfl) rfl
theorem q1704 : (Jvm.Cond.fieldLink "SableCrownModel" (77 : Nat) "SableCrownModel" "rest" "[I") ∈ lw_all := lw_g (lw_at lw_m7 160 rfl) rfl
theorem q1705 : (Jvm.Cond.fieldLink "SableCrownModel" (80 : Nat) "SableCrownModel" "where" "[I") ∈ lw_all := lw_g (lw_at lw_m7 161 rfl) rfl
theorem q1706 : (Jvm.Cond.fieldLink "SableCrownModel" (83 : Nat) "SableCrownModel" "seen" "[I") ∈ lw_all := lw_g (lw_at lw_m7 162 rfl) rfl
theorem q1707 : (Jvm.Cond.fieldLink "SableCrownModel" (86 : Nat) "SableCrownModel" "store" "[I") ∈ lw_all := lw_g (lw_at lw_m7 163 rfl) rfl
theorem q1708 : (Jvm.Cond.fieldLink "SableCrownModel" (88 : Nat) "SableCrownModel" "owes" "[I") ∈ lw_all := lw_g (lw_at lw_m7 164 rfl) rfl
theorem q1709 : (Jvm.Cond.fieldLink "SableCrownModel" (90 : Nat) "SableCrownModel" "dead" "[I") ∈ lw_all := lw_g (lw_at lw_m7 165 rfl) rfl
theorem q1710 : (Jvm.Cond.fieldLink "SableCrownModel" (93 : Nat) "SableCrownModel" "past" "[I") ∈ lw_all := lw_g (lw_at lw_m7 166 rfl) rfl
theorem q1711 : (Jvm.Cond.fieldLink "SableCrownModel" (316 : Nat) "SableCrownModel" "year" "I") ∈ lw_all := lw_g (lw_at lw_m7 167 rfl) rfl
theorem q1712 : (Jvm.Cond.fieldLink "SableCrownModel" (318 : Nat) "SableCrownModel" "paid" "I") ∈ lw_all := lw_g (lw_at lw_m7 168 rfl) rfl
theorem q1713 : (Jvm.Cond.fieldLink "SableCrownModel" (321 : Nat) "SableCrownModel" "foxes" "I") ∈ lw_all := lw_g (lw_at lw_m7 169 rfl) rfl
theorem q1714 : (Jvm.Cond.fieldLink "SableCrownModel" (324 : Nat) "SableCrownModel" "acts" "I") ∈ lw_all := lw_g (lw_at lw_m7 170 rfl) rfl
theorem q1715 : (Jvm.Cond.fieldLink "SableCrownModel" (327 : Nat) "SableCrownModel" "spied" "I") ∈ lw_all := lw_g (lw_at lw_m7 171 rfl) rfl
theorem q1716 : (Jvm.Cond.fieldLink "SableCrownModel" (96 : Nat) "SableCrownModel" "asked" "[I") ∈ lw_all := lw_g (lw_at lw_m7 172 rfl) rfl
theorem q1717 : (Jvm.Cond.fieldLink "SableCrownModel" (99 : Nat) "SableCrownModel" "stack" "[I") ∈ lw_all := lw_g (lw_at lw_m7 173 rfl) rfl
theorem q1718 : (Jvm.Cond.fieldLink "SableCrownModel" (355 : Nat) "SableCrownModel" "blackIn" "I") ∈ lw_all := lw_g (lw_at lw_m7 174 rfl) rfl
theorem q1719 : (Jvm.Cond.fieldLink "SableCrownModel" (102 : Nat) "SableCrownModel" "rowThen" "[I") ∈ lw_all := lw_g (lw_at lw_m7 175 rfl) rfl
theorem q1720 : (Jvm.Cond.fieldLink "SableCrownModel" (105 : Nat) "SableCrownModel" "days" "[I") ∈ lw_all := lw_g (lw_at lw_m7 176 rfl) rfl
theorem q1721 : (Jvm.Cond.fieldLink "SableCrownModel" (108 : Nat) "SableCrownModel" "rounds" "[I") ∈ lw_all := lw_g (lw_at lw_m7 177 rfl) rfl
theorem q1722 : (Jvm.Cond.fieldLink "SableCrownModel" (111 : Nat) "SableCrownModel" "fars" "[I") ∈ lw_all := lw_g (lw_at lw_m7 178 rfl) rfl
theorem q1723 : (Jvm.Cond.fieldLink "SableCrownModel" (114 : Nat) "SableCrownModel" "spiedBand" "[I") ∈ lw_all := lw_g (lw_at lw_m7 179 rfl) rfl
theorem q1724 : (Jvm.Cond.fieldLink "SableCrownModel" (117 : Nat) "SableCrownModel" "spiedIn" "[I") ∈ lw_all := lw_g (lw_at lw_m7 180 rfl) rfl
theorem q1725 : (Jvm.Cond.fieldLink "SableCrownModel" (120 : Nat) "SableCrownModel" "spiedStore" "[I") ∈ lw_all := lw_g (lw_at lw_m7 181 rfl) rfl
theorem q1726 : (Jvm.Cond.fieldLink "SableCrownModel" (123 : Nat) "SableCrownModel" "rowSpied" "[I") ∈ lw_all := lw_g (lw_at lw_m7 182 rfl) rfl
theorem q1727 : (Jvm.Cond.fieldLink "SableCrownModel" (126 : Nat) "SableCrownModel" "fits" "[I") ∈ lw_all := lw_g (lw_at lw_m7 183 rfl) rfl
theorem q1728 : (Jvm.Cond.fieldLink "SableCrownModel" (129 : Nat) "SableCrownModel" "storesThen" "[I") ∈ lw_all := lw_g (lw_at lw_m7 184 rfl) rfl
theorem q1729 : (Jvm.Cond.fieldLink "SableCrownModel" (434 : Nat) "SableCrownModel" "fitMany" "I") ∈ lw_all := lw_g (lw_at lw_m7 185 rfl) rfl
theorem q1730 : (Jvm.Cond.fieldLink "SableCrownModel" (453 : Nat) "SableCrownModel" "seedNow" "I") ∈ lw_all := lw_g (lw_at lw_m7 186 rfl) rfl
theorem q1731 : (Jvm.Cond.fieldLink "SableCrownModel" (330 : Nat) "SableCrownModel" "hasImage" "Z") ∈ lw_all := lw_g (lw_at lw_m7 187 rfl) rfl
theorem q1732 : (Jvm.Cond.fieldLink "SableCrownModel" (463 : Nat) "SableCrownModel" "actsThen" "I") ∈ lw_all := lw_g (lw_at lw_m7 188 rfl) rfl
theorem q1733 : (Jvm.Cond.fieldLink "SableCrownModel" (466 : Nat) "SableCrownModel" "spiedThen" "I") ∈ lw_all := lw_g (lw_at lw_m7 189 rfl) rfl
theorem q1734 : (Jvm.Cond.fieldLink "SableCrownModel" (132 : Nat) "SableCrownModel" "imageRow" "[I") ∈ lw_all := lw_g (lw_at lw_m7 190 rfl) rfl
theorem q1735 : (Jvm.Cond.fieldLink "SableCrownModel" (135 : Nat) "SableCrownModel" "pastThen" "[I") ∈ lw_all := lw_g (lw_at lw_m7 191 rfl) rfl
theorem q1736 : (Jvm.Cond.fieldLink "SableCrownModel" (138 : Nat) "SableCrownModel" "spiedBandThen" "[I") ∈ lw_all := lw_g (lw_at lw_m7 192 rfl) rfl
theorem q1737 : (Jvm.Cond.fieldLink "SableCrownModel" (141 : Nat) "SableCrownModel" "spiedInThen" "[I") ∈ lw_all := lw_g (lw_at lw_m7 193 rfl) rfl
theorem q1738 : (Jvm.Cond.fieldLink "SableCrownModel" (144 : Nat) "SableCrownModel" "spiedStoreThen" "[I") ∈ lw_all := lw_g (lw_at lw_m7 194 rfl) rfl
theorem q1739 : (Jvm.Cond.fieldLink "SableCrownModel" (147 : Nat) "SableCrownModel" "statusThen" "[I") ∈ lw_all := lw_g (lw_at lw_m7 195 rfl) rfl
theorem q1740 : (Jvm.Cond.laysFinal "SableCrownModel" "SableCrownModel" "values" "[Ljava/lang/String;") ∈ lw_all := lw_g (lw_at lw_m7 196 rfl) rfl
theorem q1741 : (Jvm.Cond.soleField "SableCrownModel" "values") ∈ lw_all := lw_g (lw_at lw_m7 197 rfl) rfl
theorem q1742 : (Jvm.Cond.lays "SableCrownModel" "SableCrownModel" "code" "I") ∈ lw_all := lw_g (lw_at lw_m7 198 rfl) rfl
theorem q1743 : (Jvm.Cond.soleField "SableCrownModel" "code") ∈ lw_all := lw_g (lw_at lw_m7 199 rfl) rfl
theorem q1744 : (Jvm.Cond.laysFinal "SableCrownModel" "SableCrownModel" "told" "[I") ∈ lw_all := lw_g (lw_at lw_m7 200 rfl) rfl
theorem q1745 : (Jvm.Cond.soleField "SableCrownModel" "told") ∈ lw_all := lw_g (lw_at lw_m7 201 rfl) rfl
theorem q1746 : (Jvm.Cond.laysFinal "SableCrownModel" "SableCrownModel" "sablesTold" "[I") ∈ lw_all := lw_g (lw_at lw_m7 202 rfl) rfl
theorem q1747 : (Jvm.Cond.soleField "SableCrownModel" "sablesTold") ∈ lw_all := lw_g (lw_at lw_m7 203 rfl) rfl
theorem q1748 : (Jvm.Cond.laysFinal "SableCrownModel" "SableCrownModel" "blackTold" "[I") ∈ lw_all := lw_g (lw_at lw_m7 204 rfl) rfl
theorem q1749 : (Jvm.Cond.soleField "SableCrownModel" "blackTold") ∈ lw_all := lw_g (lw_at lw_m7 205 rfl) rfl
theorem q1750 : (Jvm.Cond.laysFinal "SableCrownModel" "SableCrownModel" "room" "[I") ∈ lw_all := lw_g (lw_at lw_m7 206 rfl) rfl
theorem q1751 : (Jvm.Cond.soleField "SableCrownModel" "room") ∈ lw_all := lw_g (lw_at lw_m7 207 rfl) rfl
theorem q1752 : (Jvm.Cond.laysFinal "SableCrownModel" "SableCrownModel" "grows" "[I") ∈ lw_all := lw_g (lw_at lw_m7 208 rfl) rfl
theorem q1753 : (Jvm.Cond.soleField "SableCrownModel" "grows") ∈ lw_all := lw_g (lw_at lw_m7 209 rfl) rfl
theorem q1754 : (Jvm.Cond.laysFinal "SableCrownModel" "SableCrownModel" "river" "[I") ∈ lw_all := lw_g (lw_at lw_m7 210 rfl) rfl
theorem q1755 : (Jvm.Cond.soleField "SableCrownModel" "river") ∈ lw_all := lw_g (lw_at lw_m7 211 rfl) rfl
theorem q1756 : (Jvm.Cond.laysFinal "SableCrownModel" "SableCrownModel" "bows" "[I") ∈ lw_all := lw_g (lw_at lw_m7 212 rfl) rfl
theorem q1757 : (Jvm.Cond.soleField "SableCrownModel" "bows") ∈ lw_all := lw_g (lw_at lw_m7 213 rfl) rfl
theorem q1758 : (Jvm.Cond.laysFinal "SableCrownModel" "SableCrownModel" "whereTold" "[I") ∈ lw_all := lw_g (lw_at lw_m7 214 rfl) rfl
theorem q1759 : (Jvm.Cond.soleField "SableCrownModel" "whereTold") ∈ lw_all := lw_g (lw_at lw_m7 215 rfl) rfl
theorem q1760 : (Jvm.Cond.laysFinal "SableCrownModel" "SableCrownModel" "seenTold" "[I") ∈ lw_all := lw_g (lw_at lw_m7 216 rfl) rfl
theorem q1761 : (Jvm.Cond.soleField "SableCrownModel" "seenTold") ∈ lw_all := lw_g (lw_at lw_m7 217 rfl) rfl
theorem q1762 : (Jvm.Cond.laysFinal "SableCrownModel" "SableCrownModel" "fort" "[I") ∈ lw_all := lw_g (lw_at lw_m7 218 rfl) rfl
theorem q1763 : (Jvm.Cond.soleField "SableCrownModel" "fort") ∈ lw_all := lw_g (lw_at lw_m7 219 rfl) rfl
theorem q1764 : (Jvm.Cond.laysFinal "SableCrownModel" "SableCrownModel" "signs" "[I") ∈ lw_all := lw_g (lw_at lw_m7 220 rfl) rfl
theorem q1765 : (Jvm.Cond.soleField "SableCrownModel" "signs") ∈ lw_all := lw_g (lw_at lw_m7 221 rfl) rfl
theorem q1766 : (Jvm.Cond.laysFinal "SableCrownModel" "SableCrownModel" "status" "[I") ∈ lw_all := lw_g (lw_at lw_m7 222 rfl) rfl
theorem q1767 : (Jvm.Cond.soleField "SableCrownModel" "status") ∈ lw_all := lw_g (lw_at lw_m7 223 rfl) rfl
theorem q1768 : (Jvm.Cond.laysFinal "SableCrownModel" "SableCrownModel" "tape" "[I") ∈ lw_all := lw_g (lw_at lw_m7 224 rfl) rfl
theorem q1769 : (Jvm.Cond.soleField "SableCrownModel" "tape") ∈ lw_all := lw_g (lw_at lw_m7 225 rfl) rfl
theorem q1770 : (Jvm.Cond.lays "SableCrownModel" "SableCrownModel" "taped" "I") ∈ lw_all := lw_g (lw_at lw_m7 226 rfl) rfl
theorem q1771 : (Jvm.Cond.soleField "SableCrownModel" "taped") ∈ lw_all := lw_g (lw_at lw_m7 227 rfl) rfl
theorem q1772 : (Jvm.Cond.lays "SableCrownModel" "SableCrownModel" "at" "I") ∈ lw_all := lw_g (lw_at lw_m7 228 rfl) rfl
theorem q1773 : (Jvm.Cond.soleField "SableCrownModel" "at") ∈ lw_all := lw_g (lw_at lw_m7 229 rfl) rfl
theorem q1774 : (Jvm.Cond.lays "SableCrownModel" "SableCrownModel" "size" "I") ∈ lw_all := lw_g (lw_at lw_m7 230 rfl) rfl
theorem q1775 : (Jvm.Cond.soleField "SableCrownModel" "size") ∈ lw_all := lw_g (lw_at lw_m7 231 rfl) rfl
theorem q1776 : (Jvm.Cond.lays "SableCrownModel" "SableCrownModel" "token" "I") ∈ lw_all := lw_g (lw_at lw_m7 232 rfl) rfl
theorem q1777 : (Jvm.Cond.soleField "SableCrownModel" "token") ∈ lw_all := lw_g (lw_at lw_m7 233 rfl) rfl
theorem q1778 : (Jvm.Cond.lays "SableCrownModel" "SableCrownModel" "number" "I") ∈ lw_all := lw_g (lw_at lw_m7 234 rfl) rfl
theorem q1779 : (Jvm.Cond.soleField "SableCrownModel" "number") ∈ lw_all := lw_g (lw_at lw_m7 235 rfl) rfl
theorem q1780 : (Jvm.Cond.lays "SableCrownModel" "SableCrownModel" "begins" "I") ∈ lw_all := lw_g (lw_at lw_m7 236 rfl) rfl
theorem q1781 : (Jvm.Cond.soleField "SableCrownModel" "begins") ∈ lw_all := lw_g (lw_at lw_m7 237 rfl) rfl
theorem q1782 : (Jvm.Cond.lays "SableCrownModel" "SableCrownModel" "stops" "I") ∈ lw_all := lw_g (lw_at lw_m7 238 rfl) rfl
theorem q1783 : (Jvm.Cond.soleField "SableCrownModel" "stops") ∈ lw_all := lw_g (lw_at lw_m7 239 rfl) rfl
theorem q1784 : (Jvm.Cond.lays "SableCrownModel" "SableCrownModel" "bad" "I") ∈ lw_all := lw_g (lw_at lw_m8 0 rfl) rfl
theorem q1785 : (Jvm.Cond.soleField "SableCrownModel" "bad") ∈ lw_all := lw_g (lw_at lw_m8 1 rfl) rfl
theorem q1786 : (Jvm.Cond.lays "SableCrownModel" "SableCrownModel" "badPlace" "I") ∈ lw_all := lw_g (lw_at lw_m8 2 rfl) rfl
theorem q1787 : (Jvm.Cond.soleField "SableCrownModel" "badPlace") ∈ lw_all := lw_g (lw_at lw_m8 3 rfl) rfl
theorem q1788 : (Jvm.Cond.lays "SableCrownModel" "SableCrownModel" "faultPlace" "I") ∈ lw_all := lw_g (lw_at lw_m8 4 rfl) rfl
theorem q1789 : (Jvm.Cond.soleField "SableCrownModel" "faultPlace") ∈ lw_all := lw_g (lw_at lw_m8 5 rfl) rfl
theorem q1790 : (Jvm.Cond.laysFinal "SableCrownModel" "SableCrownModel" "sables" "[I") ∈ lw_all := lw_g (lw_at lw_m8 6 rfl) rfl
theorem q1791 : (Jvm.Cond.soleField "SableCrownModel" "sables") ∈ lw_all := lw_g (lw_at lw_m8 7 rfl) rfl
theorem q1792 : (Jvm.Cond.laysFinal "SableCrownModel" "SableCrownModel" "black" "[I") ∈ lw_all := lw_g (lw_at lw_m8 8 rfl) rfl
theorem q1793 : (Jvm.Cond.soleField "SableCrownModel" "black") ∈ lw_all := lw_g (lw_at lw_m8 9 rfl) rfl
theorem q1794 : (Jvm.Cond.laysFinal "SableCrownModel" "SableCrownModel" "rest" "[I") ∈ lw_all := lw_g (lw_at lw_m8 10 rfl) rfl
theorem q1795 : (Jvm.Cond.soleField "SableCrownModel" "rest") ∈ lw_all := lw_g (lw_at lw_m8 11 rfl) rfl
theorem q1796 : (Jvm.Cond.laysFinal "SableCrownModel" "SableCrownModel" "where" "[I") ∈ lw_all := lw_g (lw_at lw_m8 12 rfl) rfl
theorem q1797 : (Jvm.Cond.soleField "SableCrownModel" "where") ∈ lw_all := lw_g (lw_at lw_m8 13 rfl) rfl
theorem q1798 : (Jvm.Cond.laysFinal "SableCrownModel" "SableCrownModel" "seen" "[I") ∈ lw_all := lw_g (lw_at lw_m8 14 rfl) rfl
theorem q1799 : (Jvm.Cond.soleField "SableCrownModel" "seen") ∈ lw_all := lw_g (lw_at lw_m8 15 rfl) rfl
theorem q1800 : (Jvm.Cond.laysFinal "SableCrownModel" "SableCrownModel" "store" "[I") ∈ lw_all := lw_g (lw_at lw_m8 16 rfl) rfl
theorem q1801 : (Jvm.Cond.soleField "SableCrownModel" "store") ∈ lw_all := lw_g (lw_at lw_m8 17 rfl) rfl
theorem q1802 : (Jvm.Cond.laysFinal "SableCrownModel" "SableCrownModel" "owes" "[I") ∈ lw_all := lw_g (lw_at lw_m8 18 rfl) rfl
theorem q1803 : (Jvm.Cond.soleField "SableCrownModel" "owes") ∈ lw_all := lw_g (lw_at lw_m8 19 rfl) rfl
theorem q1804 : (Jvm.Cond.laysFinal "SableCrownModel" "SableCrownModel" "dead" "[I") ∈ lw_all := lw_g (lw_at lw_m8 20 rfl) rfl
theorem q1805 : (Jvm.Cond.soleField "SableCrownModel" "dead") ∈ lw_all := lw_g (lw_at lw_m8 21 rfl) rfl
theorem q1806 : (Jvm.Cond.laysFinal "SableCrownModel" "SableCrownModel" "past" "[I") ∈ lw_all := lw_g (lw_at lw_m8 22 rfl) rfl
theorem q1807 : (Jvm.Cond.soleField "SableCrownModel" "past") ∈ lw_all := lw_g (lw_at lw_m8 23 rfl) rfl
theorem q1808 : (Jvm.Cond.lays "SableCrownModel" "SableCrownModel" "year" "I") ∈ lw_all := lw_g (lw_at lw_m8 24 rfl) rfl
theorem q1809 : (Jvm.Cond.soleField "SableCrownModel" "year") ∈ lw_all := lw_g (lw_at lw_m8 25 rfl) rfl
theorem q1810 : (Jvm.Cond.lays "SableCrownModel" "SableCrownModel" "paid" "I") ∈ lw_all := lw_g (lw_at lw_m8 26 rfl) rfl
theorem q1811 : (Jvm.Cond.soleField "SableCrownModel" "paid") ∈ lw_all := lw_g (lw_at lw_m8 27 rfl) rfl
theorem q1812 : (Jvm.Cond.lays "SableCrownModel" "SableCrownModel" "foxes" "I") ∈ lw_all := lw_g (lw_at lw_m8 28 rfl) rfl
theorem q1813 : (Jvm.Cond.soleField "SableCrownModel" "foxes") ∈ lw_all := lw_g (lw_at lw_m8 29 rfl) rfl
theorem q1814 : (Jvm.Cond.lays "SableCrownModel" "SableCrownModel" "acts" "I") ∈ lw_all := lw_g (lw_at lw_m8 30 rfl) rfl
theorem q1815 : (Jvm.Cond.soleField "SableCrownModel" "acts") ∈ lw_all := lw_g (lw_at lw_m8 31 rfl) rfl
theorem q1816 : (Jvm.Cond.lays "SableCrownModel" "SableCrownModel" "spied" "I") ∈ lw_all := lw_g (lw_at lw_m8 32 rfl) rfl
theorem q1817 : (Jvm.Cond.soleField "SableCrownModel" "spied") ∈ lw_all := lw_g (lw_at lw_m8 33 rfl) rfl
theorem q1818 : (Jvm.Cond.laysFinal "SableCrownModel" "SableCrownModel" "asked" "[I") ∈ lw_all := lw_g (lw_at lw_m8 34 rfl) rfl
theorem q1819 : (Jvm.Cond.soleField "SableCrownModel" "asked") ∈ lw_all := lw_g (lw_at lw_m8 35 rfl) rfl
theorem q1820 : (Jvm.Cond.laysFinal "SableCrownModel" "SableCrownModel" "stack" "[I") ∈ lw_all := lw_g (lw_at lw_m8 36 rfl) rfl
theorem q1821 : (Jvm.Cond.soleField "SableCrownModel" "stack") ∈ lw_all := lw_g (lw_at lw_m8 37 rfl) rfl
theorem q1822 : (Jvm.Cond.lays "SableCrownModel" "SableCrownModel" "blackIn" "I") ∈ lw_all := lw_g (lw_at lw_m8 38 rfl) rfl
theorem q1823 : (Jvm.Cond.soleField "SableCrownModel" "blackIn") ∈ lw_all := lw_g (lw_at lw_m8 39 rfl) rfl
theorem q1824 : (Jvm.Cond.laysFinal "SableCrownModel" "SableCrownModel" "rowThen" "[I") ∈ lw_all := lw_g (lw_at lw_m8 40 rfl) rfl
theorem q1825 : (Jvm.Cond.soleField "SableCrownModel" "rowThen") ∈ lw_all := lw_g (lw_at lw_m8 41 rfl) rfl
theorem q1826 : (Jvm.Cond.laysFinal "SableCrownModel" "SableCrownModel" "days" "[I") ∈ lw_all := lw_g (lw_at lw_m8 42 rfl) rfl
theorem q1827 : (Jvm.Cond.soleField "SableCrownModel" "days") ∈ lw_all := lw_g (lw_at lw_m8 43 rfl) rfl
theorem q1828 : (Jvm.Cond.laysFinal "SableCrownModel" "SableCrownModel" "rounds" "[I") ∈ lw_all := lw_g (lw_at lw_m8 44 rfl) rfl
theorem q1829 : (Jvm.Cond.soleField "SableCrownModel" "rounds") ∈ lw_all := lw_g (lw_at lw_m8 45 rfl) rfl
theorem q1830 : (Jvm.Cond.laysFinal "SableCrownModel" "SableCrownModel" "fars" "[I") ∈ lw_all := lw_g (lw_at lw_m8 46 rfl) rfl
theorem q1831 : (Jvm.Cond.soleField "SableCrownModel" "fars") ∈ lw_all := lw_g (lw_at lw_m8 47 rfl) rfl
theorem q1832 : (Jvm.Cond.laysFinal "SableCrownModel" "SableCrownModel" "spiedBand" "[I") ∈ lw_all := lw_g (lw_at lw_m8 48 rfl) rfl
theorem q1833 : (Jvm.Cond.soleField "SableCrownModel" "spiedBand") ∈ lw_all := lw_g (lw_at lw_m8 49 rfl) rfl
theorem q1834 : (Jvm.Cond.laysFinal "SableCrownModel" "SableCrownModel" "spiedIn" "[I") ∈ lw_all := lw_g (lw_at lw_m8 50 rfl) rfl
theorem q1835 : (Jvm.Cond.soleField "SableCrownModel" "spiedIn") ∈ lw_all := lw_g (lw_at lw_m8 51 rfl) rfl
theorem q1836 : (Jvm.Cond.laysFinal "SableCrownModel" "SableCrownModel" "spiedStore" "[I") ∈ lw_all := lw_g (lw_at lw_m8 52 rfl) rfl
theorem q1837 : (Jvm.Cond.soleField "SableCrownModel" "spiedStore") ∈ lw_all := lw_g (lw_at lw_m8 53 rfl) rfl
theorem q1838 : (Jvm.Cond.laysFinal "SableCrownModel" "SableCrownModel" "rowSpied" "[I") ∈ lw_all := lw_g (lw_at lw_m8 54 rfl) rfl
theorem q1839 : (Jvm.Cond.soleField "SableCrownModel" "rowSpied") ∈ lw_all := lw_g (lw_at lw_m8 55 rfl) rfl
theorem q1840 : (Jvm.Cond.laysFinal "SableCrownModel" "SableCrownModel" "fits" "[I") ∈ lw_all := lw_g (lw_at lw_m8 56 rfl) rfl
theorem q1841 : (Jvm.Cond.soleField "SableCrownModel" "fits") ∈ lw_all := lw_g (lw_at lw_m8 57 rfl) rfl
theorem q1842 : (Jvm.Cond.laysFinal "SableCrownModel" "SableCrownModel" "storesThen" "[I") ∈ lw_all := lw_g (lw_at lw_m8 58 rfl) rfl
theorem q1843 : (Jvm.Cond.soleField "SableCrownModel" "storesThen") ∈ lw_all := lw_g (lw_at lw_m8 59 rfl) rfl
theorem q1844 : (Jvm.Cond.lays "SableCrownModel" "SableCrownModel" "fitMany" "I") ∈ lw_all := lw_g (lw_at lw_m8 60 rfl) rfl
theorem q1845 : (Jvm.Cond.soleField "SableCrownModel" "fitMany") ∈ lw_all := lw_g (lw_at lw_m8 61 rfl) rfl
theorem q1846 : (Jvm.Cond.lays "SableCrownModel" "SableCrownModel" "seedNow" "I") ∈ lw_all := lw_g (lw_at lw_m8 62 rfl) rfl
theorem q1847 : (Jvm.Cond.soleField "SableCrownModel" "seedNow") ∈ lw_all := lw_g (lw_at lw_m8 63 rfl) rfl
theorem q1848 : (Jvm.Cond.lays "SableCrownModel" "SableCrownModel" "hasImage" "Z") ∈ lw_all := lw_g (lw_at lw_m8 64 rfl) rfl
theorem q1849 : (Jvm.Cond.soleField "SableCrownModel" "hasImage") ∈ lw_all := lw_g (lw_at lw_m8 65 rfl) rfl
theorem q1850 : (Jvm.Cond.lays "SableCrownModel" "SableCrownModel" "actsThen" "I") ∈ lw_all := lw_g (lw_at lw_m8 66 rfl) rfl
theorem q1851 : (Jvm.Cond.soleField "SableCrownModel" "actsThen") ∈ lw_all := lw_g (lw_at lw_m8 67 rfl) rfl
theorem q1852 : (Jvm.Cond.lays "SableCrownModel" "SableCrownModel" "spiedThen" "I") ∈ lw_all := lw_g (lw_at lw_m8 68 rfl) rfl
theorem q1853 : (Jvm.Cond.soleField "SableCrownModel" "spiedThen") ∈ lw_all := lw_g (lw_at lw_m8 69 rfl) rfl
theorem q1854 : (Jvm.Cond.laysFinal "SableCrownModel" "SableCrownModel" "imageRow" "[I") ∈ lw_all := lw_g (lw_at lw_m8 70 rfl) rfl
theorem q1855 : (Jvm.Cond.soleField "SableCrownModel" "imageRow") ∈ lw_all := lw_g (lw_at lw_m8 71 rfl) rfl
theorem q1856 : (Jvm.Cond.laysFinal "SableCrownModel" "SableCrownModel" "pastThen" "[I") ∈ lw_all := lw_g (lw_at lw_m8 72 rfl) rfl
theorem q1857 : (Jvm.Cond.soleField "SableCrownModel" "pastThen") ∈ lw_all := lw_g (lw_at lw_m8 73 rfl) rfl
theorem q1858 : (Jvm.Cond.laysFinal "SableCrownModel" "SableCrownModel" "spiedBandThen" "[I") ∈ lw_all := lw_g (lw_at lw_m8 74 rfl) rfl
theorem q1859 : (Jvm.Cond.soleField "SableCrownModel" "spiedBandThen") ∈ lw_all := lw_g (lw_at lw_m8 75 rfl) rfl
theorem q1860 : (Jvm.Cond.laysFinal "SableCrownModel" "SableCrownModel" "spiedInThen" "[I") ∈ lw_all := lw_g (lw_at lw_m8 76 rfl) rfl
theorem q1861 : (Jvm.Cond.soleField "SableCrownModel" "spiedInThen") ∈ lw_all := lw_g (lw_at lw_m8 77 rfl) rfl
theorem q1862 : (Jvm.Cond.laysFinal "SableCrownModel" "SableCrownModel" "spiedStoreThen" "[I") ∈ lw_all := lw_g (lw_at lw_m8 78 rfl) rfl
theorem q1863 : (Jvm.Cond.soleField "SableCrownModel" "spiedStoreThen") ∈ lw_all := lw_g (lw_at lw_m8 79 rfl) rfl
theorem q1864 : (Jvm.Cond.laysFinal "SableCrownModel" "SableCrownModel" "statusThen" "[I") ∈ lw_all := lw_g (lw_at lw_m8 80 rfl) rfl
theorem q1865 : (Jvm.Cond.soleField "SableCrownModel" "statusThen") ∈ lw_all := lw_g (lw_at lw_m8 81 rfl) rfl
theorem q1866 : (Jvm.Cond.superclass "SableCrownModel" "java/lang/Object") ∈ lw_all := lw_g (lw_at lw_m8 82 rfl) rfl
theorem q1868 : (Jvm.Cond.instanceMethod ({ cls := "SableCrownModel", name := "thrown", desc := "()I" } : Jvm.MethodName)) ∈ lw_all := lw_g (lw_at lw_m8 84 rfl) rfl
theorem q1869 : (Jvm.Cond.selects "SableCrownModel" ({ cls := "SableCrownModel", name := "thrown", desc := "()I" } : Jvm.MethodName) ({ cls := "SableCrownModel", name := "thrown", desc := "()I" } : Jvm.MethodName)) ∈ lw_all := lw_g (lw_at lw_m8 85 rfl) rfl
theorem q1870 : (Jvm.Cond.code ({ cls := "SableCrownModel", name := "thrown", desc := "()I" } : Jvm.MethodName) prog_18_method_2_code (1 : Nat) (Option.some Jvm.ClassFile.FieldType.int)) ∈ lw_all := lw_g (lw_at lw_m8 86 rfl) rfl
theorem q1872 : (Jvm.Cond.instanceMethod ({ cls := "SableCrownModel", name := "feed", desc := "(IIIII)I" } : Jvm.MethodName)) ∈ lw_all := lw_g (lw_at lw_m8 88 rfl) rfl
theorem q1873 : (Jvm.Cond.selects "SableCrownModel" ({ cls := "SableCrownModel", name := "feed", desc := "(IIIII)I" } : Jvm.MethodName) ({ cls := "SableCrownModel", name := "feed", desc := "(IIIII)I" } : Jvm.MethodName)) ∈ lw_all := lw_g (lw_at lw_m8 89 rfl) rfl
theorem q1874 : (Jvm.Cond.code ({ cls := "SableCrownModel", name := "feed", desc := "(IIIII)I" } : Jvm.MethodName) prog_18_method_9_code (8 : Nat) (Option.some Jvm.ClassFile.FieldType.int)) ∈ lw_all := lw_g (lw_at lw_m8 90 rfl) rfl
theorem q1876 : (Jvm.Cond.instanceMethod ({ cls := "SableCrownModel", name := "land", desc := "(I)I" } : Jvm.MethodName)) ∈ lw_all := lw_g (lw_at lw_m8 92 rfl) rfl
theorem q1877 : (Jvm.Cond.selects "SableCrownModel" ({ cls := "SableCrownModel", name := "land", desc := "(I)I" } : Jvm.MethodName) ({ cls := "SableCrownModel", name := "land", desc := "(I)I" } : Jvm.MethodName)) ∈ lw_all := lw_g (lw_at lw_m8 93 rfl) rfl
theorem q1878 : (Jvm.Cond.code ({ cls := "SableCrownModel", name := "land", desc := "(I)I" } : Jvm.MethodName) prog_18_method_37_code (3 : Nat) (Option.some Jvm.ClassFile.FieldType.int)) ∈ lw_all := lw_g (lw_at lw_m8 94 rfl) rfl
theorem q1879 : (Jvm.Cond.methodLink "SableCrownModel" (303 : Nat) ({ cls := "SableCrownModel", name := "fail", desc := "(I)I" } : Jvm.MethodName)) ∈ lw_all := lw_g (lw_at lw_m8 95 rfl) rfl
theorem q1880 : (Jvm.Cond.privateMethod ({ cls := "SableCrownModel", name := "fail", desc := "(I)I" } : Jvm.MethodName)) ∈ lw_tbl := lw_at lw_m8 96 rfl
theorem q1881 : (Jvm.Cond.instanceMethod ({ cls := "SableCrownModel", name := "fail", desc := "(I)I" } : Jvm.MethodName)) ∈ lw_all := lw_g (lw_at lw_m8 97 rfl) rfl
theorem q1882 : (Jvm.Cond.code ({ cls := "SableCrownModel", name := "fail", desc := "(I)I" } : Jvm.MethodName) prog_18_method_3_code (2 : Nat) (Option.some Jvm.ClassFile.FieldType.int)) ∈ lw_all := lw_g (lw_at lw_m8 98 rfl) rfl
theorem q1883 : (Jvm.Cond.methodLink "SableCrownModel" (224 : Nat) ({ cls := "SableCrownModel", name := "stepOn", desc := "()V" } : Jvm.MethodName)) ∈ lw_all := lw_g (lw_at lw_m8 99 rfl) rfl
theorem q1884 : (Jvm.Cond.privateMethod ({ cls := "SableCrownModel", name := "stepOn", desc := "()V" } : Jvm.MethodName)) ∈ lw_tbl := lw_at lw_m8 100 rfl
theorem q1885 : (Jvm.Cond.instanceMethod ({ cls := "SableCrownModel", name := "stepOn", desc := "()V" } : Jvm.MethodName)) ∈ lw_all := lw_g (lw_at lw_m8 101 rfl) rfl
theorem q1886 : (Jvm.Cond.code ({ cls := "SableCrownModel", name := "stepOn", desc := "()V" } : Jvm.MethodName) prog_18_method_14_code (2 : Nat) (Option.none : Option Jvm.ClassFile.FieldType)) ∈ lw_all := lw_g (lw_at lw_m8 102 rfl) rfl
theorem q1887 : (Jvm.Cond.methodLink "SableCrownModel" (166 : Nat) ({ cls := "SableCrownModel", name := "byteAt", desc := "(I)I" } : Jvm.MethodName)) ∈ lw_all := lw_g (lw_at lw_m8 103 rfl) rfl
theorem q1888 : (Jvm.Cond.privateMethod ({ cls := "SableCrownModel", name := "byteAt", desc := "(I)I" } : Jvm.MethodName)) ∈ lw_tbl := lw_at lw_m8 104 rfl
theorem q1889 : (Jvm.Cond.instanceMethod ({ cls := "SableCrownModel", name := "byteAt", desc := "(I)I" } : Jvm.MethodName)) ∈ lw_all := lw_g (lw_at lw_m8 105 rfl) rfl
theorem q1890 : (Jvm.Cond.code ({ cls := "SableCrownModel", name := "byteAt", desc := "(I)I" } : Jvm.MethodName) prog_18_method_10_code (2 : Nat) (Option.some Jvm.ClassFile.FieldType.int)) ∈ lw_all := lw_g (lw_at lw_m8 106 rfl) rfl
theorem q1891 : (Jvm.Cond.methodLink "SableCrownModel" (176 : Nat) ({ cls := "SableCrownModel", name := "isLetter", desc := "(I)Z" } : Jvm.MethodName)) ∈ lw_all := lw_g (lw_at lw_m8 107 rfl) rfl
theorem q1892 : (Jvm.Cond.static ({ cls := "SableCrownModel", name := "isLetter", desc := "(I)Z" } : Jvm.MethodName)) ∈ lw_all := lw_g (lw_at lw_m8 108 rfl) rfl
theorem q1893 : (Jvm.Cond.code ({ cls := "SableCrownModel", name := "isLetter", desc := "(I)Z" } : Jvm.MethodName) prog_18_method_11_code (1 : Nat) (Option.some Jvm.ClassFile.FieldType.boolean)) ∈ lw_all := lw_g (lw_at lw_m8 109 rfl) rfl
theorem q1894 : (Jvm.Cond.methodLink "SableCrownModel" (180 : Nat) ({ cls := "SableCrownModel", name := "isDigit", desc := "(I)Z" } : Jvm.MethodName)) ∈ lw_all := lw_g (lw_at lw_m8 110 rfl) rfl
theorem q1895 : (Jvm.Cond.static ({ cls := "SableCrownModel", name := "isDigit", desc := "(I)Z" } : Jvm.MethodName)) ∈ lw_all := lw_g (lw_at lw_m8 111 rfl) rfl
theorem q1896 : (Jvm.Cond.code ({ cls := "SableCrownModel", name := "isDigit", desc := "(I)Z" } : Jvm.MethodName) prog_18_method_12_code (1 : Nat) (Option.some Jvm.ClassFile.FieldType.boolean)) ∈ lw_all := lw_g (lw_at lw_m8 112 rfl) rfl
theorem q1897 : (Jvm.Cond.constant "SableCrownModel" (186 : Nat) (100000 : Int32)) ∈ lw_all := lw_g (lw_at lw_m8 113 rfl) rfl
theorem q1898 : (Jvm.Cond.methodLink "SableCrownModel" (187 : Nat) ({ cls := "java/lang/Math", name := "min", desc := "(II)I" } : Jvm.MethodName)) ∈ lw_all := lw_g (lw_at lw_m8 114 rfl) rfl
theorem q1899 : (Jvm.Cond.methodLink "SableCrownModel" (193 : Nat) ({ cls := "SableCrownModel", name := "isMark", desc := "(I)Z" } : Jvm.MethodName)) ∈ lw_all := lw_g (lw_at lw_m8 115 rfl) rfl
theorem q1900 : (Jvm.Cond.static ({ cls := "SableCrownModel", name := "isMark", desc := "(I)Z" } : Jvm.MethodName)) ∈ lw_all := lw_g (lw_at lw_m8 116 rfl) rfl
theorem q1901 : (Jvm.Cond.code ({ cls := "SableCrownModel", name := "isMark", desc := "(I)Z" } : Jvm.MethodName) prog_18_method_13_code (1 : Nat) (Option.some Jvm.ClassFile.FieldType.boolean)) ∈ lw_all := lw_g (lw_at lw_m8 117 rfl) rfl
theorem q1902 : (Jvm.Cond.methodLink "SableCrownModel" (306 : Nat) ({ cls := "SableCrownModel", name := "readLine", desc := "(I)I" } : Jvm.MethodName)) ∈ lw_all := lw_g (lw_at lw_m8 118 rfl) rfl
theorem q1903 : (Jvm.Cond.privateMethod ({ cls := "SableCrownModel", name := "readLine", desc := "(I)I" } : Jvm.MethodName)) ∈ lw_tbl := lw_at lw_m8 119 rfl
theorem q1904 : (Jvm.Cond.instanceMethod ({ cls := "SableCrownModel", name := "readLine", desc := "(I)I" } : Jvm.MethodName)) ∈ lw_all := lw_g (lw_at lw_m8 120 rfl) rfl
theorem q1905 : (Jvm.Cond.code ({ cls := "SableCrownModel", name := "readLine", desc := "(I)I" } : Jvm.MethodName) prog_18_method_36_code (3 : Nat) (Option.some Jvm.ClassFile.FieldType.int)) ∈ lw_all := lw_g (lw_at lw_m8 121 rfl) rfl
theorem q1906 : (Jvm.Cond.stringRef "SableCrownModel" (277 : Nat) "tax") ∈ lw_tbl := lw_at lw_m8 122 rfl
theorem q1907 : (Jvm.Cond.methodLink "SableCrownModel" (213 : Nat) ({ cls := "SableCrownModel", name := "is", desc := "(Ljava/lang/String;)Z" } : Jvm.MethodName)) ∈ lw_all := lw_g (lw_at lw_m8 123 rfl) rfl
theorem q1908 : (Jvm.Cond.privateMethod ({ cls := "SableCrownModel", name := "is", desc := "(Ljava/lang/String;)Z" } : Jvm.MethodName)) ∈ lw_tbl := lw_at lw_m8 124 rfl
theorem q1909 : (Jvm.Cond.instanceMethod ({ cls := "SableCrownModel", name := "is", desc := "(Ljava/lang/String;)Z" } : Jvm.MethodName)) ∈ lw_all := lw_g (lw_at lw_m8 125 rfl) rfl
theorem q1910 : (Jvm.Cond.code ({ cls := "SableCrownModel", name := "is", desc := "(Ljava/lang/String;)Z" } : Jvm.MethodName) prog_18_method_16_code (4 : Nat) (Option.some Jvm.ClassFile.FieldType.boolean)) ∈ lw_all := lw_g (lw_at lw_m8 126 rfl) rfl
theorem q1911 : (Jvm.Cond.methodLink "SableCrownModel" (205 : Nat) ({ cls := "java/lang/String", name := "length", desc := "()I" } : Jvm.MethodName)) ∈ lw_all := lw_g (lw_at lw_m8 127 rfl) rfl
theorem q1912 : (Jvm.Cond.methodLink "SableCrownModel" (209 : Nat) ({ cls := "java/lang/String", name := "charAt", desc := "(I)C" } : Jvm.MethodName)) ∈ lw_all := lw_g (lw_at lw_m8 128 rfl) rfl
theorem q1913 : (Jvm.Cond.stringRef "SableCrownModel" (279 : Nat) "fox") ∈ lw_tbl := lw_at lw_m8 129 rfl
theorem q1914 : (Jvm.Cond.stringRef "SableCrownModel" (281 : Nat) "limit") ∈ lw_tbl := lw_at lw_m8 130 rfl
theorem q1915 : (Jvm.Cond.stringRef "SableCrownModel" (283 : Nat) "hunts") ∈ lw_tbl := lw_at lw_m8 131 rfl
theorem q1916 : (Jvm.Cond.methodLink "SableCrownModel" (220 : Nat) ({ cls := "SableCrownModel", name := "wrong", desc := "(I)V" } : Jvm.MethodName)) ∈ lw_all := lw_g (lw_at lw_m8 132 rfl) rfl
theorem q1917 : (Jvm.Cond.privateMethod ({ cls := "SableCrownModel", name := "wrong", desc := "(I)V" } : Jvm.MethodName)) ∈ lw_tbl := lw_at lw_m8 133 rfl
theorem q1918 : (Jvm.Cond.instanceMethod ({ cls := "SableCrownModel", name := "wrong", desc := "(I)V" } : Jvm.MethodName)) ∈ lw_all := lw_g (lw_at lw_m8 134 rfl) rfl
theorem q1919 : (Jvm.Cond.code ({ cls := "SableCrownModel", name := "wrong", desc := "(I)V" } : Jvm.MethodName) prog_18_method_15_code (2 : Nat) (Option.none : Option Jvm.ClassFile.FieldType)) ∈ lw_all := lw_g (lw_at lw_m8 135 rfl) rfl
theorem q1920 : (Jvm.Cond.methodLink "SableCrownModel" (233 : Nat) ({ cls := "SableCrownModel", name := "readNumber", desc := "(II)I" } : Jvm.MethodName)) ∈ lw_all := lw_g (lw_at lw_m8 136 rfl) rfl
theorem q1921 : (Jvm.Cond.privateMethod ({ cls := "SableCrownModel", name := "readNumber", desc := "(II)I" } : Jvm.MethodName)) ∈ lw_tbl := lw_at lw_m8 137 rfl
theorem q1922 : (Jvm.Cond.instanceMethod ({ cls := "SableCrownModel", name := "readNumber", desc := "(II)I" } : Jvm.MethodName)) ∈ lw_all := lw_g (lw_at lw_m8 138 rfl) rfl
theorem q1923 : (Jvm.Cond.code ({ cls := "SableCrownModel", name := "readNumber", desc := "(II)I" } : Jvm.MethodName) prog_18_method_21_code (4 : Nat) (Option.some Jvm.ClassFile.FieldType.int)) ∈ lw_all := lw_g (lw_at lw_m8 139 rfl) rfl
theorem q1924 : (Jvm.Cond.methodLink "SableCrownModel" (227 : Nat) ({ cls := "SableCrownModel", name := "numberNow", desc := "(II)I" } : Jvm.MethodName)) ∈ lw_all := lw_g (lw_at lw_m8 140 rfl) rfl
theorem q1925 : (Jvm.Cond.privateMethod ({ cls := "SableCrownModel", name := "numberNow", desc := "(II)I" } : Jvm.MethodName)) ∈ lw_tbl := lw_at lw_m8 141 rfl
theorem q1926 : (Jvm.Cond.instanceMethod ({ cls := "SableCrownModel", name := "numberNow", desc := "(II)I" } : Jvm.MethodName)) ∈ lw_all := lw_g (lw_at lw_m8 142 rfl) rfl
theorem q1927 : (Jvm.Cond.code ({ cls := "SableCrownModel", name := "numberNow", desc := "(II)I" } : Jvm.MethodName) prog_18_method_20_code (3 : Nat) (Option.some Jvm.ClassFile.FieldType.int)) ∈ lw_all := lw_g (lw_at lw_m8 143 rfl) rfl
theorem q1928 : (Jvm.Cond.methodLink "SableCrownModel" (246 : Nat) ({ cls := "SableCrownModel", name := "readExpression", desc := "(I)V" } : Jvm.MethodName)) ∈ lw_all := lw_g (lw_at lw_m8 144 rfl) rfl
theorem q1929 : (Jvm.Cond.privateMethod ({ cls := "SableCrownModel", name := "readExpression", desc := "(I)V" } : Jvm.MethodName)) ∈ lw_tbl := lw_at lw_m8 145 rfl
theorem q1930 : (Jvm.Cond.instanceMethod ({ cls := "SableCrownModel", name := "readExpression", desc := "(I)V" } : Jvm.MethodName)) ∈ lw_all := lw_g (lw_at lw_m8 146 rfl) rfl
theorem q1931 : (Jvm.Cond.code ({ cls := "SableCrownModel", name := "readExpression", desc := "(I)V" } : Jvm.MethodName) prog_18_method_30_code (3 : Nat) (Option.none : Option Jvm.ClassFile.FieldType)) ∈ lw_all := lw_g (lw_at lw_m8 147 rfl) rfl
theorem q1932 : (Jvm.Cond.methodLink "SableCrownModel" (217 : Nat) ({ cls := "SableCrownModel", name := "isMarked", desc := "(I)Z" } : Jvm.MethodName)) ∈ lw_all := lw_g (lw_at lw_m8 148 rfl) rfl
theorem q1933 : (Jvm.Cond.privateMethod ({ cls := "SableCrownModel", name := "isMarked", desc := "(I)Z" } : Jvm.MethodName)) ∈ lw_tbl := lw_at lw_m8 149 rfl
theorem q1934 : (Jvm.Cond.instanceMethod ({ cls := "SableCrownModel", name := "isMarked", desc := "(I)Z" } : Jvm.MethodName)) ∈ lw_all := lw_g (lw_at lw_m8 150 rfl) rfl
theorem q1935 : (Jvm.Cond.code ({ cls := "SableCrownModel", name := "isMarked", desc := "(I)Z" } : Jvm.MethodName) prog_18_method_18_code (2 : Nat) (Option.some Jvm.ClassFile.FieldType.boolean)) ∈ lw_all := lw_g (lw_at lw_m8 151 rfl) rfl
theorem q1936 : (Jvm.Cond.methodLink "SableCrownModel" (265 : Nat) ({ cls := "SableCrownModel", name := "readAnd", desc := "(I)V" } : Jvm.MethodName)) ∈ lw_all := lw_g (lw_at lw_m8 152 rfl) rfl
theorem q1937 : (Jvm.Cond.privateMethod ({ cls := "SableCrownModel", name := "readAnd", desc := "(I)V" } : Jvm.MethodName)) ∈ lw_tbl := lw_at lw_m8 153 rfl
theorem q1938 : (Jvm.Cond.instanceMethod ({ cls := "SableCrownModel", name := "readAnd", desc := "(I)V" } : Jvm.MethodName)) ∈ lw_all := lw_g (lw_at lw_m8 154 rfl) rfl
theorem q1939 : (Jvm.Cond.code ({ cls := "SableCrownModel", name := "readAnd", desc := "(I)V" } : Jvm.MethodName) prog_18_method_29_code (2 : Nat) (Option.none : Option Jvm.ClassFile.FieldType)) ∈ lw_all := lw_g (lw_at lw_m8 155 rfl) rfl
theorem q1940 : (Jvm.Cond.methodLink "SableCrownModel" (260 : Nat) ({ cls := "SableCrownModel", name := "readNot", desc := "(I)V" } : Jvm.MethodName)) ∈ lw_all := lw_g (lw_at lw_m8 156 rfl) rfl
theorem q1941 : (Jvm.Cond.privateMethod ({ cls := "SableCrownModel", name := "readNot", desc := "(I)V" } : Jvm.MethodName)) ∈ lw_tbl := lw_at lw_m8 157 rfl
theorem q1942 : (Jvm.Cond.instanceMethod ({ cls := "SableCrownModel", name := "readNot", desc := "(I)V" } : Jvm.MethodName)) ∈ lw_all := lw_g (lw_at lw_m8 158 rfl) rfl
theorem q1943 : (Jvm.Cond.code ({ cls := "SableCrownModel", name := "readNot", desc := "(I)V" } : Jvm.MethodName) prog_18_method_28_code (4 : Nat) (Option.none : Option Jvm.ClassFile.FieldType)) ∈ lw_all := lw_g (lw_at lw_m8 159 rfl) rfl
theorem q1944 : (Jvm.Cond.stringRef "SableCrownModel" (255 : Nat) "not") ∈ lw_tbl := lw_at lw_m8 160 rfl
theorem q1945 : (Jvm.Cond.methodLink "SableCrownModel" (257 : Nat) ({ cls := "SableCrownModel", name := "readSum", desc := "(I)V" } : Jvm.MethodName)) ∈ lw_all := lw_g (lw_at lw_m8 161 rfl) rfl
theorem q1946 : (Jvm.Cond.privateMethod ({ cls := "SableCrownModel", name := "readSum", desc := "(I)V" } : Jvm.MethodName)) ∈ lw_tbl := lw_at lw_m8 162 rfl
theorem q1947 : (Jvm.Cond.instanceMethod ({ cls := "SableCrownModel", name := "readSum", desc := "(I)V" } : Jvm.MethodName)) ∈ lw_all := lw_g (lw_at lw_m8 163 rfl) rfl
theorem q1948 : (Jvm.Cond.code ({ cls := "SableCrownModel", name := "readSum", desc := "(I)V" } : Jvm.MethodName) prog_18_method_27_code (3 : Nat) (Option.none : Option Jvm.ClassFile.FieldType)) ∈ lw_all := lw_g (lw_at lw_m8 164 rfl) rfl
theorem q1949 : (Jvm.Cond.methodLink "SableCrownModel" (252 : Nat) ({ cls := "SableCrownModel", name := "readProduct", desc := "(I)V" } : Jvm.MethodName)) ∈ lw_all := lw_g (lw_at lw_m8 165 rfl) rfl
theorem q1950 : (Jvm.Cond.privateMethod ({ cls := "SableCrownModel", name := "readProduct", desc := "(I)V" } : Jvm.MethodName)) ∈ lw_tbl := lw_at lw_m8 166 rfl
theorem q1951 : (Jvm.Cond.instanceMethod ({ cls := "SableCrownModel", name := "readProduct", desc := "(I)V" } : Jvm.MethodName)) ∈ lw_all := lw_g (lw_at lw_m8 167 rfl) rfl
theorem q1952 : (Jvm.Cond.code ({ cls := "SableCrownModel", name := "readProduct", desc := "(I)V" } : Jvm.MethodName) prog_18_method_26_code (3 : Nat) (Option.none : Option Jvm.ClassFile.FieldType)) ∈ lw_all := lw_g (lw_at lw_m8 168 rfl) rfl
theorem q1953 : (Jvm.Cond.methodLink "SableCrownModel" (249 : Nat) ({ cls := "SableCrownModel", name := "readPart", desc := "(I)V" } : Jvm.MethodName)) ∈ lw_all := lw_g (lw_at lw_m8 169 rfl) rfl
theorem q1954 : (Jvm.Cond.privateMethod ({ cls := "SableCrownModel", name := "readPart", desc := "(I)V" } : Jvm.MethodName)) ∈ lw_tbl := lw_at lw_m8 170 rfl
theorem q1955 : (Jvm.Cond.instanceMethod ({ cls := "SableCrownModel", name := "readPart", desc := "(I)V" } : Jvm.MethodName)) ∈ lw_all := lw_g (lw_at lw_m8 171 rfl) rfl
theorem q1956 : (Jvm.Cond.code ({ cls := "SableCrownModel", name := "readPart", desc := "(I)V" } : Jvm.MethodName) prog_18_method_25_code (3 : Nat) (Option.none : Option Jvm.ClassFile.FieldType)) ∈ lw_all := lw_g (lw_at lw_m8 172 rfl) rfl
theorem q1957 : (Jvm.Cond.methodLink "SableCrownModel" (236 : Nat) ({ cls := "SableCrownModel", name := "lay", desc := "(I)V" } : Jvm.MethodName)) ∈ lw_all := lw_g (lw_at lw_m8 173 rfl) rfl
theorem q1958 : (Jvm.Cond.privateMethod ({ cls := "SableCrownModel", name := "lay", desc := "(I)V" } : Jvm.MethodName)) ∈ lw_tbl := lw_at lw_m8 174 rfl
theorem q1959 : (Jvm.Cond.instanceMethod ({ cls := "SableCrownModel", name := "lay", desc := "(I)V" } : Jvm.MethodName)) ∈ lw_all := lw_g (lw_at lw_m8 175 rfl) rfl
theorem q1960 : (Jvm.Cond.code ({ cls := "SableCrownModel", name := "lay", desc := "(I)V" } : Jvm.MethodName) prog_18_method_24_code (2 : Nat) (Option.none : Option Jvm.ClassFile.FieldType)) ∈ lw_all := lw_g (lw_at lw_m8 176 rfl) rfl
theorem q1961 : (Jvm.Cond.methodLink "SableCrownModel" (239 : Nat) ({ cls := "SableCrownModel", name := "which", desc := "([Ljava/lang/String;)I" } : Jvm.MethodName)) ∈ lw_all := lw_g (lw_at lw_m8 177 rfl) rfl
theorem q1962 : (Jvm.Cond.privateMethod ({ cls := "SableCrownModel", name := "which", desc := "([Ljava/lang/String;)I" } : Jvm.MethodName)) ∈ lw_tbl := lw_at lw_m8 178 rfl
theorem q1963 : (Jvm.Cond.instanceMethod ({ cls := "SableCrownModel", name := "which", desc := "([Ljava/lang/String;)I" } : Jvm.MethodName)) ∈ lw_all := lw_g (lw_at lw_m8 179 rfl) rfl
theorem q1964 : (Jvm.Cond.code ({ cls := "SableCrownModel", name := "which", desc := "([Ljava/lang/String;)I" } : Jvm.MethodName) prog_18_method_17_code (3 : Nat) (Option.some Jvm.ClassFile.FieldType.int)) ∈ lw_all := lw_g (lw_at lw_m8 180 rfl) rfl
theorem q1965 : (Jvm.Cond.methodLink "SableCrownModel" (243 : Nat) ({ cls := "SableCrownModel", name := "mark", desc := "(I)V" } : Jvm.MethodName)) ∈ lw_all := lw_g (lw_at lw_m8 181 rfl) rfl
theorem q1966 : (Jvm.Cond.privateMethod ({ cls := "SableCrownModel", name := "mark", desc := "(I)V" } : Jvm.MethodName)) ∈ lw_tbl := lw_at lw_m8 182 rfl
theorem q1967 : (Jvm.Cond.instanceMethod ({ cls := "SableCrownModel", name := "mark", desc := "(I)V" } : Jvm.MethodName)) ∈ lw_all := lw_g (lw_at lw_m8 183 rfl) rfl
theorem q1968 : (Jvm.Cond.code ({ cls := "SableCrownModel", name := "mark", desc := "(I)V" } : Jvm.MethodName) prog_18_method_19_code (2 : Nat) (Option.none : Option Jvm.ClassFile.FieldType)) ∈ lw_all := lw_g (lw_at lw_m8 184 rfl) rfl
theorem q1969 : (Jvm.Cond.stringRef "SableCrownModel" (263 : Nat) "and") ∈ lw_tbl := lw_at lw_m8 185 rfl
theorem q1970 : (Jvm.Cond.stringRef "SableCrownModel" (268 : Nat) "or") ∈ lw_tbl := lw_at lw_m8 186 rfl
theorem q1971 : (Jvm.Cond.stringRef "SableCrownModel" (285 : Nat) "forest") ∈ lw_tbl := lw_at lw_m8 187 rfl
theorem q1972 : (Jvm.Cond.methodLink "SableCrownModel" (287 : Nat) ({ cls := "SableCrownModel", name := "sayForest", desc := "()V" } : Jvm.MethodName)) ∈ lw_all := lw_g (lw_at lw_m8 188 rfl) rfl
theorem q1973 : (Jvm.Cond.privateMethod ({ cls := "SableCrownModel", name := "sayForest", desc := "()V" } : Jvm.MethodName)) ∈ lw_tbl := lw_at lw_m8 189 rfl
theorem q1974 : (Jvm.Cond.instanceMethod ({ cls := "SableCrownModel", name := "sayForest", desc := "()V" } : Jvm.MethodName)) ∈ lw_all := lw_g (lw_at lw_m8 190 rfl) rfl
theorem q1975 : (Jvm.Cond.code ({ cls := "SableCrownModel", name := "sayForest", desc := "()V" } : Jvm.MethodName) prog_18_method_32_code (2 : Nat) (Option.none : Option Jvm.ClassFile.FieldType)) ∈ lw_all := lw_g (lw_at lw_m8 191 rfl) rfl
theorem q1976 : (Jvm.Cond.methodLink "SableCrownModel" (270 : Nat) ({ cls := "SableCrownModel", name := "another", desc := "(II)Z" } : Jvm.MethodName)) ∈ lw_all := lw_g (lw_at lw_m8 192 rfl) rfl
theorem q1977 : (Jvm.Cond.privateMethod ({ cls := "SableCrownModel", name := "another", desc := "(II)Z" } : Jvm.MethodName)) ∈ lw_tbl := lw_at lw_m8 193 rfl
theorem q1978 : (Jvm.Cond.instanceMethod ({ cls := "SableCrownModel", name := "another", desc := "(II)Z" } : Jvm.MethodName)) ∈ lw_all := lw_g (lw_at lw_m8 194 rfl) rfl
theorem q1979 : (Jvm.Cond.code ({ cls := "SableCrownModel", name := "another", desc := "(II)Z" } : Jvm.MethodName) prog_18_method_31_code (3 : Nat) (Option.some Jvm.ClassFile.FieldType.boolean)) ∈ lw_all := lw_g (lw_at lw_m8 195 rfl) rfl
theorem q1980 : (Jvm.Cond.stringRef "SableCrownModel" (290 : Nat) "river") ∈ lw_tbl := lw_at lw_m8 196 rfl
theorem q1981 : (Jvm.Cond.methodLink "SableCrownModel" (291 : Nat) ({ cls := "SableCrownModel", name := "sayRiver", desc := "()V" } : Jvm.MethodName)) ∈ lw_all := lw_g (lw_at lw_m8 197 rfl) rfl
theorem q1982 : (Jvm.Cond.privateMethod ({ cls := "SableCrownModel", name := "sayRiver", desc := "()V" } : Jvm.MethodName)) ∈ lw_tbl := lw_at lw_m8 198 rfl
theorem q1983 : (Jvm.Cond.instanceMethod ({ cls := "SableCrownModel", name := "sayRiver", desc := "()V" } : Jvm.MethodName)) ∈ lw_all := lw_g (lw_at lw_m8 199 rfl) rfl
theorem q1984 : (Jvm.Cond.code ({ cls := "SableCrownModel", name := "sayRiver", desc := "()V" } : Jvm.MethodName) prog_18_method_33_code (5 : Nat) (Option.none : Option Jvm.ClassFile.FieldType)) ∈ lw_all := lw_g (lw_at lw_m8 200 rfl) rfl
theorem q1985 : (Jvm.Cond.methodLink "SableCrownModel" (274 : Nat) ({ cls := "SableCrownModel", name := "readForest", desc := "()I" } : Jvm.MethodName)) ∈ lw_all := lw_g (lw_at lw_m8 201 rfl) rfl
theorem q1986 : (Jvm.Cond.privateMethod ({ cls := "SableCrownModel", name := "readForest", desc := "()I" } : Jvm.MethodName)) ∈ lw_tbl := lw_at lw_m8 202 rfl
theorem q1987 : (Jvm.Cond.instanceMethod ({ cls := "SableCrownModel", name := "readForest", desc := "()I" } : Jvm.MethodName)) ∈ lw_all := lw_g (lw_at lw_m8 203 rfl) rfl
theorem q1988 : (Jvm.Cond.code ({ cls := "SableCrownModel", name := "readForest", desc := "()I" } : Jvm.MethodName) prog_18_method_23_code (2 : Nat) (Option.some Jvm.ClassFile.FieldType.int)) ∈ lw_all := lw_g (lw_at lw_m8 204 rfl) rfl
theorem q1989 : (Jvm.Cond.methodLink "SableCrownModel" (230 : Nat) ({ cls := "SableCrownModel", name := "forestNow", desc := "()I" } : Jvm.MethodName)) ∈ lw_all := lw_g (lw_at lw_m8 205 rfl) rfl
theorem q1990 : (Jvm.Cond.privateMethod ({ cls := "SableCrownModel", name := "forestNow", desc := "()I" } : Jvm.MethodName)) ∈ lw_tbl := lw_at lw_m8 206 rfl
theorem q1991 : (Jvm.Cond.instanceMethod ({ cls := "SableCrownModel", name := "forestNow", desc := "()I" } : Jvm.MethodName)) ∈ lw_all := lw_g (lw_at lw_m8 207 rfl) rfl
theorem q1992 : (Jvm.Cond.code ({ cls := "SableCrownModel", name := "forestNow", desc := "()I" } : Jvm.MethodName) prog_18_method_22_code (2 : Nat) (Option.some Jvm.ClassFile.FieldType.int)) ∈ lw_all := lw_g (lw_at lw_m8 208 rfl) rfl
theorem q1993 : (Jvm.Cond.stringRef "SableCrownModel" (294 : Nat) "band") ∈ lw_tbl := lw_at lw_m8 209 rfl
theorem q1994 : (Jvm.Cond.methodLink "SableCrownModel" (296 : Nat) ({ cls := "SableCrownModel", name := "sayBand", desc := "()V" } : Jvm.MethodName)) ∈ lw_all := lw_g (lw_at lw_m8 210 rfl) rfl
theorem q1995 : (Jvm.Cond.privateMethod ({ cls := "SableCrownModel", name := "sayBand", desc := "()V" } : Jvm.MethodName)) ∈ lw_tbl := lw_at lw_m8 211 rfl
theorem q1996 : (Jvm.Cond.instanceMethod ({ cls := "SableCrownModel", name := "sayBand", desc := "()V" } : Jvm.MethodName)) ∈ lw_all := lw_g (lw_at lw_m8 212 rfl) rfl
theorem q1997 : (Jvm.Cond.code ({ cls := "SableCrownModel", name := "sayBand", desc := "()V" } : Jvm.MethodName) prog_18_method_34_code (2 : Nat) (Option.none : Option Jvm.ClassFile.FieldType)) ∈ lw_all := lw_g (lw_at lw_m8 213 rfl) rfl
theorem q1998 : (Jvm.Cond.stringRef "SableCrownModel" (299 : Nat) "fort") ∈ lw_tbl := lw_at lw_m8 214 rfl
theorem q1999 : (Jvm.Cond.methodLink "SableCrownModel" (300 : Nat) ({ cls := "SableCrownModel", name := "sayFort", desc := "()V" } : Jvm.MethodName)) ∈ lw_all := lw_g (lw_at lw_m8 215 rfl) rfl
theorem q2000 : (Jvm.Cond.privateMethod ({ cls := "SableCrownModel", name := "sayFort", desc := "()V" } : Jvm.MethodName)) ∈ lw_tbl := lw_at lw_m8 216 rfl
theorem q2001 : (Jvm.Cond.instanceMethod ({ cls := "SableCrownModel", name := "sayFort", desc := "()V" } : Jvm.MethodName)) ∈ lw_all := lw_g (lw_at lw_m8 217 rfl) rfl
theorem q2002 : (Jvm.Cond.code ({ cls := "SableCrownModel", name := "sayFort", desc := "()V" } : Jvm.MethodName) prog_18_method_35_code (3 : Nat) (Option.none : Option Jvm.ClassFile.FieldType)) ∈ lw_all := lw_g (lw_at lw_m8 218 rfl) rfl
theorem q2003 : (Jvm.Cond.methodLink "SableCrownModel" (309 : Nat) ({ cls := "SableCrownModel", name := "takeOver", desc := "()V" } : Jvm.MethodName)) ∈ lw_all := lw_g (lw_at lw_m8 219 rfl) rfl
theorem q2004 : (Jvm.Cond.privateMethod ({ cls := "SableCrownModel", name := "takeOver", desc := "()V" } : Jvm.MethodName)) ∈ lw_tbl := lw_at lw_m8 220 rfl
theorem q2005 : (Jvm.Cond.instanceMethod ({ cls := "SableCrownModel", name := "takeOver", desc := "()V" } : Jvm.MethodName)) ∈ lw_all := lw_g (lw_at lw_m8 221 rfl) rfl
theorem q2006 : (Jvm.Cond.code ({ cls := "SableCrownModel", name := "takeOver", desc := "()V" } : Jvm.MethodName) prog_18_method_39_code (2 : Nat) (Option.none : Option Jvm.ClassFile.FieldType)) ∈ lw_all := lw_g (lw_at lw_m8 222 rfl) rfl
theorem q2007 : (Jvm.Cond.methodLink "SableCrownModel" (312 : Nat) ({ cls := "SableCrownModel", name := "takeHalf", desc := "([I)V" } : Jvm.MethodName)) ∈ lw_all := lw_g (lw_at lw_m8 223 rfl) rfl
theorem q2008 : (Jvm.Cond.static ({ cls := "SableCrownModel", name := "takeHalf", desc := "([I)V" } : Jvm.MethodName)) ∈ lw_all := lw_g (lw_at lw_m8 224 rfl) rfl
theorem q2009 : (Jvm.Cond.code ({ cls := "SableCrownModel", name := "takeHalf", desc := "([I)V" } : Jvm.MethodName) prog_18_method_38_code (2 : Nat) (Option.none : Option Jvm.ClassFile.FieldType)) ∈ lw_all := lw_g (lw_at lw_m8 225 rfl) rfl
theorem q2011 : (Jvm.Cond.instanceMethod ({ cls := "SableCrownModel", name := "fault", desc := "()I" } : Jvm.MethodName)) ∈ lw_all := lw_g (lw_at lw_m8 227 rfl) rfl
theorem q2012 : (Jvm.Cond.selects "SableCrownModel" ({ cls := "SableCrownModel", name := "fault", desc := "()I" } : Jvm.MethodName) ({ cls := "SableCrownModel", name := "fault", desc := "()I" } : Jvm.MethodName)) ∈ lw_all := lw_g (lw_at lw_m8 228 rfl) rfl
theorem q2013 : (Jvm.Cond.code ({ cls := "SableCrownModel", name := "fault", desc := "()I" } : Jvm.MethodName) prog_18_method_40_code (1 : Nat) (Option.some Jvm.ClassFile.FieldType.int)) ∈ lw_all := lw_g (lw_at lw_m8 229 rfl) rfl
theorem q2015 : (Jvm.Cond.instanceMethod ({ cls := "SableCrownModel", name := "count", desc := "(I)I" } : Jvm.MethodName)) ∈ lw_all := lw_g (lw_at lw_m8 231 rfl) rfl
theorem q2016 : (Jvm.Cond.selects "SableCrownModel" ({ cls := "SableCrownModel", name := "count", desc := "(I)I" } : Jvm.MethodName) ({ cls := "SableCrownModel", name := "count", desc := "(I)I" } : Jvm.MethodName)) ∈ lw_all := lw_g (lw_at lw_m8 232 rfl) rfl
theorem q2017 : (Jvm.Cond.code ({ cls := "SableCrownModel", name := "count", desc := "(I)I" } : Jvm.MethodName) prog_18_method_56_code (2 : Nat) (Option.some Jvm.ClassFile.FieldType.int)) ∈ lw_all := lw_g (lw_at lw_m8 233 rfl) rfl
theorem q2018 : (Jvm.Cond.methodLink "SableCrownModel" (373 : Nat) ({ cls := "SableCrownModel", name := "allSables", desc := "()I" } : Jvm.MethodName)) ∈ lw_all := lw_g (lw_at lw_m8 234 rfl) rfl
theorem q2019 : (Jvm.Cond.privateMethod ({ cls := "SableCrownModel", name := "allSables", desc := "()I" } : Jvm.MethodName)) ∈ lw_tbl := lw_at lw_m8 235 rfl
theorem q2020 : (Jvm.Cond.instanceMethod ({ cls := "SableCrownModel", name := "allSables", desc := "()I" } : Jvm.MethodName)) ∈ lw_all := lw_g (lw_at lw_m8 236 rfl) rfl
theorem q2021 : (Jvm.Cond.code ({ cls := "SableCrownModel", name := "allSables", desc := "()I" } : Jvm.MethodName) prog_18_method_55_code (3 : Nat) (Option.some Jvm.ClassFile.FieldType.int)) ∈ lw_all := lw_g (lw_at lw_m8 237 rfl) rfl
theorem q2023 : (Jvm.Cond.instanceMethod ({ cls := "SableCrownModel", name := "forest", desc := "(II)I" } : Jvm.MethodName)) ∈ lw_all := lw_g (lw_at lw_m8 239 rfl) rfl
theorem q2024 : (Jvm.Cond.selects "SableCrownModel" ({ cls := "SableCrownModel", name := "forest", desc := "(II)I" } : Jvm.MethodName) ({ cls := "SableCrownModel", name := "forest", desc := "(II)I" } : Jvm.MethodName)) ∈ lw_all := lw_g (lw_at lw_m9 0 rfl) rfl
theorem q2025 : (Jvm.Cond.code ({ cls := "SableCrownModel", name := "forest", desc := "(II)I" } : Jvm.MethodName) prog_18_method_58_code (3 : Nat) (Option.some Jvm.ClassFile.FieldType.int)) ∈ lw_all := lw_g (lw_at lw_m9 1 rfl) rfl
theorem q2026 : (Jvm.Cond.methodLink "SableCrownModel" (376 : Nat) ({ cls := "SableCrownModel", name := "isForest", desc := "(I)Z" } : Jvm.MethodName)) ∈ lw_all := lw_g (lw_at lw_m9 2 rfl) rfl
theorem q2027 : (Jvm.Cond.privateMethod ({ cls := "SableCrownModel", name := "isForest", desc := "(I)Z" } : Jvm.MethodName)) ∈ lw_tbl := lw_at lw_m9 3 rfl
theorem q2028 : (Jvm.Cond.instanceMethod ({ cls := "SableCrownModel", name := "isForest", desc := "(I)Z" } : Jvm.MethodName)) ∈ lw_all := lw_g (lw_at lw_m9 4 rfl) rfl
theorem q2029 : (Jvm.Cond.code ({ cls := "SableCrownModel", name := "isForest", desc := "(I)Z" } : Jvm.MethodName) prog_18_method_6_code (2 : Nat) (Option.some Jvm.ClassFile.FieldType.boolean)) ∈ lw_all := lw_g (lw_at lw_m9 5 rfl) rfl
theorem q2030 : (Jvm.Cond.methodLink "SableCrownModel" (153 : Nat) ({ cls := "SableCrownModel", name := "isIn", desc := "(JJJ)Z" } : Jvm.MethodName)) ∈ lw_all := lw_g (lw_at lw_m9 6 rfl) rfl
theorem q2031 : (Jvm.Cond.static ({ cls := "SableCrownModel", name := "isIn", desc := "(JJJ)Z" } : Jvm.MethodName)) ∈ lw_all := lw_g (lw_at lw_m9 7 rfl) rfl
theorem q2032 : (Jvm.Cond.code ({ cls := "SableCrownModel", name := "isIn", desc := "(JJJ)Z" } : Jvm.MethodName) prog_18_method_4_code (6 : Nat) (Option.some Jvm.ClassFile.FieldType.boolean)) ∈ lw_all := lw_g (lw_at lw_m9 8 rfl) rfl
theorem q2033 : (Jvm.Cond.methodLink "SableCrownModel" (340 : Nat) ({ cls := "SableCrownModel", name := "bandsIn", desc := "(I)I" } : Jvm.MethodName)) ∈ lw_all := lw_g (lw_at lw_m9 9 rfl) rfl
theorem q2034 : (Jvm.Cond.privateMethod ({ cls := "SableCrownModel", name := "bandsIn", desc := "(I)I" } : Jvm.MethodName)) ∈ lw_tbl := lw_at lw_m9 10 rfl
theorem q2035 : (Jvm.Cond.instanceMethod ({ cls := "SableCrownModel", name := "bandsIn", desc := "(I)I" } : Jvm.MethodName)) ∈ lw_all := lw_g (lw_at lw_m9 11 rfl) rfl
theorem q2036 : (Jvm.Cond.code ({ cls := "SableCrownModel", name := "bandsIn", desc := "(I)I" } : Jvm.MethodName) prog_18_method_45_code (4 : Nat) (Option.some Jvm.ClassFile.FieldType.int)) ∈ lw_all := lw_g (lw_at lw_m9 12 rfl) rfl
theorem q2037 : (Jvm.Cond.methodLink "SableCrownModel" (379 : Nat) ({ cls := "SableCrownModel", name := "riversOf", desc := "(I)I" } : Jvm.MethodName)) ∈ lw_all := lw_g (lw_at lw_m9 13 rfl) rfl
theorem q2038 : (Jvm.Cond.privateMethod ({ cls := "SableCrownModel", name := "riversOf", desc := "(I)I" } : Jvm.MethodName)) ∈ lw_tbl := lw_at lw_m9 14 rfl
theorem q2039 : (Jvm.Cond.instanceMethod ({ cls := "SableCrownModel", name := "riversOf", desc := "(I)I" } : Jvm.MethodName)) ∈ lw_all := lw_g (lw_at lw_m9 15 rfl) rfl
theorem q2040 : (Jvm.Cond.code ({ cls := "SableCrownModel", name := "riversOf", desc := "(I)I" } : Jvm.MethodName) prog_18_method_57_code (4 : Nat) (Option.some Jvm.ClassFile.FieldType.int)) ∈ lw_all := lw_g (lw_at lw_m9 16 rfl) rfl
theorem q2042 : (Jvm.Cond.instanceMethod ({ cls := "SableCrownModel", name := "band", desc := "(II)I" } : Jvm.MethodName)) ∈ lw_all := lw_g (lw_at lw_m9 18 rfl) rfl
theorem q2043 : (Jvm.Cond.selects "SableCrownModel" ({ cls := "SableCrownModel", name := "band", desc := "(II)I" } : Jvm.MethodName) ({ cls := "SableCrownModel", name := "band", desc := "(II)I" } : Jvm.MethodName)) ∈ lw_all := lw_g (lw_at lw_m9 19 rfl) rfl
theorem q2044 : (Jvm.Cond.code ({ cls := "SableCrownModel", name := "band", desc := "(II)I" } : Jvm.MethodName) prog_18_method_59_code (3 : Nat) (Option.some Jvm.ClassFile.FieldType.int)) ∈ lw_all := lw_g (lw_at lw_m9 20 rfl) rfl
theorem q2045 : (Jvm.Cond.methodLink "SableCrownModel" (382 : Nat) ({ cls := "SableCrownModel", name := "isBand", desc := "(I)Z" } : Jvm.MethodName)) ∈ lw_all := lw_g (lw_at lw_m9 21 rfl) rfl
theorem q2046 : (Jvm.Cond.privateMethod ({ cls := "SableCrownModel", name := "isBand", desc := "(I)Z" } : Jvm.MethodName)) ∈ lw_tbl := lw_at lw_m9 22 rfl
theorem q2047 : (Jvm.Cond.instanceMethod ({ cls := "SableCrownModel", name := "isBand", desc := "(I)Z" } : Jvm.MethodName)) ∈ lw_all := lw_g (lw_at lw_m9 23 rfl) rfl
theorem q2048 : (Jvm.Cond.code ({ cls := "SableCrownModel", name := "isBand", desc := "(I)Z" } : Jvm.MethodName) prog_18_method_7_code (2 : Nat) (Option.some Jvm.ClassFile.FieldType.boolean)) ∈ lw_all := lw_g (lw_at lw_m9 24 rfl) rfl
theorem q2049 : (Jvm.Cond.methodLink "SableCrownModel" (352 : Nat) ({ cls := "SableCrownModel", name := "takes", desc := "(I)I" } : Jvm.MethodName)) ∈ lw_all := lw_g (lw_at lw_m9 25 rfl) rfl
theorem q2050 : (Jvm.Cond.privateMethod ({ cls := "SableCrownModel", name := "takes", desc := "(I)I" } : Jvm.MethodName)) ∈ lw_tbl := lw_at lw_m9 26 rfl
theorem q2051 : (Jvm.Cond.instanceMethod ({ cls := "SableCrownModel", name := "takes", desc := "(I)I" } : Jvm.MethodName)) ∈ lw_all := lw_g (lw_at lw_m9 27 rfl) rfl
theorem q2052 : (Jvm.Cond.code ({ cls := "SableCrownModel", name := "takes", desc := "(I)I" } : Jvm.MethodName) prog_18_method_48_code (4 : Nat) (Option.some Jvm.ClassFile.FieldType.int)) ∈ lw_all := lw_g (lw_at lw_m9 28 rfl) rfl
theorem q2053 : (Jvm.Cond.methodLink "SableCrownModel" (338 : Nat) ({ cls := "SableCrownModel", name := "due", desc := "(I)I" } : Jvm.MethodName)) ∈ lw_all := lw_g (lw_at lw_m9 29 rfl) rfl
theorem q2054 : (Jvm.Cond.privateMethod ({ cls := "SableCrownModel", name := "due", desc := "(I)I" } : Jvm.MethodName)) ∈ lw_tbl := lw_at lw_m9 30 rfl
theorem q2055 : (Jvm.Cond.instanceMethod ({ cls := "SableCrownModel", name := "due", desc := "(I)I" } : Jvm.MethodName)) ∈ lw_all := lw_g (lw_at lw_m9 31 rfl) rfl
theorem q2056 : (Jvm.Cond.code ({ cls := "SableCrownModel", name := "due", desc := "(I)I" } : Jvm.MethodName) prog_18_method_47_code (2 : Nat) (Option.some Jvm.ClassFile.FieldType.int)) ∈ lw_all := lw_g (lw_at lw_m9 32 rfl) rfl
theorem q2057 : (Jvm.Cond.methodLink "SableCrownModel" (343 : Nat) ({ cls := "SableCrownModel", name := "bitsOf", desc := "(I)I" } : Jvm.MethodName)) ∈ lw_all := lw_g (lw_at lw_m9 33 rfl) rfl
theorem q2058 : (Jvm.Cond.static ({ cls := "SableCrownModel", name := "bitsOf", desc := "(I)I" } : Jvm.MethodName)) ∈ lw_all := lw_g (lw_at lw_m9 34 rfl) rfl
theorem q2059 : (Jvm.Cond.code ({ cls := "SableCrownModel", name := "bitsOf", desc := "(I)I" } : Jvm.MethodName) prog_18_method_46_code (3 : Nat) (Option.some Jvm.ClassFile.FieldType.int)) ∈ lw_all := lw_g (lw_at lw_m9 35 rfl) rfl
theorem q2060 : (Jvm.Cond.methodLink "SableCrownModel" (346 : Nat) ({ cls := "SableCrownModel", name := "valueNow", desc := "()I" } : Jvm.MethodName)) ∈ lw_all := lw_g (lw_at lw_m9 36 rfl) rfl
theorem q2061 : (Jvm.Cond.privateMethod ({ cls := "SableCrownModel", name := "valueNow", desc := "()I" } : Jvm.MethodName)) ∈ lw_tbl := lw_at lw_m9 37 rfl
theorem q2062 : (Jvm.Cond.instanceMethod ({ cls := "SableCrownModel", name := "valueNow", desc := "()I" } : Jvm.MethodName)) ∈ lw_all := lw_g (lw_at lw_m9 38 rfl) rfl
theorem q2063 : (Jvm.Cond.code ({ cls := "SableCrownModel", name := "valueNow", desc := "()I" } : Jvm.MethodName) prog_18_method_44_code (4 : Nat) (Option.some Jvm.ClassFile.FieldType.int)) ∈ lw_all := lw_g (lw_at lw_m9 39 rfl) rfl
theorem q2064 : (Jvm.Cond.methodLink "SableCrownModel" (334 : Nat) ({ cls := "SableCrownModel", name := "reckon", desc := "(III)I" } : Jvm.MethodName)) ∈ lw_all := lw_g (lw_at lw_m9 40 rfl) rfl
theorem q2065 : (Jvm.Cond.static ({ cls := "SableCrownModel", name := "reckon", desc := "(III)I" } : Jvm.MethodName)) ∈ lw_all := lw_g (lw_at lw_m9 41 rfl) rfl
theorem q2066 : (Jvm.Cond.code ({ cls := "SableCrownModel", name := "reckon", desc := "(III)I" } : Jvm.MethodName) prog_18_method_43_code (3 : Nat) (Option.some Jvm.ClassFile.FieldType.int)) ∈ lw_all := lw_g (lw_at lw_m9 42 rfl) rfl
theorem q2067 : (Jvm.Cond.methodLink "SableCrownModel" (349 : Nat) ({ cls := "java/lang/Math", name := "max", desc := "(II)I" } : Jvm.MethodName)) ∈ lw_all := lw_g (lw_at lw_m9 43 rfl) rfl
theorem q2069 : (Jvm.Cond.instanceMethod ({ cls := "SableCrownModel", name := "years", desc := "(I)I" } : Jvm.MethodName)) ∈ lw_all := lw_g (lw_at lw_m9 45 rfl) rfl
theorem q2070 : (Jvm.Cond.selects "SableCrownModel" ({ cls := "SableCrownModel", name := "years", desc := "(I)I" } : Jvm.MethodName) ({ cls := "SableCrownModel", name := "years", desc := "(I)I" } : Jvm.MethodName)) ∈ lw_all := lw_g (lw_at lw_m9 46 rfl) rfl
theorem q2071 : (Jvm.Cond.code ({ cls := "SableCrownModel", name := "years", desc := "(I)I" } : Jvm.MethodName) prog_18_method_62_code (2 : Nat) (Option.some Jvm.ClassFile.FieldType.int)) ∈ lw_all := lw_g (lw_at lw_m9 47 rfl) rfl
theorem q2072 : (Jvm.Cond.constantLong "SableCrownModel" (389 : Nat) (30 : Int64)) ∈ lw_all := lw_g (lw_at lw_m9 48 rfl) rfl
theorem q2073 : (Jvm.Cond.methodLink "SableCrownModel" (391 : Nat) ({ cls := "SableCrownModel", name := "refuse", desc := "(I)I" } : Jvm.MethodName)) ∈ lw_all := lw_g (lw_at lw_m9 49 rfl) rfl
theorem q2074 : (Jvm.Cond.privateMethod ({ cls := "SableCrownModel", name := "refuse", desc := "(I)I" } : Jvm.MethodName)) ∈ lw_tbl := lw_at lw_m9 50 rfl
theorem q2075 : (Jvm.Cond.instanceMethod ({ cls := "SableCrownModel", name := "refuse", desc := "(I)I" } : Jvm.MethodName)) ∈ lw_all := lw_g (lw_at lw_m9 51 rfl) rfl
theorem q2076 : (Jvm.Cond.code ({ cls := "SableCrownModel", name := "refuse", desc := "(I)I" } : Jvm.MethodName) prog_18_method_60_code (2 : Nat) (Option.some Jvm.ClassFile.FieldType.int)) ∈ lw_all := lw_g (lw_at lw_m9 52 rfl) rfl
theorem q2077 : (Jvm.Cond.methodLink "SableCrownModel" (394 : Nat) ({ cls := "SableCrownModel", name := "keep", desc := "()V" } : Jvm.MethodName)) ∈ lw_all := lw_g (lw_at lw_m9 53 rfl) rfl
theorem q2078 : (Jvm.Cond.privateMethod ({ cls := "SableCrownModel", name := "keep", desc := "()V" } : Jvm.MethodName)) ∈ lw_tbl := lw_at lw_m9 54 rfl
theorem q2079 : (Jvm.Cond.instanceMethod ({ cls := "SableCrownModel", name := "keep", desc := "()V" } : Jvm.MethodName)) ∈ lw_all := lw_g (lw_at lw_m9 55 rfl) rfl
theorem q2080 : (Jvm.Cond.code ({ cls := "SableCrownModel", name := "keep", desc := "()V" } : Jvm.MethodName) prog_18_method_61_code (2 : Nat) (Option.none : Option Jvm.ClassFile.FieldType)) ∈ lw_all := lw_g (lw_at lw_m9 56 rfl) rfl
theorem q2081 : (Jvm.Cond.methodLink "SableCrownModel" (385 : Nat) ({ cls := "SableCrownModel", name := "pack", desc := "([II)V" } : Jvm.MethodName)) ∈ lw_all := lw_g (lw_at lw_m9 57 rfl) rfl
theorem q2082 : (Jvm.Cond.privateMethod ({ cls := "SableCrownModel", name := "pack", desc := "([II)V" } : Jvm.MethodName)) ∈ lw_tbl := lw_at lw_m9 58 rfl
theorem q2083 : (Jvm.Cond.instanceMethod ({ cls := "SableCrownModel", name := "pack", desc := "([II)V" } : Jvm.MethodName)) ∈ lw_all := lw_g (lw_at lw_m9 59 rfl) rfl
theorem q2084 : (Jvm.Cond.code ({ cls := "SableCrownModel", name := "pack", desc := "([II)V" } : Jvm.MethodName) prog_18_method_41_code (5 : Nat) (Option.none : Option Jvm.ClassFile.FieldType)) ∈ lw_all := lw_g (lw_at lw_m9 60 rfl) rfl
theorem q2085 : (Jvm.Cond.methodLink "SableCrownModel" (397 : Nat) ({ cls := "SableCrownModel", name := "goOn", desc := "(I)V" } : Jvm.MethodName)) ∈ lw_all := lw_g (lw_at lw_m9 61 rfl) rfl
theorem q2086 : (Jvm.Cond.privateMethod ({ cls := "SableCrownModel", name := "goOn", desc := "(I)V" } : Jvm.MethodName)) ∈ lw_tbl := lw_at lw_m9 62 rfl
theorem q2087 : (Jvm.Cond.instanceMethod ({ cls := "SableCrownModel", name := "goOn", desc := "(I)V" } : Jvm.MethodName)) ∈ lw_all := lw_g (lw_at lw_m9 63 rfl) rfl
theorem q2088 : (Jvm.Cond.code ({ cls := "SableCrownModel", name := "goOn", desc := "(I)V" } : Jvm.MethodName) prog_18_method_54_code (3 : Nat) (Option.none : Option Jvm.ClassFile.FieldType)) ∈ lw_all := lw_g (lw_at lw_m9 64 rfl) rfl
theorem q2089 : (Jvm.Cond.methodLink "SableCrownModel" (370 : Nat) ({ cls := "SableCrownModel", name := "aYear", desc := "()V" } : Jvm.MethodName)) ∈ lw_all := lw_g (lw_at lw_m9 65 rfl) rfl
theorem q2090 : (Jvm.Cond.privateMethod ({ cls := "SableCrownModel", name := "aYear", desc := "()V" } : Jvm.MethodName)) ∈ lw_tbl := lw_at lw_m9 66 rfl
theorem q2091 : (Jvm.Cond.instanceMethod ({ cls := "SableCrownModel", name := "aYear", desc := "()V" } : Jvm.MethodName)) ∈ lw_all := lw_g (lw_at lw_m9 67 rfl) rfl
theorem q2092 : (Jvm.Cond.code ({ cls := "SableCrownModel", name := "aYear", desc := "()V" } : Jvm.MethodName) prog_18_method_53_code (2 : Nat) (Option.none : Option Jvm.ClassFile.FieldType)) ∈ lw_all := lw_g (lw_at lw_m9 68 rfl) rfl
theorem q2093 : (Jvm.Cond.methodLink "SableCrownModel" (361 : Nat) ({ cls := "SableCrownModel", name := "hunt", desc := "(I)V" } : Jvm.MethodName)) ∈ lw_all := lw_g (lw_at lw_m9 69 rfl) rfl
theorem q2094 : (Jvm.Cond.privateMethod ({ cls := "SableCrownModel", name := "hunt", desc := "(I)V" } : Jvm.MethodName)) ∈ lw_tbl := lw_at lw_m9 70 rfl
theorem q2095 : (Jvm.Cond.instanceMethod ({ cls := "SableCrownModel", name := "hunt", desc := "(I)V" } : Jvm.MethodName)) ∈ lw_all := lw_g (lw_at lw_m9 71 rfl) rfl
theorem q2096 : (Jvm.Cond.code ({ cls := "SableCrownModel", name := "hunt", desc := "(I)V" } : Jvm.MethodName) prog_18_method_49_code (5 : Nat) (Option.none : Option Jvm.ClassFile.FieldType)) ∈ lw_all := lw_g (lw_at lw_m9 72 rfl) rfl
theorem q2097 : (Jvm.Cond.methodLink "SableCrownModel" (364 : Nat) ({ cls := "SableCrownModel", name := "pay", desc := "(I)V" } : Jvm.MethodName)) ∈ lw_all := lw_g (lw_at lw_m9 73 rfl) rfl
theorem q2098 : (Jvm.Cond.privateMethod ({ cls := "SableCrownModel", name := "pay", desc := "(I)V" } : Jvm.MethodName)) ∈ lw_tbl := lw_at lw_m9 74 rfl
theorem q2099 : (Jvm.Cond.instanceMethod ({ cls := "SableCrownModel", name := "pay", desc := "(I)V" } : Jvm.MethodName)) ∈ lw_all := lw_g (lw_at lw_m9 75 rfl) rfl
theorem q2100 : (Jvm.Cond.code ({ cls := "SableCrownModel", name := "pay", desc := "(I)V" } : Jvm.MethodName) prog_18_method_50_code (5 : Nat) (Option.none : Option Jvm.ClassFile.FieldType)) ∈ lw_all := lw_g (lw_at lw_m9 76 rfl) rfl
theorem q2101 : (Jvm.Cond.methodLink "SableCrownModel" (367 : Nat) ({ cls := "SableCrownModel", name := "grow", desc := "(I)V" } : Jvm.MethodName)) ∈ lw_all := lw_g (lw_at lw_m9 77 rfl) rfl
theorem q2102 : (Jvm.Cond.privateMethod ({ cls := "SableCrownModel", name := "grow", desc := "(I)V" } : Jvm.MethodName)) ∈ lw_tbl := lw_at lw_m9 78 rfl
theorem q2103 : (Jvm.Cond.instanceMethod ({ cls := "SableCrownModel", name := "grow", desc := "(I)V" } : Jvm.MethodName)) ∈ lw_all := lw_g (lw_at lw_m9 79 rfl) rfl
theorem q2104 : (Jvm.Cond.code ({ cls := "SableCrownModel", name := "grow", desc := "(I)V" } : Jvm.MethodName) prog_18_method_52_code (2 : Nat) (Option.none : Option Jvm.ClassFile.FieldType)) ∈ lw_all := lw_g (lw_at lw_m9 80 rfl) rfl
theorem q2105 : (Jvm.Cond.methodLink "SableCrownModel" (358 : Nat) ({ cls := "SableCrownModel", name := "grown", desc := "(II)I" } : Jvm.MethodName)) ∈ lw_all := lw_g (lw_at lw_m9 81 rfl) rfl
theorem q2106 : (Jvm.Cond.privateMethod ({ cls := "SableCrownModel", name := "grown", desc := "(II)I" } : Jvm.MethodName)) ∈ lw_tbl := lw_at lw_m9 82 rfl
theorem q2107 : (Jvm.Cond.instanceMethod ({ cls := "SableCrownModel", name := "grown", desc := "(II)I" } : Jvm.MethodName)) ∈ lw_all := lw_g (lw_at lw_m9 83 rfl) rfl
theorem q2108 : (Jvm.Cond.code ({ cls := "SableCrownModel", name := "grown", desc := "(II)I" } : Jvm.MethodName) prog_18_method_51_code (3 : Nat) (Option.some Jvm.ClassFile.FieldType.int)) ∈ lw_all := lw_g (lw_at lw_m9 84 rfl) rfl
theorem q2110 : (Jvm.Cond.instanceMethod ({ cls := "SableCrownModel", name := "move", desc := "(II)I" } : Jvm.MethodName)) ∈ lw_all := lw_g (lw_at lw_m9 86 rfl) rfl
theorem q2111 : (Jvm.Cond.selects "SableCrownModel" ({ cls := "SableCrownModel", name := "move", desc := "(II)I" } : Jvm.MethodName) ({ cls := "SableCrownModel", name := "move", desc := "(II)I" } : Jvm.MethodName)) ∈ lw_all := lw_g (lw_at lw_m9 87 rfl) rfl
theorem q2112 : (Jvm.Cond.code ({ cls := "SableCrownModel", name := "move", desc := "(II)I" } : Jvm.MethodName) prog_18_method_63_code (4 : Nat) (Option.some Jvm.ClassFile.FieldType.int)) ∈ lw_all := lw_g (lw_at lw_m9 88 rfl) rfl
theorem q2114 : (Jvm.Cond.instanceMethod ({ cls := "SableCrownModel", name := "bows", desc := "(II)I" } : Jvm.MethodName)) ∈ lw_all := lw_g (lw_at lw_m9 90 rfl) rfl
theorem q2115 : (Jvm.Cond.selects "SableCrownModel" ({ cls := "SableCrownModel", name := "bows", desc := "(II)I" } : Jvm.MethodName) ({ cls := "SableCrownModel", name := "bows", desc := "(II)I" } : Jvm.MethodName)) ∈ lw_all := lw_g (lw_at lw_m9 91 rfl) rfl
theorem q2116 : (Jvm.Cond.code ({ cls := "SableCrownModel", name := "bows", desc := "(II)I" } : Jvm.MethodName) prog_18_method_64_code (4 : Nat) (Option.some Jvm.ClassFile.FieldType.int)) ∈ lw_all := lw_g (lw_at lw_m9 92 rfl) rfl
theorem q2118 : (Jvm.Cond.instanceMethod ({ cls := "SableCrownModel", name := "rest", desc := "(II)I" } : Jvm.MethodName)) ∈ lw_all := lw_g (lw_at lw_m9 94 rfl) rfl
theorem q2119 : (Jvm.Cond.selects "SableCrownModel" ({ cls := "SableCrownModel", name := "rest", desc := "(II)I" } : Jvm.MethodName) ({ cls := "SableCrownModel", name := "rest", desc := "(II)I" } : Jvm.MethodName)) ∈ lw_all := lw_g (lw_at lw_m9 95 rfl) rfl
theorem q2120 : (Jvm.Cond.code ({ cls := "SableCrownModel", name := "rest", desc := "(II)I" } : Jvm.MethodName) prog_18_method_65_code (4 : Nat) (Option.some Jvm.ClassFile.FieldType.int)) ∈ lw_all := lw_g (lw_at lw_m9 96 rfl) rfl
theorem q2121 : (Jvm.Cond.constantLong "SableCrownModel" (400 : Nat) (50 : Int64)) ∈ lw_all := lw_g (lw_at lw_m9 97 rfl) rfl
theorem q2123 : (Jvm.Cond.instanceMethod ({ cls := "SableCrownModel", name := "dye", desc := "(II)I" } : Jvm.MethodName)) ∈ lw_all := lw_g (lw_at lw_m9 99 rfl) rfl
theorem q2124 : (Jvm.Cond.selects "SableCrownModel" ({ cls := "SableCrownModel", name := "dye", desc := "(II)I" } : Jvm.MethodName) ({ cls := "SableCrownModel", name := "dye", desc := "(II)I" } : Jvm.MethodName)) ∈ lw_all := lw_g (lw_at lw_m9 100 rfl) rfl
theorem q2125 : (Jvm.Cond.code ({ cls := "SableCrownModel", name := "dye", desc := "(II)I" } : Jvm.MethodName) prog_18_method_66_code (3 : Nat) (Option.some Jvm.ClassFile.FieldType.int)) ∈ lw_all := lw_g (lw_at lw_m9 101 rfl) rfl
theorem q2126 : (Jvm.Cond.constantLong "SableCrownModel" (402 : Nat) (99 : Int64)) ∈ lw_all := lw_g (lw_at lw_m9 102 rfl) rfl
theorem q2128 : (Jvm.Cond.instanceMethod ({ cls := "SableCrownModel", name := "forgive", desc := "(I)I" } : Jvm.MethodName)) ∈ lw_all := lw_g (lw_at lw_m9 104 rfl) rfl
theorem q2129 : (Jvm.Cond.selects "SableCrownModel" ({ cls := "SableCrownModel", name := "forgive", desc := "(I)I" } : Jvm.MethodName) ({ cls := "SableCrownModel", name := "forgive", desc := "(I)I" } : Jvm.MethodName)) ∈ lw_all := lw_g (lw_at lw_m9 105 rfl) rfl
theorem q2130 : (Jvm.Cond.code ({ cls := "SableCrownModel", name := "forgive", desc := "(I)I" } : Jvm.MethodName) prog_18_method_67_code (3 : Nat) (Option.some Jvm.ClassFile.FieldType.int)) ∈ lw_all := lw_g (lw_at lw_m9 106 rfl) rfl
theorem q2132 : (Jvm.Cond.instanceMethod ({ cls := "SableCrownModel", name := "undo", desc := "()I" } : Jvm.MethodName)) ∈ lw_all := lw_g (lw_at lw_m9 108 rfl) rfl
theorem q2133 : (Jvm.Cond.selects "SableCrownModel" ({ cls := "SableCrownModel", name := "undo", desc := "()I" } : Jvm.MethodName) ({ cls := "SableCrownModel", name := "undo", desc := "()I" } : Jvm.MethodName)) ∈ lw_all := lw_g (lw_at lw_m9 109 rfl) rfl
theorem q2134 : (Jvm.Cond.code ({ cls := "SableCrownModel", name := "undo", desc := "()I" } : Jvm.MethodName) prog_18_method_68_code (1 : Nat) (Option.some Jvm.ClassFile.FieldType.int)) ∈ lw_all := lw_g (lw_at lw_m9 110 rfl) rfl
theorem q2135 : (Jvm.Cond.methodLink "SableCrownModel" (404 : Nat) ({ cls := "SableCrownModel", name := "unpack", desc := "([II)V" } : Jvm.MethodName)) ∈ lw_all := lw_g (lw_at lw_m9 111 rfl) rfl
theorem q2136 : (Jvm.Cond.privateMethod ({ cls := "SableCrownModel", name := "unpack", desc := "([II)V" } : Jvm.MethodName)) ∈ lw_tbl := lw_at lw_m9 112 rfl
theorem q2137 : (Jvm.Cond.instanceMethod ({ cls := "SableCrownModel", name := "unpack", desc := "([II)V" } : Jvm.MethodName)) ∈ lw_all := lw_g (lw_at lw_m9 113 rfl) rfl
theorem q2138 : (Jvm.Cond.code ({ cls := "SableCrownModel", name := "unpack", desc := "([II)V" } : Jvm.MethodName) prog_18_method_42_code (5 : Nat) (Option.none : Option Jvm.ClassFile.FieldType)) ∈ lw_all := lw_g (lw_at lw_m9 114 rfl) rfl
theorem q2140 : (Jvm.Cond.instanceMethod ({ cls := "SableCrownModel", name := "then", desc := "(II)I" } : Jvm.MethodName)) ∈ lw_all := lw_g (lw_at lw_m9 116 rfl) rfl
theorem q2141 : (Jvm.Cond.selects "SableCrownModel" ({ cls := "SableCrownModel", name := "then", desc := "(II)I" } : Jvm.MethodName) ({ cls := "SableCrownModel", name := "then", desc := "(II)I" } : Jvm.MethodName)) ∈ lw_all := lw_g (lw_at lw_m9 117 rfl) rfl
theorem q2142 : (Jvm.Cond.code ({ cls := "SableCrownModel", name := "then", desc := "(II)I" } : Jvm.MethodName) prog_18_method_69_code (4 : Nat) (Option.some Jvm.ClassFile.FieldType.int)) ∈ lw_all := lw_g (lw_at lw_m9 118 rfl) rfl
theorem q2144 : (Jvm.Cond.instanceMethod ({ cls := "SableCrownModel", name := "empty", desc := "(I)I" } : Jvm.MethodName)) ∈ lw_all := lw_g (lw_at lw_m9 120 rfl) rfl
theorem q2145 : (Jvm.Cond.selects "SableCrownModel" ({ cls := "SableCrownModel", name := "empty", desc := "(I)I" } : Jvm.MethodName) ({ cls := "SableCrownModel", name := "empty", desc := "(I)I" } : Jvm.MethodName)) ∈ lw_all := lw_g (lw_at lw_m9 121 rfl) rfl
theorem q2146 : (Jvm.Cond.code ({ cls := "SableCrownModel", name := "empty", desc := "(I)I" } : Jvm.MethodName) prog_18_method_70_code (4 : Nat) (Option.some Jvm.ClassFile.FieldType.int)) ∈ lw_all := lw_g (lw_at lw_m9 122 rfl) rfl
theorem q2148 : (Jvm.Cond.instanceMethod ({ cls := "SableCrownModel", name := "paid", desc := "(II)I" } : Jvm.MethodName)) ∈ lw_all := lw_g (lw_at lw_m9 124 rfl) rfl
theorem q2149 : (Jvm.Cond.selects "SableCrownModel" ({ cls := "SableCrownModel", name := "paid", desc := "(II)I" } : Jvm.MethodName) ({ cls := "SableCrownModel", name := "paid", desc := "(II)I" } : Jvm.MethodName)) ∈ lw_all := lw_g (lw_at lw_m9 125 rfl) rfl
theorem q2150 : (Jvm.Cond.code ({ cls := "SableCrownModel", name := "paid", desc := "(II)I" } : Jvm.MethodName) prog_18_method_71_code (5 : Nat) (Option.some Jvm.ClassFile.FieldType.int)) ∈ lw_all := lw_g (lw_at lw_m9 126 rfl) rfl
theorem q2152 : (Jvm.Cond.instanceMethod ({ cls := "SableCrownModel", name := "hostages", desc := "(I)I" } : Jvm.MethodName)) ∈ lw_all := lw_g (lw_at lw_m9 128 rfl) rfl
theorem q2153 : (Jvm.Cond.selects "SableCrownModel" ({ cls := "SableCrownModel", name := "hostages", desc := "(I)I" } : Jvm.MethodName) ({ cls := "SableCrownModel", name := "hostages", desc := "(I)I" } : Jvm.MethodName)) ∈ lw_all := lw_g (lw_at lw_m9 129 rfl) rfl
theorem q2154 : (Jvm.Cond.code ({ cls := "SableCrownModel", name := "hostages", desc := "(I)I" } : Jvm.MethodName) prog_18_method_73_code (3 : Nat) (Option.some Jvm.ClassFile.FieldType.int)) ∈ lw_all := lw_g (lw_at lw_m9 130 rfl) rfl
theorem q2155 : (Jvm.Cond.methodLink "SableCrownModel" (407 : Nat) ({ cls := "SableCrownModel", name := "allDead", desc := "()I" } : Jvm.MethodName)) ∈ lw_all := lw_g (lw_at lw_m9 131 rfl) rfl
theorem q2156 : (Jvm.Cond.privateMethod ({ cls := "SableCrownModel", name := "allDead", desc := "()I" } : Jvm.MethodName)) ∈ lw_tbl := lw_at lw_m9 132 rfl
theorem q2157 : (Jvm.Cond.instanceMethod ({ cls := "SableCrownModel", name := "allDead", desc := "()I" } : Jvm.MethodName)) ∈ lw_all := lw_g (lw_at lw_m9 133 rfl) rfl
theorem q2158 : (Jvm.Cond.code ({ cls := "SableCrownModel", name := "allDead", desc := "()I" } : Jvm.MethodName) prog_18_method_72_code (3 : Nat) (Option.some Jvm.ClassFile.FieldType.int)) ∈ lw_all := lw_g (lw_at lw_m9 134 rfl) rfl
theorem q2160 : (Jvm.Cond.instanceMethod ({ cls := "SableCrownModel", name := "owing", desc := "(I)I" } : Jvm.MethodName)) ∈ lw_all := lw_g (lw_at lw_m9 136 rfl) rfl
theorem q2161 : (Jvm.Cond.selects "SableCrownModel" ({ cls := "SableCrownModel", name := "owing", desc := "(I)I" } : Jvm.MethodName) ({ cls := "SableCrownModel", name := "owing", desc := "(I)I" } : Jvm.MethodName)) ∈ lw_all := lw_g (lw_at lw_m9 137 rfl) rfl
theorem q2162 : (Jvm.Cond.code ({ cls := "SableCrownModel", name := "owing", desc := "(I)I" } : Jvm.MethodName) prog_18_method_74_code (5 : Nat) (Option.some Jvm.ClassFile.FieldType.int)) ∈ lw_all := lw_g (lw_at lw_m9 138 rfl) rfl
theorem q2164 : (Jvm.Cond.instanceMethod ({ cls := "SableCrownModel", name := "blackest", desc := "()I" } : Jvm.MethodName)) ∈ lw_all := lw_g (lw_at lw_m9 140 rfl) rfl
theorem q2165 : (Jvm.Cond.selects "SableCrownModel" ({ cls := "SableCrownModel", name := "blackest", desc := "()I" } : Jvm.MethodName) ({ cls := "SableCrownModel", name := "blackest", desc := "()I" } : Jvm.MethodName)) ∈ lw_all := lw_g (lw_at lw_m9 141 rfl) rfl
theorem q2166 : (Jvm.Cond.code ({ cls := "SableCrownModel", name := "blackest", desc := "()I" } : Jvm.MethodName) prog_18_method_75_code (4 : Nat) (Option.some Jvm.ClassFile.FieldType.int)) ∈ lw_all := lw_g (lw_at lw_m9 142 rfl) rfl
theorem q2168 : (Jvm.Cond.instanceMethod ({ cls := "SableCrownModel", name := "lastBlack", desc := "(I)I" } : Jvm.MethodName)) ∈ lw_all := lw_g (lw_at lw_m9 144 rfl) rfl
theorem q2169 : (Jvm.Cond.selects "SableCrownModel" ({ cls := "SableCrownModel", name := "lastBlack", desc := "(I)I" } : Jvm.MethodName) ({ cls := "SableCrownModel", name := "lastBlack", desc := "(I)I" } : Jvm.MethodName)) ∈ lw_all := lw_g (lw_at lw_m9 145 rfl) rfl
theorem q2170 : (Jvm.Cond.code ({ cls := "SableCrownModel", name := "lastBlack", desc := "(I)I" } : Jvm.MethodName) prog_18_method_76_code (5 : Nat) (Option.some Jvm.ClassFile.FieldType.int)) ∈ lw_all := lw_g (lw_at lw_m9 146 rfl) rfl
theorem q2172 : (Jvm.Cond.instanceMethod ({ cls := "SableCrownModel", name := "forEver", desc := "(I)I" } : Jvm.MethodName)) ∈ lw_all := lw_g (lw_at lw_m9 148 rfl) rfl
theorem q2173 : (Jvm.Cond.selects "SableCrownModel" ({ cls := "SableCrownModel", name := "forEver", desc := "(I)I" } : Jvm.MethodName) ({ cls := "SableCrownModel", name := "forEver", desc := "(I)I" } : Jvm.MethodName)) ∈ lw_all := lw_g (lw_at lw_m9 149 rfl) rfl
theorem q2174 : (Jvm.Cond.code ({ cls := "SableCrownModel", name := "forEver", desc := "(I)I" } : Jvm.MethodName) prog_18_method_78_code (3 : Nat) (Option.some Jvm.ClassFile.FieldType.int)) ∈ lw_all := lw_g (lw_at lw_m9 150 rfl) rfl
theorem q2175 : (Jvm.Cond.methodLink "SableCrownModel" (410 : Nat) ({ cls := "SableCrownModel", name := "bears", desc := "(II)Z" } : Jvm.MethodName)) ∈ lw_all := lw_g (lw_at lw_m9 151 rfl) rfl
theorem q2176 : (Jvm.Cond.privateMethod ({ cls := "SableCrownModel", name := "bears", desc := "(II)Z" } : Jvm.MethodName)) ∈ lw_tbl := lw_at lw_m9 152 rfl
theorem q2177 : (Jvm.Cond.instanceMethod ({ cls := "SableCrownModel", name := "bears", desc := "(II)Z" } : Jvm.MethodName)) ∈ lw_all := lw_g (lw_at lw_m9 153 rfl) rfl
theorem q2178 : (Jvm.Cond.code ({ cls := "SableCrownModel", name := "bears", desc := "(II)Z" } : Jvm.MethodName) prog_18_method_77_code (5 : Nat) (Option.some Jvm.ClassFile.FieldType.boolean)) ∈ lw_all := lw_g (lw_at lw_m9 154 rfl) rfl
theorem q2180 : (Jvm.Cond.instanceMethod ({ cls := "SableCrownModel", name := "resting", desc := "(II)I" } : Jvm.MethodName)) ∈ lw_all := lw_g (lw_at lw_m9 156 rfl) rfl
theorem q2181 : (Jvm.Cond.selects "SableCrownModel" ({ cls := "SableCrownModel", name := "resting", desc := "(II)I" } : Jvm.MethodName) ({ cls := "SableCrownModel", name := "resting", desc := "(II)I" } : Jvm.MethodName)) ∈ lw_all := lw_g (lw_at lw_m9 157 rfl) rfl
theorem q2182 : (Jvm.Cond.code ({ cls := "SableCrownModel", name := "resting", desc := "(II)I" } : Jvm.MethodName) prog_18_method_79_code (5 : Nat) (Option.some Jvm.ClassFile.FieldType.int)) ∈ lw_all := lw_g (lw_at lw_m9 158 rfl) rfl
theorem q2183 : (Jvm.Cond.constantLong "SableCrownModel" (413 : Nat) (999 : Int64)) ∈ lw_all := lw_g (lw_at lw_m9 159 rfl) rfl
theorem q2185 : (Jvm.Cond.instanceMethod ({ cls := "SableCrownModel", name := "far", desc := "(II)I" } : Jvm.MethodName)) ∈ lw_all := lw_g (lw_at lw_m9 161 rfl) rfl
theorem q2186 : (Jvm.Cond.selects "SableCrownModel" ({ cls := "SableCrownModel", name := "far", desc := "(II)I" } : Jvm.MethodName) ({ cls := "SableCrownModel", name := "far", desc := "(II)I" } : Jvm.MethodName)) ∈ lw_all := lw_g (lw_at lw_m9 162 rfl) rfl
theorem q2187 : (Jvm.Cond.code ({ cls := "SableCrownModel", name := "far", desc := "(II)I" } : Jvm.MethodName) prog_18_method_82_code (4 : Nat) (Option.some Jvm.ClassFile.FieldType.int)) ∈ lw_all := lw_g (lw_at lw_m9 163 rfl) rfl
theorem q2188 : (Jvm.Cond.methodLink "SableCrownModel" (418 : Nat) ({ cls := "SableCrownModel", name := "farOf", desc := "(II)I" } : Jvm.MethodName)) ∈ lw_all := lw_g (lw_at lw_m9 164 rfl) rfl
theorem q2189 : (Jvm.Cond.privateMethod ({ cls := "SableCrownModel", name := "farOf", desc := "(II)I" } : Jvm.MethodName)) ∈ lw_tbl := lw_at lw_m9 165 rfl
theorem q2190 : (Jvm.Cond.instanceMethod ({ cls := "SableCrownModel", name := "farOf", desc := "(II)I" } : Jvm.MethodName)) ∈ lw_all := lw_g (lw_at lw_m9 166 rfl) rfl
theorem q2191 : (Jvm.Cond.code ({ cls := "SableCrownModel", name := "farOf", desc := "(II)I" } : Jvm.MethodName) prog_18_method_81_code (3 : Nat) (Option.some Jvm.ClassFile.FieldType.int)) ∈ lw_all := lw_g (lw_at lw_m9 167 rfl) rfl
theorem q2192 : (Jvm.Cond.methodLink "SableCrownModel" (415 : Nat) ({ cls := "SableCrownModel", name := "tellDays", desc := "(I)V" } : Jvm.MethodName)) ∈ lw_all := lw_g (lw_at lw_m9 168 rfl) rfl
theorem q2193 : (Jvm.Cond.privateMethod ({ cls := "SableCrownModel", name := "tellDays", desc := "(I)V" } : Jvm.MethodName)) ∈ lw_tbl := lw_at lw_m9 169 rfl
theorem q2194 : (Jvm.Cond.instanceMethod ({ cls := "SableCrownModel", name := "tellDays", desc := "(I)V" } : Jvm.MethodName)) ∈ lw_all := lw_g (lw_at lw_m9 170 rfl) rfl
theorem q2195 : (Jvm.Cond.code ({ cls := "SableCrownModel", name := "tellDays", desc := "(I)V" } : Jvm.MethodName) prog_18_method_80_code (5 : Nat) (Option.none : Option Jvm.ClassFile.FieldType)) ∈ lw_all := lw_g (lw_at lw_m9 171 rfl) rfl
theorem q2197 : (Jvm.Cond.instanceMethod ({ cls := "SableCrownModel", name := "round", desc := "(I)I" } : Jvm.MethodName)) ∈ lw_all := lw_g (lw_at lw_m9 173 rfl) rfl
theorem q2198 : (Jvm.Cond.selects "SableCrownModel" ({ cls := "SableCrownModel", name := "round", desc := "(I)I" } : Jvm.MethodName) ({ cls := "SableCrownModel", name := "round", desc := "(I)I" } : Jvm.MethodName)) ∈ lw_all := lw_g (lw_at lw_m9 174 rfl) rfl
theorem q2199 : (Jvm.Cond.code ({ cls := "SableCrownModel", name := "round", desc := "(I)I" } : Jvm.MethodName) prog_18_method_83_code (10 : Nat) (Option.some Jvm.ClassFile.FieldType.int)) ∈ lw_all := lw_g (lw_at lw_m9 175 rfl) rfl
theorem q2200 : (Jvm.Cond.methodLink "SableCrownModel" (421 : Nat) ({ cls := "SableCrownModel", name := "isFort", desc := "(I)Z" } : Jvm.MethodName)) ∈ lw_all := lw_g (lw_at lw_m9 176 rfl) rfl
theorem q2201 : (Jvm.Cond.privateMethod ({ cls := "SableCrownModel", name := "isFort", desc := "(I)Z" } : Jvm.MethodName)) ∈ lw_tbl := lw_at lw_m9 177 rfl
theorem q2202 : (Jvm.Cond.instanceMethod ({ cls := "SableCrownModel", name := "isFort", desc := "(I)Z" } : Jvm.MethodName)) ∈ lw_all := lw_g (lw_at lw_m9 178 rfl) rfl
theorem q2203 : (Jvm.Cond.code ({ cls := "SableCrownModel", name := "isFort", desc := "(I)Z" } : Jvm.MethodName) prog_18_method_8_code (2 : Nat) (Option.some Jvm.ClassFile.FieldType.boolean)) ∈ lw_all := lw_g (lw_at lw_m9 179 rfl) rfl
theorem q2204 : (Jvm.Cond.methodLink "SableCrownModel" (424 : Nat) ({ cls := "SableCrownModel", name := "isOf", desc := "(II)Z" } : Jvm.MethodName)) ∈ lw_all := lw_g (lw_at lw_m9 180 rfl) rfl
theorem q2205 : (Jvm.Cond.static ({ cls := "SableCrownModel", name := "isOf", desc := "(II)Z" } : Jvm.MethodName)) ∈ lw_all := lw_g (lw_at lw_m9 181 rfl) rfl
theorem q2206 : (Jvm.Cond.code ({ cls := "SableCrownModel", name := "isOf", desc := "(II)Z" } : Jvm.MethodName) prog_18_method_5_code (2 : Nat) (Option.some Jvm.ClassFile.FieldType.boolean)) ∈ lw_all := lw_g (lw_at lw_m9 182 rfl) rfl
theorem q2208 : (Jvm.Cond.instanceMethod ({ cls := "SableCrownModel", name := "first", desc := "(I)I" } : Jvm.MethodName)) ∈ lw_all := lw_g (lw_at lw_m9 184 rfl) rfl
theorem q2209 : (Jvm.Cond.selects "SableCrownModel" ({ cls := "SableCrownModel", name := "first", desc := "(I)I" } : Jvm.MethodName) ({ cls := "SableCrownModel", name := "first", desc := "(I)I" } : Jvm.MethodName)) ∈ lw_all := lw_g (lw_at lw_m9 185 rfl) rfl
theorem q2210 : (Jvm.Cond.code ({ cls := "SableCrownModel", name := "first", desc := "(I)I" } : Jvm.MethodName) prog_18_method_84_code (6 : Nat) (Option.some Jvm.ClassFile.FieldType.int)) ∈ lw_all := lw_g (lw_at lw_m9 186 rfl) rfl
theorem q2212 : (Jvm.Cond.instanceMethod ({ cls := "SableCrownModel", name := "meeting", desc := "(III)I" } : Jvm.MethodName)) ∈ lw_all := lw_g (lw_at lw_m9 188 rfl) rfl
theorem q2213 : (Jvm.Cond.selects "SableCrownModel" ({ cls := "SableCrownModel", name := "meeting", desc := "(III)I" } : Jvm.MethodName) ({ cls := "SableCrownModel", name := "meeting", desc := "(III)I" } : Jvm.MethodName)) ∈ lw_all := lw_g (lw_at lw_m9 189 rfl) rfl
theorem q2214 : (Jvm.Cond.code ({ cls := "SableCrownModel", name := "meeting", desc := "(III)I" } : Jvm.MethodName) prog_18_method_85_code (8 : Nat) (Option.some Jvm.ClassFile.FieldType.int)) ∈ lw_all := lw_g (lw_at lw_m9 190 rfl) rfl
theorem q2216 : (Jvm.Cond.instanceMethod ({ cls := "SableCrownModel", name := "where", desc := "(III)I" } : Jvm.MethodName)) ∈ lw_all := lw_g (lw_at lw_m9 192 rfl) rfl
theorem q2217 : (Jvm.Cond.selects "SableCrownModel" ({ cls := "SableCrownModel", name := "where", desc := "(III)I" } : Jvm.MethodName) ({ cls := "SableCrownModel", name := "where", desc := "(III)I" } : Jvm.MethodName)) ∈ lw_all := lw_g (lw_at lw_m9 193 rfl) rfl
theorem q2218 : (Jvm.Cond.code ({ cls := "SableCrownModel", name := "where", desc := "(III)I" } : Jvm.MethodName) prog_18_method_87_code (8 : Nat) (Option.some Jvm.ClassFile.FieldType.int)) ∈ lw_all := lw_g (lw_at lw_m9 194 rfl) rfl
theorem q2219 : (Jvm.Cond.constantLong "SableCrownModel" (427 : Nat) (20 : Int64)) ∈ lw_all := lw_g (lw_at lw_m9 195 rfl) rfl
theorem q2220 : (Jvm.Cond.methodLink "SableCrownModel" (429 : Nat) ({ cls := "SableCrownModel", name := "owesIn", desc := "(II)I" } : Jvm.MethodName)) ∈ lw_all := lw_g (lw_at lw_m9 196 rfl) rfl
theorem q2221 : (Jvm.Cond.privateMethod ({ cls := "SableCrownModel", name := "owesIn", desc := "(II)I" } : Jvm.MethodName)) ∈ lw_tbl := lw_at lw_m9 197 rfl
theorem q2222 : (Jvm.Cond.instanceMethod ({ cls := "SableCrownModel", name := "owesIn", desc := "(II)I" } : Jvm.MethodName)) ∈ lw_all := lw_g (lw_at lw_m9 198 rfl) rfl
theorem q2223 : (Jvm.Cond.code ({ cls := "SableCrownModel", name := "owesIn", desc := "(II)I" } : Jvm.MethodName) prog_18_method_86_code (4 : Nat) (Option.some Jvm.ClassFile.FieldType.int)) ∈ lw_all := lw_g (lw_at lw_m9 199 rfl) rfl
theorem q2225 : (Jvm.Cond.instanceMethod ({ cls := "SableCrownModel", name := "counted", desc := "(II)I" } : Jvm.MethodName)) ∈ lw_all := lw_g (lw_at lw_m9 201 rfl) rfl
theorem q2226 : (Jvm.Cond.selects "SableCrownModel" ({ cls := "SableCrownModel", name := "counted", desc := "(II)I" } : Jvm.MethodName) ({ cls := "SableCrownModel", name := "counted", desc := "(II)I" } : Jvm.MethodName)) ∈ lw_all := lw_g (lw_at lw_m9 202 rfl) rfl
theorem q2227 : (Jvm.Cond.code ({ cls := "SableCrownModel", name := "counted", desc := "(II)I" } : Jvm.MethodName) prog_18_method_88_code (4 : Nat) (Option.some Jvm.ClassFile.FieldType.int)) ∈ lw_all := lw_g (lw_at lw_m9 203 rfl) rfl
theorem q2229 : (Jvm.Cond.instanceMethod ({ cls := "SableCrownModel", name := "spy", desc := "(III)I" } : Jvm.MethodName)) ∈ lw_all := lw_g (lw_at lw_m9 205 rfl) rfl
theorem q2230 : (Jvm.Cond.selects "SableCrownModel" ({ cls := "SableCrownModel", name := "spy", desc := "(III)I" } : Jvm.MethodName) ({ cls := "SableCrownModel", name := "spy", desc := "(III)I" } : Jvm.MethodName)) ∈ lw_all := lw_g (lw_at lw_m9 206 rfl) rfl
theorem q2231 : (Jvm.Cond.code ({ cls := "SableCrownModel", name := "spy", desc := "(III)I" } : Jvm.MethodName) prog_18_method_89_code (4 : Nat) (Option.some Jvm.ClassFile.FieldType.int)) ∈ lw_all := lw_g (lw_at lw_m9 207 rfl) rfl
theorem q2232 : (Jvm.Cond.constantLong "SableCrownModel" (432 : Nat) (9999 : Int64)) ∈ lw_all := lw_g (lw_at lw_m9 208 rfl) rfl
theorem q2234 : (Jvm.Cond.instanceMethod ({ cls := "SableCrownModel", name := "hidden", desc := "(I)I" } : Jvm.MethodName)) ∈ lw_all := lw_g (lw_at lw_m9 210 rfl) rfl
theorem q2235 : (Jvm.Cond.selects "SableCrownModel" ({ cls := "SableCrownModel", name := "hidden", desc := "(I)I" } : Jvm.MethodName) ({ cls := "SableCrownModel", name := "hidden", desc := "(I)I" } : Jvm.MethodName)) ∈ lw_all := lw_g (lw_at lw_m9 211 rfl) rfl
theorem q2236 : (Jvm.Cond.code ({ cls := "SableCrownModel", name := "hidden", desc := "(I)I" } : Jvm.MethodName) prog_18_method_92_code (2 : Nat) (Option.some Jvm.ClassFile.FieldType.int)) ∈ lw_all := lw_g (lw_at lw_m9 212 rfl) rfl
theorem q2237 : (Jvm.Cond.constantLong "SableCrownModel" (441 : Nat) (2 : Int64)) ∈ lw_all := lw_g (lw_at lw_m9 213 rfl) rfl
theorem q2238 : (Jvm.Cond.methodLink "SableCrownModel" (437 : Nat) ({ cls := "SableCrownModel", name := "isAsSpied", desc := "()Z" } : Jvm.MethodName)) ∈ lw_all := lw_g (lw_at lw_m9 214 rfl) rfl
theorem q2239 : (Jvm.Cond.privateMethod ({ cls := "SableCrownModel", name := "isAsSpied", desc := "()Z" } : Jvm.MethodName)) ∈ lw_tbl := lw_at lw_m9 215 rfl
theorem q2240 : (Jvm.Cond.instanceMethod ({ cls := "SableCrownModel", name := "isAsSpied", desc := "()Z" } : Jvm.MethodName)) ∈ lw_all := lw_g (lw_at lw_m9 216 rfl) rfl
theorem q2241 : (Jvm.Cond.code ({ cls := "SableCrownModel", name := "isAsSpied", desc := "()Z" } : Jvm.MethodName) prog_18_method_90_code (4 : Nat) (Option.some Jvm.ClassFile.FieldType.boolean)) ∈ lw_all := lw_g (lw_at lw_m9 217 rfl) rfl
theorem q2242 : (Jvm.Cond.methodLink "SableCrownModel" (443 : Nat) ({ cls := "SableCrownModel", name := "tellFits", desc := "()V" } : Jvm.MethodName)) ∈ lw_all := lw_g (lw_at lw_m9 218 rfl) rfl
theorem q2243 : (Jvm.Cond.privateMethod ({ cls := "SableCrownModel", name := "tellFits", desc := "()V" } : Jvm.MethodName)) ∈ lw_tbl := lw_at lw_m9 219 rfl
theorem q2244 : (Jvm.Cond.instanceMethod ({ cls := "SableCrownModel", name := "tellFits", desc := "()V" } : Jvm.MethodName)) ∈ lw_all := lw_g (lw_at lw_m9 220 rfl) rfl
theorem q2245 : (Jvm.Cond.code ({ cls := "SableCrownModel", name := "tellFits", desc := "()V" } : Jvm.MethodName) prog_18_method_91_code (4 : Nat) (Option.none : Option Jvm.ClassFile.FieldType)) ∈ lw_all := lw_g (lw_at lw_m9 221 rfl) rfl
theorem q2247 : (Jvm.Cond.instanceMethod ({ cls := "SableCrownModel", name := "look", desc := "(I)I" } : Jvm.MethodName)) ∈ lw_all := lw_g (lw_at lw_m9 223 rfl) rfl
theorem q2248 : (Jvm.Cond.selects "SableCrownModel" ({ cls := "SableCrownModel", name := "look", desc := "(I)I" } : Jvm.MethodName) ({ cls := "SableCrownModel", name := "look", desc := "(I)I" } : Jvm.MethodName)) ∈ lw_all := lw_g (lw_at lw_m9 224 rfl) rfl
theorem q2249 : (Jvm.Cond.code ({ cls := "SableCrownModel", name := "look", desc := "(I)I" } : Jvm.MethodName) prog_18_method_94_code (6 : Nat) (Option.some Jvm.ClassFile.FieldType.int)) ∈ lw_all := lw_g (lw_at lw_m9 225 rfl) rfl
theorem q2250 : (Jvm.Cond.methodLink "SableCrownModel" (446 : Nat) ({ cls := "SableCrownModel", name := "unlike", desc := "(I)I" } : Jvm.MethodName)) ∈ lw_all := lw_g (lw_at lw_m9 226 rfl) rfl
theorem q2251 : (Jvm.Cond.privateMethod ({ cls := "SableCrownModel", name := "unlike", desc := "(I)I" } : Jvm.MethodName)) ∈ lw_tbl := lw_at lw_m9 227 rfl
theorem q2252 : (Jvm.Cond.instanceMethod ({ cls := "SableCrownModel", name := "unlike", desc := "(I)I" } : Jvm.MethodName)) ∈ lw_all := lw_g (lw_at lw_m9 228 rfl) rfl
theorem q2253 : (Jvm.Cond.code ({ cls := "SableCrownModel", name := "unlike", desc := "(I)I" } : Jvm.MethodName) prog_18_method_93_code (6 : Nat) (Option.some Jvm.ClassFile.FieldType.int)) ∈ lw_all := lw_g (lw_at lw_m9 229 rfl) rfl
theorem q2255 : (Jvm.Cond.instanceMethod ({ cls := "SableCrownModel", name := "forget", desc := "()V" } : Jvm.MethodName)) ∈ lw_all := lw_g (lw_at lw_m9 231 rfl) rfl
theorem q2256 : (Jvm.Cond.selects "SableCrownModel" ({ cls := "SableCrownModel", name := "forget", desc := "()V" } : Jvm.MethodName) ({ cls := "SableCrownModel", name := "forget", desc := "()V" } : Jvm.MethodName)) ∈ lw_all := lw_g (lw_at lw_m9 232 rfl) rfl
theorem q2257 : (Jvm.Cond.code ({ cls := "SableCrownModel", name := "forget", desc := "()V" } : Jvm.MethodName) prog_18_method_95_code (1 : Nat) (Option.none : Option Jvm.ClassFile.FieldType)) ∈ lw_all := lw_g (lw_at lw_m9 233 rfl) rfl
theorem q2259 : (Jvm.Cond.instanceMethod ({ cls := "SableCrownModel", name := "game", desc := "(IIIII)I" } : Jvm.MethodName)) ∈ lw_all := lw_g (lw_at lw_m9 235 rfl) rfl
theorem q2260 : (Jvm.Cond.selects "SableCrownModel" ({ cls := "SableCrownModel", name := "game", desc := "(IIIII)I" } : Jvm.MethodName) ({ cls := "SableCrownModel", name := "game", desc := "(IIIII)I" } : Jvm.MethodName)) ∈ lw_all := lw_g (lw_at lw_m9 236 rfl) rfl
theorem q2261 : (Jvm.Cond.code ({ cls := "SableCrownModel", name := "game", desc := "(IIIII)I" } : Jvm.MethodName) prog_18_method_97_code (11 : Nat) (Option.some Jvm.ClassFile.FieldType.int)) ∈ lw_all := lw_g (lw_at lw_m9 237 rfl) rfl
theorem q2262 : (Jvm.Cond.methodLink "SableCrownModel" (449 : Nat) ({ cls := "SableCrownModel", name := "gain", desc := "(IIII)I" } : Jvm.MethodName)) ∈ lw_all := lw_g (lw_at lw_m9 238 rfl) rfl
theorem q2263 : (Jvm.Cond.privateMethod ({ cls := "SableCrownModel", name := "gain", desc := "(IIII)I" } : Jvm.MethodName)) ∈ lw_tbl := lw_at lw_m9 239 rfl
theorem q2264 : (Jvm.Cond.instanceMethod ({ cls := "SableCrownModel", name := "gain", desc := "(IIII)I" } : Jvm.MethodName)) ∈ lw_all := lw_g (lw_at lw_m10 0 rfl) rfl
theorem q2265 : (Jvm.Cond.code ({ cls := "SableCrownModel", name := "gain", desc := "(IIII)I" } : Jvm.MethodName) prog_18_method_96_code (7 : Nat) (Option.some Jvm.ClassFile.FieldType.int)) ∈ lw_all := lw_g (lw_at lw_m10 1 rfl) rfl
theorem q2267 : (Jvm.Cond.instanceMethod ({ cls := "SableCrownModel", name := "winter", desc := "(III)I" } : Jvm.MethodName)) ∈ lw_all := lw_g (lw_at lw_m10 3 rfl) rfl
theorem q2268 : (Jvm.Cond.selects "SableCrownModel" ({ cls := "SableCrownModel", name := "winter", desc := "(III)I" } : Jvm.MethodName) ({ cls := "SableCrownModel", name := "winter", desc := "(III)I" } : Jvm.MethodName)) ∈ lw_all := lw_g (lw_at lw_m10 4 rfl) rfl
theorem q2269 : (Jvm.Cond.code ({ cls := "SableCrownModel", name := "winter", desc := "(III)I" } : Jvm.MethodName) prog_18_method_100_code (7 : Nat) (Option.some Jvm.ClassFile.FieldType.int)) ∈ lw_all := lw_g (lw_at lw_m10 5 rfl) rfl
theorem q2270 : (Jvm.Cond.methodLink "SableCrownModel" (460 : Nat) ({ cls := "SableCrownModel", name := "frost", desc := "()V" } : Jvm.MethodName)) ∈ lw_all := lw_g (lw_at lw_m10 6 rfl) rfl
theorem q2271 : (Jvm.Cond.privateMethod ({ cls := "SableCrownModel", name := "frost", desc := "()V" } : Jvm.MethodName)) ∈ lw_tbl := lw_at lw_m10 7 rfl
theorem q2272 : (Jvm.Cond.instanceMethod ({ cls := "SableCrownModel", name := "frost", desc := "()V" } : Jvm.MethodName)) ∈ lw_all := lw_g (lw_at lw_m10 8 rfl) rfl
theorem q2273 : (Jvm.Cond.code ({ cls := "SableCrownModel", name := "frost", desc := "()V" } : Jvm.MethodName) prog_18_method_99_code (3 : Nat) (Option.none : Option Jvm.ClassFile.FieldType)) ∈ lw_all := lw_g (lw_at lw_m10 9 rfl) rfl
theorem q2274 : (Jvm.Cond.methodLink "SableCrownModel" (457 : Nat) ({ cls := "SableCrownModel", name := "drawOf", desc := "(I)I" } : Jvm.MethodName)) ∈ lw_all := lw_g (lw_at lw_m10 10 rfl) rfl
theorem q2275 : (Jvm.Cond.privateMethod ({ cls := "SableCrownModel", name := "drawOf", desc := "(I)I" } : Jvm.MethodName)) ∈ lw_tbl := lw_at lw_m10 11 rfl
theorem q2276 : (Jvm.Cond.instanceMethod ({ cls := "SableCrownModel", name := "drawOf", desc := "(I)I" } : Jvm.MethodName)) ∈ lw_all := lw_g (lw_at lw_m10 12 rfl) rfl
theorem q2277 : (Jvm.Cond.code ({ cls := "SableCrownModel", name := "drawOf", desc := "(I)I" } : Jvm.MethodName) prog_18_method_98_code (2 : Nat) (Option.some Jvm.ClassFile.FieldType.int)) ∈ lw_all := lw_g (lw_at lw_m10 13 rfl) rfl
theorem q2278 : (Jvm.Cond.constant "SableCrownModel" (456 : Nat) (1103515245 : Int32)) ∈ lw_all := lw_g (lw_at lw_m10 14 rfl) rfl
theorem q2280 : (Jvm.Cond.instanceMethod ({ cls := "SableCrownModel", name := "image", desc := "()V" } : Jvm.MethodName)) ∈ lw_all := lw_g (lw_at lw_m10 16 rfl) rfl
theorem q2281 : (Jvm.Cond.selects "SableCrownModel" ({ cls := "SableCrownModel", name := "image", desc := "()V" } : Jvm.MethodName) ({ cls := "SableCrownModel", name := "image", desc := "()V" } : Jvm.MethodName)) ∈ lw_all := lw_g (lw_at lw_m10 17 rfl) rfl
theorem q2282 : (Jvm.Cond.code ({ cls := "SableCrownModel", name := "image", desc := "()V" } : Jvm.MethodName) prog_18_method_102_code (1 : Nat) (Option.none : Option Jvm.ClassFile.FieldType)) ∈ lw_all := lw_g (lw_at lw_m10 18 rfl) rfl
theorem q2283 : (Jvm.Cond.methodLink "SableCrownModel" (469 : Nat) ({ cls := "SableCrownModel", name := "copyTo", desc := "([I[I)V" } : Jvm.MethodName)) ∈ lw_all := lw_g (lw_at lw_m10 19 rfl) rfl
theorem q2284 : (Jvm.Cond.static ({ cls := "SableCrownModel", name := "copyTo", desc := "([I[I)V" } : Jvm.MethodName)) ∈ lw_all := lw_g (lw_at lw_m10 20 rfl) rfl
theorem q2285 : (Jvm.Cond.code ({ cls := "SableCrownModel", name := "copyTo", desc := "([I[I)V" } : Jvm.MethodName) prog_18_method_101_code (3 : Nat) (Option.none : Option Jvm.ClassFile.FieldType)) ∈ lw_all := lw_g (lw_at lw_m10 21 rfl) rfl
theorem q2287 : (Jvm.Cond.instanceMethod ({ cls := "SableCrownModel", name := "restore", desc := "()Z" } : Jvm.MethodName)) ∈ lw_all := lw_g (lw_at lw_m10 23 rfl) rfl
theorem q2288 : (Jvm.Cond.selects "SableCrownModel" ({ cls := "SableCrownModel", name := "restore", desc := "()Z" } : Jvm.MethodName) ({ cls := "SableCrownModel", name := "restore", desc := "()Z" } : Jvm.MethodName)) ∈ lw_all := lw_g (lw_at lw_m10 24 rfl) rfl
theorem q2289 : (Jvm.Cond.code ({ cls := "SableCrownModel", name := "restore", desc := "()Z" } : Jvm.MethodName) prog_18_method_103_code (1 : Nat) (Option.some Jvm.ClassFile.FieldType.boolean)) ∈ lw_all := lw_g (lw_at lw_m10 25 rfl) rfl
theorem q2313 : (Jvm.Cond.castable "SableCrownModel" "java/lang/Object") ∈ lw_tbl := lw_at lw_m10 49 rfl
theorem in_X7 : ∀ w ∈ wsX70, w ∈ lw_all := lw_in wsX70 [1740, 1742, 1744, 1746, 1748, 1750, 1752, 1754, 1756, 1758, 1760, 1762, 1764, 1766, 1768, 1770, 1772, 1774, 1776, 1778, 1780, 1782, 1784, 1786, 1788, 1790, 1792, 1794, 1796, 1798, 1800, 1802, 1804, 1806, 1808, 1810, 1812, 1814, 1816, 1818, 1820, 1822, 1824, 1826, 1828, 1830, 1832, 1834, 1836, 1838, 1840, 1842, 1844, 1846, 1848, 1850, 1852, 1854, 1856, 1858, 1860, 1862, 1864] (by decide +kernel) (by decide +kernel)
