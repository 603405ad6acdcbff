/-! SableCrown -/
set_option maxRecDepth 100000
def RX1 : String := "SableCrown"
def TX1 : u_T := fun k => match k with
  | 0 => ("SableCrown", "land", "LSableCrown$Land;", false)
  | 1 => ("SableCrown", "book", "LSableCrown$Book;", true)
  | 2 => ("SableCrown", "image", "LSableCrown$Book;", true)
  | 3 => ("SableCrown", "now", "LSableCrown$State;", true)
  | 4 => ("SableCrown", "tried", "LSableCrown$State;", true)
  | 5 => ("SableCrown", "hasImage", "Z", false)
  | 6 => ("SableCrown", "tape", "[B", true)
  | 7 => ("SableCrown", "taped", "I", false)
  | 8 => ("SableCrown", "faultPlace", "I", false)
  | 9 => ("SableCrown", "walked", "[I", true)
  | 10 => ("SableCrown", "stores", "[I", true)
  | _ => ("SableCrown", "its", "I", false)
def tyX1 : Nat → FieldType := fun k => match k with
  | 0 => .object "SableCrown$Land"
  | 1 => .object "SableCrown$Book"
  | 2 => .object "SableCrown$Book"
  | 3 => .object "SableCrown$State"
  | 4 => .object "SableCrown$State"
  | 5 => .boolean
  | 6 => .array .byte
  | 7 => .int
  | 8 => .int
  | 9 => .array .int
  | 10 => .array .int
  | _ => .int
abbrev wsX10 : List Cond := u_ws RX1 TX1 12
theorem nmX1 : ∀ a, a < 12 → ∀ b, b < 12 → a ≠ b → (TX1 a).2.1 ≠ (TX1 b).2.1 := by decide +kernel
theorem tyX1_ok : ∀ k, k < 12 → parseFieldDescriptor (TX1 k).2.2.1 = some (tyX1 k) := by decide +kernel
abbrev cX1_init : ByteArray := prog_1_method_1_code
def yX1_init : MethodName := ⟨RX1, "<init>", "()V"⟩
def dkwX1_init_3 : List UInt8 := [2, 181, 0, 41, 42, 17, 8, 0, 188, 10, 181, 0, 45, 42, 17, 4, 56, 188, 10, 181, 0, 49, 177]
abbrev dktX1_init_3 : List UInt8 := dkwX1_init_3 ++ []
def dkwX1_init_2 : List UInt8 := [181, 0, 30, 42, 187, 0, 31, 89, 183, 0, 33, 181, 0, 34, 42, 17, 2, 188, 188, 8, 181, 0, 37, 42]
abbrev dktX1_init_2 : List UInt8 := dkwX1_init_2 ++ dktX1_init_3
def dkwX1_init_1 : List UInt8 := [181, 0, 19, 42, 187, 0, 16, 89, 183, 0, 18, 181, 0, 23, 42, 42, 180, 0, 19, 180, 0, 26]
abbrev dktX1_init_1 : List UInt8 := dkwX1_init_1 ++ dktX1_init_2
def dkwX1_init_0 : List UInt8 := [42, 183, 0, 1, 42, 187, 0, 7, 89, 183, 0, 9, 181, 0, 10, 42, 187, 0, 16, 89, 183, 0, 18]
abbrev dktX1_init_0 : List UInt8 := dkwX1_init_0 ++ dktX1_init_1
theorem dksX1_init_0 : cX1_init.data.toList.drop 0 = dktX1_init_0 := by decide +kernel
theorem dksX1_init_1 : cX1_init.data.toList.drop 23 = dktX1_init_1 := dk_seg dksX1_init_0 23 rfl rfl
theorem dksX1_init_2 : cX1_init.data.toList.drop 45 = dktX1_init_2 := dk_seg dksX1_init_1 22 rfl rfl
theorem dksX1_init_3 : cX1_init.data.toList.drop 69 = dktX1_init_3 := dk_seg dksX1_init_2 24 rfl rfl
theorem dX1_init_0 : decode cX1_init 0 = .ok (.aload_n 0, 1) := dk_42 (dk_at dksX1_init_0 0 rfl rfl)
theorem dX1_init_1 : decode cX1_init 1 = .ok (.invokespecial 1, 3) := dk_183 0 1 (dk_at dksX1_init_0 1 rfl rfl)
theorem dX1_init_4 : decode cX1_init 4 = .ok (.aload_n 0, 1) := dk_42 (dk_at dksX1_init_0 4 rfl rfl)
theorem dX1_init_5 : decode cX1_init 5 = .ok (.new 7, 3) := dk_187 0 7 (dk_at dksX1_init_0 5 rfl rfl)
theorem dX1_init_8 : decode cX1_init 8 = .ok (.dup, 1) := dk_89 (dk_at dksX1_init_0 8 rfl rfl)
theorem dX1_init_9 : decode cX1_init 9 = .ok (.invokespecial 9, 3) := dk_183 0 9 (dk_at dksX1_init_0 9 rfl rfl)
theorem dX1_init_12 : decode cX1_init 12 = .ok (.putfield 10, 3) := dk_181 0 10 (dk_at dksX1_init_0 12 rfl rfl)
theorem dX1_init_15 : decode cX1_init 15 = .ok (.aload_n 0, 1) := dk_42 (dk_at dksX1_init_0 15 rfl rfl)
theorem dX1_init_16 : decode cX1_init 16 = .ok (.new 16, 3) := dk_187 0 16 (dk_at dksX1_init_0 16 rfl rfl)
theorem dX1_init_19 : decode cX1_init 19 = .ok (.dup, 1) := dk_89 (dk_at dksX1_init_0 19 rfl rfl)
theorem dX1_init_20 : decode cX1_init 20 = .ok (.invokespecial 18, 3) := dk_183 0 18 (dk_at dksX1_init_0 20 rfl rfl)
theorem dX1_init_23 : decode cX1_init 23 = .ok (.putfield 19, 3) := dk_181 0 19 (dk_at dksX1_init_1 0 rfl rfl)
theorem dX1_init_26 : decode cX1_init 26 = .ok (.aload_n 0, 1) := dk_42 (dk_at dksX1_init_1 3 rfl rfl)
theorem dX1_init_27 : decode cX1_init 27 = .ok (.new 16, 3) := dk_187 0 16 (dk_at dksX1_init_1 4 rfl rfl)
theorem dX1_init_30 : decode cX1_init 30 = .ok (.dup, 1) := dk_89 (dk_at dksX1_init_1 7 rfl rfl)
theorem dX1_init_31 : decode cX1_init 31 = .ok (.invokespecial 18, 3) := dk_183 0 18 (dk_at dksX1_init_1 8 rfl rfl)
theorem dX1_init_34 : decode cX1_init 34 = .ok (.putfield 23, 3) := dk_181 0 23 (dk_at dksX1_init_1 11 rfl rfl)
theorem dX1_init_37 : decode cX1_init 37 = .ok (.aload_n 0, 1) := dk_42 (dk_at dksX1_init_1 14 rfl rfl)
theorem dX1_init_38 : decode cX1_init 38 = .ok (.aload_n 0, 1) := dk_42 (dk_at dksX1_init_1 15 rfl rfl)
theorem dX1_init_39 : decode cX1_init 39 = .ok (.getfield 19, 3) := dk_180 0 19 (dk_at dksX1_init_1 16 rfl rfl)
theorem dX1_init_42 : decode cX1_init 42 = .ok (.getfield 26, 3) := dk_180 0 26 (dk_at dksX1_init_1 19 rfl rfl)
theorem dX1_init_45 : decode cX1_init 45 = .ok (.putfield 30, 3) := dk_181 0 30 (dk_at dksX1_init_2 0 rfl rfl)
theorem dX1_init_48 : decode cX1_init 48 = .ok (.aload_n 0, 1) := dk_42 (dk_at dksX1_init_2 3 rfl rfl)
theorem dX1_init_49 : decode cX1_init 49 = .ok (.new 31, 3) := dk_187 0 31 (dk_at dksX1_init_2 4 rfl rfl)
theorem dX1_init_52 : decode cX1_init 52 = .ok (.dup, 1) := dk_89 (dk_at dksX1_init_2 7 rfl rfl)
theorem dX1_init_53 : decode cX1_init 53 = .ok (.invokespecial 33, 3) := dk_183 0 33 (dk_at dksX1_init_2 8 rfl rfl)
theorem dX1_init_56 : decode cX1_init 56 = .ok (.putfield 34, 3) := dk_181 0 34 (dk_at dksX1_init_2 11 rfl rfl)
theorem dX1_init_59 : decode cX1_init 59 = .ok (.aload_n 0, 1) := dk_42 (dk_at dksX1_init_2 14 rfl rfl)
theorem dX1_init_60 : decode cX1_init 60 = .ok (.sipush 700, 3) := dk_17 2 188 (dk_at dksX1_init_2 15 rfl rfl)
theorem dX1_init_63 : decode cX1_init 63 = .ok (.newarray .byte, 2) := dk_188_8 (dk_at dksX1_init_2 18 rfl rfl)
theorem dX1_init_65 : decode cX1_init 65 = .ok (.putfield 37, 3) := dk_181 0 37 (dk_at dksX1_init_2 20 rfl rfl)
theorem dX1_init_68 : decode cX1_init 68 = .ok (.aload_n 0, 1) := dk_42 (dk_at dksX1_init_2 23 rfl rfl)
theorem dX1_init_69 : decode cX1_init 69 = .ok (.iconst (-1), 1) := dk_2 (dk_at dksX1_init_3 0 rfl rfl)
theorem dX1_init_70 : decode cX1_init 70 = .ok (.putfield 41, 3) := dk_181 0 41 (dk_at dksX1_init_3 1 rfl rfl)
theorem dX1_init_73 : decode cX1_init 73 = .ok (.aload_n 0, 1) := dk_42 (dk_at dksX1_init_3 4 rfl rfl)
theorem dX1_init_74 : decode cX1_init 74 = .ok (.sipush 2048, 3) := dk_17 8 0 (dk_at dksX1_init_3 5 rfl rfl)
theorem dX1_init_77 : decode cX1_init 77 = .ok (.newarray .int, 2) := dk_188_10 (dk_at dksX1_init_3 8 rfl rfl)
theorem dX1_init_79 : decode cX1_init 79 = .ok (.putfield 45, 3) := dk_181 0 45 (dk_at dksX1_init_3 10 rfl rfl)
theorem dX1_init_82 : decode cX1_init 82 = .ok (.aload_n 0, 1) := dk_42 (dk_at dksX1_init_3 13 rfl rfl)
theorem dX1_init_83 : decode cX1_init 83 = .ok (.sipush 1080, 3) := dk_17 4 56 (dk_at dksX1_init_3 14 rfl rfl)
theorem dX1_init_86 : decode cX1_init 86 = .ok (.newarray .int, 2) := dk_188_10 (dk_at dksX1_init_3 17 rfl rfl)
theorem dX1_init_88 : decode cX1_init 88 = .ok (.putfield 49, 3) := dk_181 0 49 (dk_at dksX1_init_3 19 rfl rfl)
theorem dX1_init_91 : decode cX1_init 91 = .ok (.return_, 1) := dk_177 (dk_at dksX1_init_3 22 rfl rfl)
abbrev cX1_feed : ByteArray := prog_1_method_10_code
def yX1_feed : MethodName := ⟨RX1, "feed", "(IIIII)I"⟩
def dkwX1_feed_2 : List UInt8 := [172]
abbrev dktX1_feed_2 : List UInt8 := dkwX1_feed_2 ++ []
def dkwX1_feed_1 : List UInt8 := [182, 0, 96, 42, 29, 182, 0, 96, 42, 21, 4, 182, 0, 96, 42, 21, 5, 182, 0, 96, 42, 180, 0, 93]
abbrev dktX1_feed_1 : List UInt8 := dkwX1_feed_1 ++ dktX1_feed_2
def dkwX1_feed_0 : List UInt8 := [42, 180, 0, 93, 16, 20, 96, 17, 2, 188, 164, 0, 5, 2, 172, 42, 27, 182, 0, 96, 42, 28]
abbrev dktX1_feed_0 : List UInt8 := dkwX1_feed_0 ++ dktX1_feed_1
theorem dksX1_feed_0 : cX1_feed.data.toList.drop 0 = dktX1_feed_0 := by decide +kernel
theorem dksX1_feed_1 : cX1_feed.data.toList.drop 22 = dktX1_feed_1 := dk_seg dksX1_feed_0 22 rfl rfl
theorem dksX1_feed_2 : cX1_feed.data.toList.drop 46 = dktX1_feed_2 := dk_seg dksX1_feed_1 24 rfl rfl
theorem dX1_feed_0 : decode cX1_feed 0 = .ok (.aload_n 0, 1) := dk_42 (dk_at dksX1_feed_0 0 rfl rfl)
theorem dX1_feed_1 : decode cX1_feed 1 = .ok (.getfield 93, 3) := dk_180 0 93 (dk_at dksX1_feed_0 1 rfl rfl)
theorem dX1_feed_4 : decode cX1_feed 4 = .ok (.bipush 20, 2) := dk_16 20 (dk_at dksX1_feed_0 4 rfl rfl)
theorem dX1_feed_6 : decode cX1_feed 6 = .ok (.iadd, 1) := dk_96 (dk_at dksX1_feed_0 6 rfl rfl)
theorem dX1_feed_7 : decode cX1_feed 7 = .ok (.sipush 700, 3) := dk_17 2 188 (dk_at dksX1_feed_0 7 rfl rfl)
theorem dX1_feed_10 : decode cX1_feed 10 = .ok (.if_icmp .le 5, 3) := dk_164 0 5 (dk_at dksX1_feed_0 10 rfl rfl)
theorem dX1_feed_13 : decode cX1_feed 13 = .ok (.iconst (-1), 1) := dk_2 (dk_at dksX1_feed_0 13 rfl rfl)
theorem dX1_feed_14 : decode cX1_feed 14 = .ok (.ireturn, 1) := dk_172 (dk_at dksX1_feed_0 14 rfl rfl)
theorem dX1_feed_15 : decode cX1_feed 15 = .ok (.aload_n 0, 1) := dk_42 (dk_at dksX1_feed_0 15 rfl rfl)
theorem dX1_feed_16 : decode cX1_feed 16 = .ok (.iload_n 1, 1) := dk_27 (dk_at dksX1_feed_0 16 rfl rfl)
theorem dX1_feed_17 : decode cX1_feed 17 = .ok (.invokevirtual 96, 3) := dk_182 0 96 (dk_at dksX1_feed_0 17 rfl rfl)
theorem dX1_feed_20 : decode cX1_feed 20 = .ok (.aload_n 0, 1) := dk_42 (dk_at dksX1_feed_0 20 rfl rfl)
theorem dX1_feed_21 : decode cX1_feed 21 = .ok (.iload_n 2, 1) := dk_28 (dk_at dksX1_feed_0 21 rfl rfl)
theorem dX1_feed_22 : decode cX1_feed 22 = .ok (.invokevirtual 96, 3) := dk_182 0 96 (dk_at dksX1_feed_1 0 rfl rfl)
theorem dX1_feed_25 : decode cX1_feed 25 = .ok (.aload_n 0, 1) := dk_42 (dk_at dksX1_feed_1 3 rfl rfl)
theorem dX1_feed_26 : decode cX1_feed 26 = .ok (.iload_n 3, 1) := dk_29 (dk_at dksX1_feed_1 4 rfl rfl)
theorem dX1_feed_27 : decode cX1_feed 27 = .ok (.invokevirtual 96, 3) := dk_182 0 96 (dk_at dksX1_feed_1 5 rfl rfl)
theorem dX1_feed_30 : decode cX1_feed 30 = .ok (.aload_n 0, 1) := dk_42 (dk_at dksX1_feed_1 8 rfl rfl)
theorem dX1_feed_31 : decode cX1_feed 31 = .ok (.iload 4, 2) := dk_21 4 (dk_at dksX1_feed_1 9 rfl rfl)
theorem dX1_feed_33 : decode cX1_feed 33 = .ok (.invokevirtual 96, 3) := dk_182 0 96 (dk_at dksX1_feed_1 11 rfl rfl)
theorem dX1_feed_36 : decode cX1_feed 36 = .ok (.aload_n 0, 1) := dk_42 (dk_at dksX1_feed_1 14 rfl rfl)
theorem dX1_feed_37 : decode cX1_feed 37 = .ok (.iload 5, 2) := dk_21 5 (dk_at dksX1_feed_1 15 rfl rfl)
theorem dX1_feed_39 : decode cX1_feed 39 = .ok (.invokevirtual 96, 3) := dk_182 0 96 (dk_at dksX1_feed_1 17 rfl rfl)
theorem dX1_feed_42 : decode cX1_feed 42 = .ok (.aload_n 0, 1) := dk_42 (dk_at dksX1_feed_1 20 rfl rfl)
theorem dX1_feed_43 : decode cX1_feed 43 = .ok (.getfield 93, 3) := dk_180 0 93 (dk_at dksX1_feed_1 21 rfl rfl)
theorem dX1_feed_46 : decode cX1_feed 46 = .ok (.ireturn, 1) := dk_172 (dk_at dksX1_feed_2 0 rfl rfl)
abbrev cX1_lay : ByteArray := prog_1_method_11_code
def yX1_lay : MethodName := ⟨RX1, "lay", "(I)V"⟩
def dkwX1_lay_1 : List UInt8 := [180, 0, 93, 4, 96, 181, 0, 93, 132, 2, 248, 167, 255, 226, 177]
abbrev dktX1_lay_1 : List UInt8 := dkwX1_lay_1 ++ []
def dkwX1_lay_0 : List UInt8 := [16, 24, 61, 28, 155, 0, 32, 42, 180, 0, 37, 42, 180, 0, 93, 27, 28, 122, 145, 84, 42, 89]
abbrev dktX1_lay_0 : List UInt8 := dkwX1_lay_0 ++ dktX1_lay_1
theorem dksX1_lay_0 : cX1_lay.data.toList.drop 0 = dktX1_lay_0 := by decide +kernel
theorem dksX1_lay_1 : cX1_lay.data.toList.drop 22 = dktX1_lay_1 := dk_seg dksX1_lay_0 22 rfl rfl
theorem dX1_lay_0 : decode cX1_lay 0 = .ok (.bipush 24, 2) := dk_16 24 (dk_at dksX1_lay_0 0 rfl rfl)
theorem dX1_lay_2 : decode cX1_lay 2 = .ok (.istore_n 2, 1) := dk_61 (dk_at dksX1_lay_0 2 rfl rfl)
theorem dX1_lay_3 : decode cX1_lay 3 = .ok (.iload_n 2, 1) := dk_28 (dk_at dksX1_lay_0 3 rfl rfl)
theorem dX1_lay_4 : decode cX1_lay 4 = .ok (.ifCond .lt 32, 3) := dk_155 0 32 (dk_at dksX1_lay_0 4 rfl rfl)
theorem dX1_lay_7 : decode cX1_lay 7 = .ok (.aload_n 0, 1) := dk_42 (dk_at dksX1_lay_0 7 rfl rfl)
theorem dX1_lay_8 : decode cX1_lay 8 = .ok (.getfield 37, 3) := dk_180 0 37 (dk_at dksX1_lay_0 8 rfl rfl)
theorem dX1_lay_11 : decode cX1_lay 11 = .ok (.aload_n 0, 1) := dk_42 (dk_at dksX1_lay_0 11 rfl rfl)
theorem dX1_lay_12 : decode cX1_lay 12 = .ok (.getfield 93, 3) := dk_180 0 93 (dk_at dksX1_lay_0 12 rfl rfl)
theorem dX1_lay_15 : decode cX1_lay 15 = .ok (.iload_n 1, 1) := dk_27 (dk_at dksX1_lay_0 15 rfl rfl)
theorem dX1_lay_16 : decode cX1_lay 16 = .ok (.iload_n 2, 1) := dk_28 (dk_at dksX1_lay_0 16 rfl rfl)
theorem dX1_lay_17 : decode cX1_lay 17 = .ok (.ishr, 1) := dk_122 (dk_at dksX1_lay_0 17 rfl rfl)
theorem dX1_lay_18 : decode cX1_lay 18 = .ok (.i2b, 1) := dk_145 (dk_at dksX1_lay_0 18 rfl rfl)
theorem dX1_lay_19 : decode cX1_lay 19 = .ok (.bastore, 1) := dk_84 (dk_at dksX1_lay_0 19 rfl rfl)
theorem dX1_lay_20 : decode cX1_lay 20 = .ok (.aload_n 0, 1) := dk_42 (dk_at dksX1_lay_0 20 rfl rfl)
theorem dX1_lay_21 : decode cX1_lay 21 = .ok (.dup, 1) := dk_89 (dk_at dksX1_lay_0 21 rfl rfl)
theorem dX1_lay_22 : decode cX1_lay 22 = .ok (.getfield 93, 3) := dk_180 0 93 (dk_at dksX1_lay_1 0 rfl rfl)
theorem dX1_lay_25 : decode cX1_lay 25 = .ok (.iconst 1, 1) := dk_4 (dk_at dksX1_lay_1 3 rfl rfl)
theorem dX1_lay_26 : decode cX1_lay 26 = .ok (.iadd, 1) := dk_96 (dk_at dksX1_lay_1 4 rfl rfl)
theorem dX1_lay_27 : decode cX1_lay 27 = .ok (.putfield 93, 3) := dk_181 0 93 (dk_at dksX1_lay_1 5 rfl rfl)
theorem dX1_lay_30 : decode cX1_lay 30 = .ok (.iinc 2 (-8), 3) := dk_132 2 248 (dk_at dksX1_lay_1 8 rfl rfl)
theorem dX1_lay_33 : decode cX1_lay 33 = .ok (.goto (-30), 3) := dk_167 255 226 (dk_at dksX1_lay_1 11 rfl rfl)
theorem dX1_lay_36 : decode cX1_lay 36 = .ok (.return_, 1) := dk_177 (dk_at dksX1_lay_1 14 rfl rfl)
abbrev cX1_fault : ByteArray := prog_1_method_13_code
def yX1_fault : MethodName := ⟨RX1, "fault", "()I"⟩
theorem dX1_fault_0 : decode cX1_fault 0 = .ok (.aload_n 0, 1) := by decide +kernel
theorem dX1_fault_1 : decode cX1_fault 1 = .ok (.getfield 41, 3) := by decide +kernel
theorem dX1_fault_4 : decode cX1_fault 4 = .ok (.ireturn, 1) := by decide +kernel
abbrev cX1_years : ByteArray := prog_1_method_21_code
def yX1_years : MethodName := ⟨RX1, "years", "(I)I"⟩
def dkwX1_years_2 : List UInt8 := [180, 0, 30, 42, 180, 0, 10, 182, 0, 229, 132, 2, 1, 167, 255, 237, 42, 180, 0, 30, 180, 0, 152, 172]
abbrev dktX1_years_2 : List UInt8 := dkwX1_years_2 ++ []
def dkwX1_years_1 : List UInt8 := [163, 0, 7, 4, 167, 0, 4, 3, 182, 0, 225, 154, 0, 5, 2, 172, 3, 61, 28, 27, 162, 0, 20, 42]
abbrev dktX1_years_1 : List UInt8 := dkwX1_years_1 ++ dktX1_years_2
def dkwX1_years_0 : List UInt8 := [42, 27, 4, 16, 30, 184, 0, 136, 153, 0, 22, 42, 180, 0, 30, 180, 0, 152, 27, 96, 17, 3, 231]
abbrev dktX1_years_0 : List UInt8 := dkwX1_years_0 ++ dktX1_years_1
theorem dksX1_years_0 : cX1_years.data.toList.drop 0 = dktX1_years_0 := by decide +kernel
theorem dksX1_years_1 : cX1_years.data.toList.drop 23 = dktX1_years_1 := dk_seg dksX1_years_0 23 rfl rfl
theorem dksX1_years_2 : cX1_years.data.toList.drop 47 = dktX1_years_2 := dk_seg dksX1_years_1 24 rfl rfl
theorem dX1_years_0 : decode cX1_years 0 = .ok (.aload_n 0, 1) := dk_42 (dk_at dksX1_years_0 0 rfl rfl)
theorem dX1_years_1 : decode cX1_years 1 = .ok (.iload_n 1, 1) := dk_27 (dk_at dksX1_years_0 1 rfl rfl)
theorem dX1_years_2 : decode cX1_years 2 = .ok (.iconst 1, 1) := dk_4 (dk_at dksX1_years_0 2 rfl rfl)
theorem dX1_years_3 : decode cX1_years 3 = .ok (.bipush 30, 2) := dk_16 30 (dk_at dksX1_years_0 3 rfl rfl)
theorem dX1_years_5 : decode cX1_years 5 = .ok (.invokestatic 136, 3) := dk_184 0 136 (dk_at dksX1_years_0 5 rfl rfl)
theorem dX1_years_8 : decode cX1_years 8 = .ok (.ifCond .eq 22, 3) := dk_153 0 22 (dk_at dksX1_years_0 8 rfl rfl)
theorem dX1_years_11 : decode cX1_years 11 = .ok (.aload_n 0, 1) := dk_42 (dk_at dksX1_years_0 11 rfl rfl)
theorem dX1_years_12 : decode cX1_years 12 = .ok (.getfield 30, 3) := dk_180 0 30 (dk_at dksX1_years_0 12 rfl rfl)
theorem dX1_years_15 : decode cX1_years 15 = .ok (.getfield 152, 3) := dk_180 0 152 (dk_at dksX1_years_0 15 rfl rfl)
theorem dX1_years_18 : decode cX1_years 18 = .ok (.iload_n 1, 1) := dk_27 (dk_at dksX1_years_0 18 rfl rfl)
theorem dX1_years_19 : decode cX1_years 19 = .ok (.iadd, 1) := dk_96 (dk_at dksX1_years_0 19 rfl rfl)
theorem dX1_years_20 : decode cX1_years 20 = .ok (.sipush 999, 3) := dk_17 3 231 (dk_at dksX1_years_0 20 rfl rfl)
theorem dX1_years_23 : decode cX1_years 23 = .ok (.if_icmp .gt 7, 3) := dk_163 0 7 (dk_at dksX1_years_1 0 rfl rfl)
theorem dX1_years_26 : decode cX1_years 26 = .ok (.iconst 1, 1) := dk_4 (dk_at dksX1_years_1 3 rfl rfl)
theorem dX1_years_27 : decode cX1_years 27 = .ok (.goto 4, 3) := dk_167 0 4 (dk_at dksX1_years_1 4 rfl rfl)
theorem dX1_years_30 : decode cX1_years 30 = .ok (.iconst 0, 1) := dk_3 (dk_at dksX1_years_1 7 rfl rfl)
theorem dX1_years_31 : decode cX1_years 31 = .ok (.invokevirtual 225, 3) := dk_182 0 225 (dk_at dksX1_years_1 8 rfl rfl)
theorem dX1_years_34 : decode cX1_years 34 = .ok (.ifCond .ne 5, 3) := dk_154 0 5 (dk_at dksX1_years_1 11 rfl rfl)
theorem dX1_years_37 : decode cX1_years 37 = .ok (.iconst (-1), 1) := dk_2 (dk_at dksX1_years_1 14 rfl rfl)
theorem dX1_years_38 : decode cX1_years 38 = .ok (.ireturn, 1) := dk_172 (dk_at dksX1_years_1 15 rfl rfl)
theorem dX1_years_39 : decode cX1_years 39 = .ok (.iconst 0, 1) := dk_3 (dk_at dksX1_years_1 16 rfl rfl)
theorem dX1_years_40 : decode cX1_years 40 = .ok (.istore_n 2, 1) := dk_61 (dk_at dksX1_years_1 17 rfl rfl)
theorem dX1_years_41 : decode cX1_years 41 = .ok (.iload_n 2, 1) := dk_28 (dk_at dksX1_years_1 18 rfl rfl)
theorem dX1_years_42 : decode cX1_years 42 = .ok (.iload_n 1, 1) := dk_27 (dk_at dksX1_years_1 19 rfl rfl)
theorem dX1_years_43 : decode cX1_years 43 = .ok (.if_icmp .ge 20, 3) := dk_162 0 20 (dk_at dksX1_years_1 20 rfl rfl)
theorem dX1_years_46 : decode cX1_years 46 = .ok (.aload_n 0, 1) := dk_42 (dk_at dksX1_years_1 23 rfl rfl)
theorem dX1_years_47 : decode cX1_years 47 = .ok (.getfield 30, 3) := dk_180 0 30 (dk_at dksX1_years_2 0 rfl rfl)
theorem dX1_years_50 : decode cX1_years 50 = .ok (.aload_n 0, 1) := dk_42 (dk_at dksX1_years_2 3 rfl rfl)
theorem dX1_years_51 : decode cX1_years 51 = .ok (.getfield 10, 3) := dk_180 0 10 (dk_at dksX1_years_2 4 rfl rfl)
theorem dX1_years_54 : decode cX1_years 54 = .ok (.invokevirtual 229, 3) := dk_182 0 229 (dk_at dksX1_years_2 7 rfl rfl)
theorem dX1_years_57 : decode cX1_years 57 = .ok (.iinc 2 1, 3) := dk_132 2 1 (dk_at dksX1_years_2 10 rfl rfl)
theorem dX1_years_60 : decode cX1_years 60 = .ok (.goto (-19), 3) := dk_167 255 237 (dk_at dksX1_years_2 13 rfl rfl)
theorem dX1_years_63 : decode cX1_years 63 = .ok (.aload_n 0, 1) := dk_42 (dk_at dksX1_years_2 16 rfl rfl)
theorem dX1_years_64 : decode cX1_years 64 = .ok (.getfield 30, 3) := dk_180 0 30 (dk_at dksX1_years_2 17 rfl rfl)
theorem dX1_years_67 : decode cX1_years 67 = .ok (.getfield 152, 3) := dk_180 0 152 (dk_at dksX1_years_2 20 rfl rfl)
theorem dX1_years_70 : decode cX1_years 70 = .ok (.ireturn, 1) := dk_172 (dk_at dksX1_years_2 23 rfl rfl)
abbrev cX1_within : ByteArray := prog_1_method_4_code
def yX1_within : MethodName := ⟨RX1, "within", "(III)Z"⟩
def dkwX1_within_0 : List UInt8 := [26, 27, 161, 0, 12, 26, 28, 163, 0, 7, 4, 167, 0, 4, 3, 172]
abbrev dktX1_within_0 : List UInt8 := dkwX1_within_0 ++ []
theorem dksX1_within_0 : cX1_within.data.toList.drop 0 = dktX1_within_0 := by decide +kernel
theorem dX1_within_0 : decode cX1_within 0 = .ok (.iload_n 0, 1) := dk_26 (dk_at dksX1_within_0 0 rfl rfl)
theorem dX1_within_1 : decode cX1_within 1 = .ok (.iload_n 1, 1) := dk_27 (dk_at dksX1_within_0 1 rfl rfl)
theorem dX1_within_2 : decode cX1_within 2 = .ok (.if_icmp .lt 12, 3) := dk_161 0 12 (dk_at dksX1_within_0 2 rfl rfl)
theorem dX1_within_5 : decode cX1_within 5 = .ok (.iload_n 0, 1) := dk_26 (dk_at dksX1_within_0 5 rfl rfl)
theorem dX1_within_6 : decode cX1_within 6 = .ok (.iload_n 2, 1) := dk_28 (dk_at dksX1_within_0 6 rfl rfl)
theorem dX1_within_7 : decode cX1_within 7 = .ok (.if_icmp .gt 7, 3) := dk_163 0 7 (dk_at dksX1_within_0 7 rfl rfl)
theorem dX1_within_10 : decode cX1_within 10 = .ok (.iconst 1, 1) := dk_4 (dk_at dksX1_within_0 10 rfl rfl)
theorem dX1_within_11 : decode cX1_within 11 = .ok (.goto 4, 3) := dk_167 0 4 (dk_at dksX1_within_0 11 rfl rfl)
theorem dX1_within_14 : decode cX1_within 14 = .ok (.iconst 0, 1) := dk_3 (dk_at dksX1_within_0 14 rfl rfl)
theorem dX1_within_15 : decode cX1_within 15 = .ok (.ireturn, 1) := dk_172 (dk_at dksX1_within_0 15 rfl rfl)
abbrev cX1_does : ByteArray := prog_1_method_20_code
def yX1_does : MethodName := ⟨RX1, "does", "(Z)Z"⟩
def dkwX1_does_0 : List UInt8 := [27, 153, 0, 13, 42, 180, 0, 19, 182, 0, 219, 167, 0, 9, 42, 4, 182, 0, 222, 87, 27, 172]
abbrev dktX1_does_0 : List UInt8 := dkwX1_does_0 ++ []
theorem dksX1_does_0 : cX1_does.data.toList.drop 0 = dktX1_does_0 := by decide +kernel
theorem dX1_does_0 : decode cX1_does 0 = .ok (.iload_n 1, 1) := dk_27 (dk_at dksX1_does_0 0 rfl rfl)
theorem dX1_does_1 : decode cX1_does 1 = .ok (.ifCond .eq 13, 3) := dk_153 0 13 (dk_at dksX1_does_0 1 rfl rfl)
theorem dX1_does_4 : decode cX1_does 4 = .ok (.aload_n 0, 1) := dk_42 (dk_at dksX1_does_0 4 rfl rfl)
theorem dX1_does_5 : decode cX1_does 5 = .ok (.getfield 19, 3) := dk_180 0 19 (dk_at dksX1_does_0 5 rfl rfl)
theorem dX1_does_8 : decode cX1_does 8 = .ok (.invokevirtual 219, 3) := dk_182 0 219 (dk_at dksX1_does_0 8 rfl rfl)
theorem dX1_does_11 : decode cX1_does 11 = .ok (.goto 9, 3) := dk_167 0 9 (dk_at dksX1_does_0 11 rfl rfl)
theorem dX1_does_14 : decode cX1_does 14 = .ok (.aload_n 0, 1) := dk_42 (dk_at dksX1_does_0 14 rfl rfl)
theorem dX1_does_15 : decode cX1_does 15 = .ok (.iconst 1, 1) := dk_4 (dk_at dksX1_does_0 15 rfl rfl)
theorem dX1_does_16 : decode cX1_does 16 = .ok (.invokevirtual 222, 3) := dk_182 0 222 (dk_at dksX1_does_0 16 rfl rfl)
theorem dX1_does_19 : decode cX1_does 19 = .ok (.pop, 1) := dk_87 (dk_at dksX1_does_0 19 rfl rfl)
theorem dX1_does_20 : decode cX1_does 20 = .ok (.iload_n 1, 1) := dk_27 (dk_at dksX1_does_0 20 rfl rfl)
theorem dX1_does_21 : decode cX1_does 21 = .ok (.ireturn, 1) := dk_172 (dk_at dksX1_does_0 21 rfl rfl)
abbrev cX1_refuses : ByteArray := prog_1_method_19_code
def yX1_refuses : MethodName := ⟨RX1, "refuses", "(I)I"⟩
def dkwX1_refuses_0 : List UInt8 := [42, 180, 0, 19, 180, 0, 116, 27, 92, 46, 4, 96, 79, 2, 172]
abbrev dktX1_refuses_0 : List UInt8 := dkwX1_refuses_0 ++ []
theorem dksX1_refuses_0 : cX1_refuses.data.toList.drop 0 = dktX1_refuses_0 := by decide +kernel
theorem dX1_refuses_0 : decode cX1_refuses 0 = .ok (.aload_n 0, 1) := dk_42 (dk_at dksX1_refuses_0 0 rfl rfl)
theorem dX1_refuses_1 : decode cX1_refuses 1 = .ok (.getfield 19, 3) := dk_180 0 19 (dk_at dksX1_refuses_0 1 rfl rfl)
theorem dX1_refuses_4 : decode cX1_refuses 4 = .ok (.getfield 116, 3) := dk_180 0 116 (dk_at dksX1_refuses_0 4 rfl rfl)
theorem dX1_refuses_7 : decode cX1_refuses 7 = .ok (.iload_n 1, 1) := dk_27 (dk_at dksX1_refuses_0 7 rfl rfl)
theorem dX1_refuses_8 : decode cX1_refuses 8 = .ok (.dup2, 1) := dk_92 (dk_at dksX1_refuses_0 8 rfl rfl)
theorem dX1_refuses_9 : decode cX1_refuses 9 = .ok (.iaload, 1) := dk_46 (dk_at dksX1_refuses_0 9 rfl rfl)
theorem dX1_refuses_10 : decode cX1_refuses 10 = .ok (.iconst 1, 1) := dk_4 (dk_at dksX1_refuses_0 10 rfl rfl)
theorem dX1_refuses_11 : decode cX1_refuses 11 = .ok (.iadd, 1) := dk_96 (dk_at dksX1_refuses_0 11 rfl rfl)
theorem dX1_refuses_12 : decode cX1_refuses 12 = .ok (.iastore, 1) := dk_79 (dk_at dksX1_refuses_0 12 rfl rfl)
theorem dX1_refuses_13 : decode cX1_refuses 13 = .ok (.iconst (-1), 1) := dk_2 (dk_at dksX1_refuses_0 13 rfl rfl)
theorem dX1_refuses_14 : decode cX1_refuses 14 = .ok (.ireturn, 1) := dk_172 (dk_at dksX1_refuses_0 14 rfl rfl)
abbrev cX1_undo : ByteArray := prog_1_method_27_code
def yX1_undo : MethodName := ⟨RX1, "undo", "()I"⟩
def dkwX1_undo_2 : List UInt8 := [192, 0, 31, 182, 0, 241, 42, 180, 0, 19, 180, 0, 126, 172]
abbrev dktX1_undo_2 : List UInt8 := dkwX1_undo_2 ++ []
def dkwX1_undo_1 : List UInt8 := [181, 0, 126, 42, 180, 0, 30, 42, 180, 0, 19, 180, 0, 238, 42, 180, 0, 19, 180, 0, 126, 182, 0, 77]
abbrev dktX1_undo_1 : List UInt8 := dkwX1_undo_1 ++ dktX1_undo_2
def dkwX1_undo_0 : List UInt8 := [42, 180, 0, 19, 180, 0, 126, 154, 0, 5, 2, 172, 42, 180, 0, 19, 89, 180, 0, 126, 4, 100]
abbrev dktX1_undo_0 : List UInt8 := dkwX1_undo_0 ++ dktX1_undo_1
theorem dksX1_undo_0 : cX1_undo.data.toList.drop 0 = dktX1_undo_0 := by decide +kernel
theorem dksX1_undo_1 : cX1_undo.data.toList.drop 22 = dktX1_undo_1 := dk_seg dksX1_undo_0 22 rfl rfl
theorem dksX1_undo_2 : cX1_undo.data.toList.drop 46 = dktX1_undo_2 := dk_seg dksX1_undo_1 24 rfl rfl
theorem dX1_undo_0 : decode cX1_undo 0 = .ok (.aload_n 0, 1) := dk_42 (dk_at dksX1_undo_0 0 rfl rfl)
theorem dX1_undo_1 : decode cX1_undo 1 = .ok (.getfield 19, 3) := dk_180 0 19 (dk_at dksX1_undo_0 1 rfl rfl)
theorem dX1_undo_4 : decode cX1_undo 4 = .ok (.getfield 126, 3) := dk_180 0 126 (dk_at dksX1_undo_0 4 rfl rfl)
theorem dX1_undo_7 : decode cX1_undo 7 = .ok (.ifCond .ne 5, 3) := dk_154 0 5 (dk_at dksX1_undo_0 7 rfl rfl)
theorem dX1_undo_10 : decode cX1_undo 10 = .ok (.iconst (-1), 1) := dk_2 (dk_at dksX1_undo_0 10 rfl rfl)
theorem dX1_undo_11 : decode cX1_undo 11 = .ok (.ireturn, 1) := dk_172 (dk_at dksX1_undo_0 11 rfl rfl)
theorem dX1_undo_12 : decode cX1_undo 12 = .ok (.aload_n 0, 1) := dk_42 (dk_at dksX1_undo_0 12 rfl rfl)
theorem dX1_undo_13 : decode cX1_undo 13 = .ok (.getfield 19, 3) := dk_180 0 19 (dk_at dksX1_undo_0 13 rfl rfl)
theorem dX1_undo_16 : decode cX1_undo 16 = .ok (.dup, 1) := dk_89 (dk_at dksX1_undo_0 16 rfl rfl)
theorem dX1_undo_17 : decode cX1_undo 17 = .ok (.getfield 126, 3) := dk_180 0 126 (dk_at dksX1_undo_0 17 rfl rfl)
theorem dX1_undo_20 : decode cX1_undo 20 = .ok (.iconst 1, 1) := dk_4 (dk_at dksX1_undo_0 20 rfl rfl)
theorem dX1_undo_21 : decode cX1_undo 21 = .ok (.isub, 1) := dk_100 (dk_at dksX1_undo_0 21 rfl rfl)
theorem dX1_undo_22 : decode cX1_undo 22 = .ok (.putfield 126, 3) := dk_181 0 126 (dk_at dksX1_undo_1 0 rfl rfl)
theorem dX1_undo_25 : decode cX1_undo 25 = .ok (.aload_n 0, 1) := dk_42 (dk_at dksX1_undo_1 3 rfl rfl)
theorem dX1_undo_26 : decode cX1_undo 26 = .ok (.getfield 30, 3) := dk_180 0 30 (dk_at dksX1_undo_1 4 rfl rfl)
theorem dX1_undo_29 : decode cX1_undo 29 = .ok (.aload_n 0, 1) := dk_42 (dk_at dksX1_undo_1 7 rfl rfl)
theorem dX1_undo_30 : decode cX1_undo 30 = .ok (.getfield 19, 3) := dk_180 0 19 (dk_at dksX1_undo_1 8 rfl rfl)
theorem dX1_undo_33 : decode cX1_undo 33 = .ok (.getfield 238, 3) := dk_180 0 238 (dk_at dksX1_undo_1 11 rfl rfl)
theorem dX1_undo_36 : decode cX1_undo 36 = .ok (.aload_n 0, 1) := dk_42 (dk_at dksX1_undo_1 14 rfl rfl)
theorem dX1_undo_37 : decode cX1_undo 37 = .ok (.getfield 19, 3) := dk_180 0 19 (dk_at dksX1_undo_1 15 rfl rfl)
theorem dX1_undo_40 : decode cX1_undo 40 = .ok (.getfield 126, 3) := dk_180 0 126 (dk_at dksX1_undo_1 18 rfl rfl)
theorem dX1_undo_43 : decode cX1_undo 43 = .ok (.invokevirtual 77, 3) := dk_182 0 77 (dk_at dksX1_undo_1 21 rfl rfl)
theorem dX1_undo_46 : decode cX1_undo 46 = .ok (.checkcast 31, 3) := dk_192 0 31 (dk_at dksX1_undo_2 0 rfl rfl)
theorem dX1_undo_49 : decode cX1_undo 49 = .ok (.invokevirtual 241, 3) := dk_182 0 241 (dk_at dksX1_undo_2 3 rfl rfl)
theorem dX1_undo_52 : decode cX1_undo 52 = .ok (.aload_n 0, 1) := dk_42 (dk_at dksX1_undo_2 6 rfl rfl)
theorem dX1_undo_53 : decode cX1_undo 53 = .ok (.getfield 19, 3) := dk_180 0 19 (dk_at dksX1_undo_2 7 rfl rfl)
theorem dX1_undo_56 : decode cX1_undo 56 = .ok (.getfield 126, 3) := dk_180 0 126 (dk_at dksX1_undo_2 10 rfl rfl)
theorem dX1_undo_59 : decode cX1_undo 59 = .ok (.ireturn, 1) := dk_172 (dk_at dksX1_undo_2 13 rfl rfl)
abbrev cX1_blackest : ByteArray := prog_1_method_34_code
def yX1_blackest : MethodName := ⟨RX1, "blackest", "()I"⟩
def dkwX1_blackest_2 : List UInt8 := [180, 0, 179, 27, 46, 161, 0, 5, 28, 60, 132, 2, 255, 167, 255, 206, 27, 172]
abbrev dktX1_blackest_2 : List UInt8 := dkwX1_blackest_2 ++ []
def dkwX1_blackest_1 : List UInt8 := [154, 0, 6, 167, 0, 31, 27, 2, 159, 0, 24, 42, 180, 0, 30, 180, 0, 179, 28, 46, 42, 180, 0, 30]
abbrev dktX1_blackest_1 : List UInt8 := dkwX1_blackest_1 ++ dktX1_blackest_2
def dkwX1_blackest_0 : List UInt8 := [2, 60, 42, 182, 0, 71, 4, 100, 61, 28, 155, 0, 52, 42, 180, 0, 30, 180, 0, 179, 28, 46]
abbrev dktX1_blackest_0 : List UInt8 := dkwX1_blackest_0 ++ dktX1_blackest_1
theorem dksX1_blackest_0 : cX1_blackest.data.toList.drop 0 = dktX1_blackest_0 := by decide +kernel
theorem dksX1_blackest_1 : cX1_blackest.data.toList.drop 22 = dktX1_blackest_1 := dk_seg dksX1_blackest_0 22 rfl rfl
theorem dksX1_blackest_2 : cX1_blackest.data.toList.drop 46 = dktX1_blackest_2 := dk_seg dksX1_blackest_1 24 rfl rfl
theorem dX1_blackest_0 : decode cX1_blackest 0 = .ok (.iconst (-1), 1) := dk_2 (dk_at dksX1_blackest_0 0 rfl rfl)
theorem dX1_blackest_1 : decode cX1_blackest 1 = .ok (.istore_n 1, 1) := dk_60 (dk_at dksX1_blackest_0 1 rfl rfl)
theorem dX1_blackest_2 : decode cX1_blackest 2 = .ok (.aload_n 0, 1) := dk_42 (dk_at dksX1_blackest_0 2 rfl rfl)
theorem dX1_blackest_3 : decode cX1_blackest 3 = .ok (.invokevirtual 71, 3) := dk_182 0 71 (dk_at dksX1_blackest_0 3 rfl rfl)
theorem dX1_blackest_6 : decode cX1_blackest 6 = .ok (.iconst 1, 1) := dk_4 (dk_at dksX1_blackest_0 6 rfl rfl)
theorem dX1_blackest_7 : decode cX1_blackest 7 = .ok (.isub, 1) := dk_100 (dk_at dksX1_blackest_0 7 rfl rfl)
theorem dX1_blackest_8 : decode cX1_blackest 8 = .ok (.istore_n 2, 1) := dk_61 (dk_at dksX1_blackest_0 8 rfl rfl)
theorem dX1_blackest_9 : decode cX1_blackest 9 = .ok (.iload_n 2, 1) := dk_28 (dk_at dksX1_blackest_0 9 rfl rfl)
theorem dX1_blackest_10 : decode cX1_blackest 10 = .ok (.ifCond .lt 52, 3) := dk_155 0 52 (dk_at dksX1_blackest_0 10 rfl rfl)
theorem dX1_blackest_13 : decode cX1_blackest 13 = .ok (.aload_n 0, 1) := dk_42 (dk_at dksX1_blackest_0 13 rfl rfl)
theorem dX1_blackest_14 : decode cX1_blackest 14 = .ok (.getfield 30, 3) := dk_180 0 30 (dk_at dksX1_blackest_0 14 rfl rfl)
theorem dX1_blackest_17 : decode cX1_blackest 17 = .ok (.getfield 179, 3) := dk_180 0 179 (dk_at dksX1_blackest_0 17 rfl rfl)
theorem dX1_blackest_20 : decode cX1_blackest 20 = .ok (.iload_n 2, 1) := dk_28 (dk_at dksX1_blackest_0 20 rfl rfl)
theorem dX1_blackest_21 : decode cX1_blackest 21 = .ok (.iaload, 1) := dk_46 (dk_at dksX1_blackest_0 21 rfl rfl)
theorem dX1_blackest_22 : decode cX1_blackest 22 = .ok (.ifCond .ne 6, 3) := dk_154 0 6 (dk_at dksX1_blackest_1 0 rfl rfl)
theorem dX1_blackest_25 : decode cX1_blackest 25 = .ok (.goto 31, 3) := dk_167 0 31 (dk_at dksX1_blackest_1 3 rfl rfl)
theorem dX1_blackest_28 : decode cX1_blackest 28 = .ok (.iload_n 1, 1) := dk_27 (dk_at dksX1_blackest_1 6 rfl rfl)
theorem dX1_blackest_29 : decode cX1_blackest 29 = .ok (.iconst (-1), 1) := dk_2 (dk_at dksX1_blackest_1 7 rfl rfl)
theorem dX1_blackest_30 : decode cX1_blackest 30 = .ok (.if_icmp .eq 24, 3) := dk_159 0 24 (dk_at dksX1_blackest_1 8 rfl rfl)
theorem dX1_blackest_33 : decode cX1_blackest 33 = .ok (.aload_n 0, 1) := dk_42 (dk_at dksX1_blackest_1 11 rfl rfl)
theorem dX1_blackest_34 : decode cX1_blackest 34 = .ok (.getfield 30, 3) := dk_180 0 30 (dk_at dksX1_blackest_1 12 rfl rfl)
theorem dX1_blackest_37 : decode cX1_blackest 37 = .ok (.getfield 179, 3) := dk_180 0 179 (dk_at dksX1_blackest_1 15 rfl rfl)
theorem dX1_blackest_40 : decode cX1_blackest 40 = .ok (.iload_n 2, 1) := dk_28 (dk_at dksX1_blackest_1 18 rfl rfl)
theorem dX1_blackest_41 : decode cX1_blackest 41 = .ok (.iaload, 1) := dk_46 (dk_at dksX1_blackest_1 19 rfl rfl)
theorem dX1_blackest_42 : decode cX1_blackest 42 = .ok (.aload_n 0, 1) := dk_42 (dk_at dksX1_blackest_1 20 rfl rfl)
theorem dX1_blackest_43 : decode cX1_blackest 43 = .ok (.getfield 30, 3) := dk_180 0 30 (dk_at dksX1_blackest_1 21 rfl rfl)
theorem dX1_blackest_46 : decode cX1_blackest 46 = .ok (.getfield 179, 3) := dk_180 0 179 (dk_at dksX1_blackest_2 0 rfl rfl)
theorem dX1_blackest_49 : decode cX1_blackest 49 = .ok (.iload_n 1, 1) := dk_27 (dk_at dksX1_blackest_2 3 rfl rfl)
theorem dX1_blackest_50 : decode cX1_blackest 50 = .ok (.iaload, 1) := dk_46 (dk_at dksX1_blackest_2 4 rfl rfl)
theorem dX1_blackest_51 : decode cX1_blackest 51 = .ok (.if_icmp .lt 5, 3) := dk_161 0 5 (dk_at dksX1_blackest_2 5 rfl rfl)
theorem dX1_blackest_54 : decode cX1_blackest 54 = .ok (.iload_n 2, 1) := dk_28 (dk_at dksX1_blackest_2 8 rfl rfl)
theorem dX1_blackest_55 : decode cX1_blackest 55 = .ok (.istore_n 1, 1) := dk_60 (dk_at dksX1_blackest_2 9 rfl rfl)
theorem dX1_blackest_56 : decode cX1_blackest 56 = .ok (.iinc 2 (-1), 3) := dk_132 2 255 (dk_at dksX1_blackest_2 10 rfl rfl)
theorem dX1_blackest_59 : decode cX1_blackest 59 = .ok (.goto (-50), 3) := dk_167 255 206 (dk_at dksX1_blackest_2 13 rfl rfl)
theorem dX1_blackest_62 : decode cX1_blackest 62 = .ok (.iload_n 1, 1) := dk_27 (dk_at dksX1_blackest_2 16 rfl rfl)
theorem dX1_blackest_63 : decode cX1_blackest 63 = .ok (.ireturn, 1) := dk_172 (dk_at dksX1_blackest_2 17 rfl rfl)
abbrev cX1_forests : ByteArray := prog_1_method_5_code
def yX1_forests : MethodName := ⟨RX1, "forests", "()I"⟩
def dkwX1_forests_0 : List UInt8 := [42, 180, 0, 10, 180, 0, 58, 182, 0, 62, 172]
abbrev dktX1_forests_0 : List UInt8 := dkwX1_forests_0 ++ []
theorem dksX1_forests_0 : cX1_forests.data.toList.drop 0 = dktX1_forests_0 := by decide +kernel
theorem dX1_forests_0 : decode cX1_forests 0 = .ok (.aload_n 0, 1) := dk_42 (dk_at dksX1_forests_0 0 rfl rfl)
theorem dX1_forests_1 : decode cX1_forests 1 = .ok (.getfield 10, 3) := dk_180 0 10 (dk_at dksX1_forests_0 1 rfl rfl)
theorem dX1_forests_4 : decode cX1_forests 4 = .ok (.getfield 58, 3) := dk_180 0 58 (dk_at dksX1_forests_0 4 rfl rfl)
theorem dX1_forests_7 : decode cX1_forests 7 = .ok (.invokevirtual 62, 3) := dk_182 0 62 (dk_at dksX1_forests_0 7 rfl rfl)
theorem dX1_forests_10 : decode cX1_forests 10 = .ok (.ireturn, 1) := dk_172 (dk_at dksX1_forests_0 10 rfl rfl)
abbrev cX1_forget : ByteArray := prog_1_method_56_code
def yX1_forget : MethodName := ⟨RX1, "forget", "()V"⟩
def dkwX1_forget_0 : List UInt8 := [42, 180, 0, 19, 3, 181, 0, 129, 177]
abbrev dktX1_forget_0 : List UInt8 := dkwX1_forget_0 ++ []
theorem dksX1_forget_0 : cX1_forget.data.toList.drop 0 = dktX1_forget_0 := by decide +kernel
theorem dX1_forget_0 : decode cX1_forget 0 = .ok (.aload_n 0, 1) := dk_42 (dk_at dksX1_forget_0 0 rfl rfl)
theorem dX1_forget_1 : decode cX1_forget 1 = .ok (.getfield 19, 3) := dk_180 0 19 (dk_at dksX1_forget_0 1 rfl rfl)
theorem dX1_forget_4 : decode cX1_forget 4 = .ok (.iconst 0, 1) := dk_3 (dk_at dksX1_forget_0 4 rfl rfl)
theorem dX1_forget_5 : decode cX1_forget 5 = .ok (.putfield 129, 3) := dk_181 0 129 (dk_at dksX1_forget_0 5 rfl rfl)
theorem dX1_forget_8 : decode cX1_forget 8 = .ok (.return_, 1) := dk_177 (dk_at dksX1_forget_0 8 rfl rfl)
abbrev cX1_image : ByteArray := prog_1_method_62_code
def yX1_image : MethodName := ⟨RX1, "image", "()V"⟩
def dkwX1_image_0 : List UInt8 := [42, 180, 0, 23, 42, 180, 0, 19, 182, 1, 70, 42, 4, 181, 0, 132, 177]
abbrev dktX1_image_0 : List UInt8 := dkwX1_image_0 ++ []
theorem dksX1_image_0 : cX1_image.data.toList.drop 0 = dktX1_image_0 := by decide +kernel
theorem dX1_image_0 : decode cX1_image 0 = .ok (.aload_n 0, 1) := dk_42 (dk_at dksX1_image_0 0 rfl rfl)
theorem dX1_image_1 : decode cX1_image 1 = .ok (.getfield 23, 3) := dk_180 0 23 (dk_at dksX1_image_0 1 rfl rfl)
theorem dX1_image_4 : decode cX1_image 4 = .ok (.aload_n 0, 1) := dk_42 (dk_at dksX1_image_0 4 rfl rfl)
theorem dX1_image_5 : decode cX1_image 5 = .ok (.getfield 19, 3) := dk_180 0 19 (dk_at dksX1_image_0 5 rfl rfl)
theorem dX1_image_8 : decode cX1_image 8 = .ok (.invokevirtual 326, 3) := dk_182 1 70 (dk_at dksX1_image_0 8 rfl rfl)
theorem dX1_image_11 : decode cX1_image 11 = .ok (.aload_n 0, 1) := dk_42 (dk_at dksX1_image_0 11 rfl rfl)
theorem dX1_image_12 : decode cX1_image 12 = .ok (.iconst 1, 1) := dk_4 (dk_at dksX1_image_0 12 rfl rfl)
theorem dX1_image_13 : decode cX1_image 13 = .ok (.putfield 132, 3) := dk_181 0 132 (dk_at dksX1_image_0 13 rfl rfl)
theorem dX1_image_16 : decode cX1_image 16 = .ok (.return_, 1) := dk_177 (dk_at dksX1_image_0 16 rfl rfl)
abbrev cX1_restore : ByteArray := prog_1_method_63_code
def yX1_restore : MethodName := ⟨RX1, "restore", "()Z"⟩
def dkwX1_restore_0 : List UInt8 := [42, 180, 0, 132, 154, 0, 5, 3, 172, 42, 180, 0, 19, 42, 180, 0, 23, 182, 1, 70, 4, 172]
abbrev dktX1_restore_0 : List UInt8 := dkwX1_restore_0 ++ []
theorem dksX1_restore_0 : cX1_restore.data.toList.drop 0 = dktX1_restore_0 := by decide +kernel
theorem dX1_restore_0 : decode cX1_restore 0 = .ok (.aload_n 0, 1) := dk_42 (dk_at dksX1_restore_0 0 rfl rfl)
theorem dX1_restore_1 : decode cX1_restore 1 = .ok (.getfield 132, 3) := dk_180 0 132 (dk_at dksX1_restore_0 1 rfl rfl)
theorem dX1_restore_4 : decode cX1_restore 4 = .ok (.ifCond .ne 5, 3) := dk_154 0 5 (dk_at dksX1_restore_0 4 rfl rfl)
theorem dX1_restore_7 : decode cX1_restore 7 = .ok (.iconst 0, 1) := dk_3 (dk_at dksX1_restore_0 7 rfl rfl)
theorem dX1_restore_8 : decode cX1_restore 8 = .ok (.ireturn, 1) := dk_172 (dk_at dksX1_restore_0 8 rfl rfl)
theorem dX1_restore_9 : decode cX1_restore 9 = .ok (.aload_n 0, 1) := dk_42 (dk_at dksX1_restore_0 9 rfl rfl)
theorem dX1_restore_10 : decode cX1_restore 10 = .ok (.getfield 19, 3) := dk_180 0 19 (dk_at dksX1_restore_0 10 rfl rfl)
theorem dX1_restore_13 : decode cX1_restore 13 = .ok (.aload_n 0, 1) := dk_42 (dk_at dksX1_restore_0 13 rfl rfl)
theorem dX1_restore_14 : decode cX1_restore 14 = .ok (.getfield 23, 3) := dk_180 0 23 (dk_at dksX1_restore_0 14 rfl rfl)
theorem dX1_restore_17 : decode cX1_restore 17 = .ok (.invokevirtual 326, 3) := dk_182 1 70 (dk_at dksX1_restore_0 17 rfl rfl)
theorem dX1_restore_20 : decode cX1_restore 20 = .ok (.iconst 1, 1) := dk_4 (dk_at dksX1_restore_0 20 rfl rfl)
theorem dX1_restore_21 : decode cX1_restore 21 = .ok (.ireturn, 1) := dk_172 (dk_at dksX1_restore_0 21 rfl rfl)
abbrev cX1_land : ByteArray := prog_1_method_12_code
def yX1_land : MethodName := ⟨RX1, "land", "(I)I"⟩
def dkwX1_land_4 : List UInt8 := [3, 181, 0, 126, 42, 180, 0, 19, 3, 181, 0, 129, 42, 3, 181, 0, 132, 3, 172]
abbrev dktX1_land_4 : List UInt8 := dkwX1_land_4 ++ []
def dkwX1_land_3 : List UInt8 := [46, 4, 96, 79, 44, 180, 0, 119, 172, 42, 180, 0, 30, 42, 180, 0, 10, 182, 0, 122, 42, 180, 0, 19]
abbrev dktX1_land_3 : List UInt8 := dkwX1_land_3 ++ dktX1_land_4
def dkwX1_land_2 : List UInt8 := [181, 0, 10, 167, 0, 30, 77, 42, 44, 180, 0, 113, 181, 0, 41, 42, 180, 0, 19, 180, 0, 116, 3, 92]
abbrev dktX1_land_2 : List UInt8 := dkwX1_land_2 ++ dktX1_land_3
def dkwX1_land_1 : List UInt8 := [181, 0, 93, 42, 2, 181, 0, 41, 42, 187, 0, 103, 89, 42, 180, 0, 37, 27, 183, 0, 105, 182, 0, 108]
abbrev dktX1_land_1 : List UInt8 := dkwX1_land_1 ++ dktX1_land_2
def dkwX1_land_0 : List UInt8 := [27, 155, 0, 15, 27, 42, 180, 0, 93, 163, 0, 7, 4, 167, 0, 4, 3, 184, 0, 100, 42, 3]
abbrev dktX1_land_0 : List UInt8 := dkwX1_land_0 ++ dktX1_land_1
theorem dksX1_land_0 : cX1_land.data.toList.drop 0 = dktX1_land_0 := by decide +kernel
theorem dksX1_land_1 : cX1_land.data.toList.drop 22 = dktX1_land_1 := dk_seg dksX1_land_0 22 rfl rfl
theorem dksX1_land_2 : cX1_land.data.toList.drop 46 = dktX1_land_2 := dk_seg dksX1_land_1 24 rfl rfl
theorem dksX1_land_3 : cX1_land.data.toList.drop 70 = dktX1_land_3 := dk_seg dksX1_land_2 24 rfl rfl
theorem dksX1_land_4 : cX1_land.data.toList.drop 94 = dktX1_land_4 := dk_seg dksX1_land_3 24 rfl rfl
theorem dX1_land_0 : decode cX1_land 0 = .ok (.iload_n 1, 1) := dk_27 (dk_at dksX1_land_0 0 rfl rfl)
theorem dX1_land_1 : decode cX1_land 1 = .ok (.ifCond .lt 15, 3) := dk_155 0 15 (dk_at dksX1_land_0 1 rfl rfl)
theorem dX1_land_4 : decode cX1_land 4 = .ok (.iload_n 1, 1) := dk_27 (dk_at dksX1_land_0 4 rfl rfl)
theorem dX1_land_5 : decode cX1_land 5 = .ok (.aload_n 0, 1) := dk_42 (dk_at dksX1_land_0 5 rfl rfl)
theorem dX1_land_6 : decode cX1_land 6 = .ok (.getfield 93, 3) := dk_180 0 93 (dk_at dksX1_land_0 6 rfl rfl)
theorem dX1_land_9 : decode cX1_land 9 = .ok (.if_icmp .gt 7, 3) := dk_163 0 7 (dk_at dksX1_land_0 9 rfl rfl)
theorem dX1_land_12 : decode cX1_land 12 = .ok (.iconst 1, 1) := dk_4 (dk_at dksX1_land_0 12 rfl rfl)
theorem dX1_land_13 : decode cX1_land 13 = .ok (.goto 4, 3) := dk_167 0 4 (dk_at dksX1_land_0 13 rfl rfl)
theorem dX1_land_16 : decode cX1_land 16 = .ok (.iconst 0, 1) := dk_3 (dk_at dksX1_land_0 16 rfl rfl)
theorem dX1_land_17 : decode cX1_land 17 = .ok (.invokestatic 100, 3) := dk_184 0 100 (dk_at dksX1_land_0 17 rfl rfl)
theorem dX1_land_20 : decode cX1_land 20 = .ok (.aload_n 0, 1) := dk_42 (dk_at dksX1_land_0 20 rfl rfl)
theorem dX1_land_21 : decode cX1_land 21 = .ok (.iconst 0, 1) := dk_3 (dk_at dksX1_land_0 21 rfl rfl)
theorem dX1_land_22 : decode cX1_land 22 = .ok (.putfield 93, 3) := dk_181 0 93 (dk_at dksX1_land_1 0 rfl rfl)
theorem dX1_land_25 : decode cX1_land 25 = .ok (.aload_n 0, 1) := dk_42 (dk_at dksX1_land_1 3 rfl rfl)
theorem dX1_land_26 : decode cX1_land 26 = .ok (.iconst (-1), 1) := dk_2 (dk_at dksX1_land_1 4 rfl rfl)
theorem dX1_land_27 : decode cX1_land 27 = .ok (.putfield 41, 3) := dk_181 0 41 (dk_at dksX1_land_1 5 rfl rfl)
theorem dX1_land_30 : decode cX1_land 30 = .ok (.aload_n 0, 1) := dk_42 (dk_at dksX1_land_1 8 rfl rfl)
theorem dX1_land_31 : decode cX1_land 31 = .ok (.new 103, 3) := dk_187 0 103 (dk_at dksX1_land_1 9 rfl rfl)
theorem dX1_land_34 : decode cX1_land 34 = .ok (.dup, 1) := dk_89 (dk_at dksX1_land_1 12 rfl rfl)
theorem dX1_land_35 : decode cX1_land 35 = .ok (.aload_n 0, 1) := dk_42 (dk_at dksX1_land_1 13 rfl rfl)
theorem dX1_land_36 : decode cX1_land 36 = .ok (.getfield 37, 3) := dk_180 0 37 (dk_at dksX1_land_1 14 rfl rfl)
theorem dX1_land_39 : decode cX1_land 39 = .ok (.iload_n 1, 1) := dk_27 (dk_at dksX1_land_1 17 rfl rfl)
theorem dX1_land_40 : decode cX1_land 40 = .ok (.invokespecial 105, 3) := dk_183 0 105 (dk_at dksX1_land_1 18 rfl rfl)
theorem dX1_land_43 : decode cX1_land 43 = .ok (.invokevirtual 108, 3) := dk_182 0 108 (dk_at dksX1_land_1 21 rfl rfl)
theorem dX1_land_46 : decode cX1_land 46 = .ok (.putfield 10, 3) := dk_181 0 10 (dk_at dksX1_land_2 0 rfl rfl)
theorem dX1_land_49 : decode cX1_land 49 = .ok (.goto 30, 3) := dk_167 0 30 (dk_at dksX1_land_2 3 rfl rfl)
theorem dX1_land_52 : decode cX1_land 52 = .ok (.astore_n 2, 1) := dk_77 (dk_at dksX1_land_2 6 rfl rfl)
theorem dX1_land_53 : decode cX1_land 53 = .ok (.aload_n 0, 1) := dk_42 (dk_at dksX1_land_2 7 rfl rfl)
theorem dX1_land_54 : decode cX1_land 54 = .ok (.aload_n 2, 1) := dk_44 (dk_at dksX1_land_2 8 rfl rfl)
theorem dX1_land_55 : decode cX1_land 55 = .ok (.getfield 113, 3) := dk_180 0 113 (dk_at dksX1_land_2 9 rfl rfl)
theorem dX1_land_58 : decode cX1_land 58 = .ok (.putfield 41, 3) := dk_181 0 41 (dk_at dksX1_land_2 12 rfl rfl)
theorem dX1_land_61 : decode cX1_land 61 = .ok (.aload_n 0, 1) := dk_42 (dk_at dksX1_land_2 15 rfl rfl)
theorem dX1_land_62 : decode cX1_land 62 = .ok (.getfield 19, 3) := dk_180 0 19 (dk_at dksX1_land_2 16 rfl rfl)
theorem dX1_land_65 : decode cX1_land 65 = .ok (.getfield 116, 3) := dk_180 0 116 (dk_at dksX1_land_2 19 rfl rfl)
theorem dX1_land_68 : decode cX1_land 68 = .ok (.iconst 0, 1) := dk_3 (dk_at dksX1_land_2 22 rfl rfl)
theorem dX1_land_69 : decode cX1_land 69 = .ok (.dup2, 1) := dk_92 (dk_at dksX1_land_2 23 rfl rfl)
theorem dX1_land_70 : decode cX1_land 70 = .ok (.iaload, 1) := dk_46 (dk_at dksX1_land_3 0 rfl rfl)
theorem dX1_land_71 : decode cX1_land 71 = .ok (.iconst 1, 1) := dk_4 (dk_at dksX1_land_3 1 rfl rfl)
theorem dX1_land_72 : decode cX1_land 72 = .ok (.iadd, 1) := dk_96 (dk_at dksX1_land_3 2 rfl rfl)
theorem dX1_land_73 : decode cX1_land 73 = .ok (.iastore, 1) := dk_79 (dk_at dksX1_land_3 3 rfl rfl)
theorem dX1_land_74 : decode cX1_land 74 = .ok (.aload_n 2, 1) := dk_44 (dk_at dksX1_land_3 4 rfl rfl)
theorem dX1_land_75 : decode cX1_land 75 = .ok (.getfield 119, 3) := dk_180 0 119 (dk_at dksX1_land_3 5 rfl rfl)
theorem dX1_land_78 : decode cX1_land 78 = .ok (.ireturn, 1) := dk_172 (dk_at dksX1_land_3 8 rfl rfl)
theorem dX1_land_79 : decode cX1_land 79 = .ok (.aload_n 0, 1) := dk_42 (dk_at dksX1_land_3 9 rfl rfl)
theorem dX1_land_80 : decode cX1_land 80 = .ok (.getfield 30, 3) := dk_180 0 30 (dk_at dksX1_land_3 10 rfl rfl)
theorem dX1_land_83 : decode cX1_land 83 = .ok (.aload_n 0, 1) := dk_42 (dk_at dksX1_land_3 13 rfl rfl)
theorem dX1_land_84 : decode cX1_land 84 = .ok (.getfield 10, 3) := dk_180 0 10 (dk_at dksX1_land_3 14 rfl rfl)
theorem dX1_land_87 : decode cX1_land 87 = .ok (.invokevirtual 122, 3) := dk_182 0 122 (dk_at dksX1_land_3 17 rfl rfl)
theorem dX1_land_90 : decode cX1_land 90 = .ok (.aload_n 0, 1) := dk_42 (dk_at dksX1_land_3 20 rfl rfl)
theorem dX1_land_91 : decode cX1_land 91 = .ok (.getfield 19, 3) := dk_180 0 19 (dk_at dksX1_land_3 21 rfl rfl)
theorem dX1_land_94 : decode cX1_land 94 = .ok (.iconst 0, 1) := dk_3 (dk_at dksX1_land_4 0 rfl rfl)
theorem dX1_land_95 : decode cX1_land 95 = .ok (.putfield 126, 3) := dk_181 0 126 (dk_at dksX1_land_4 1 rfl rfl)
theorem dX1_land_98 : decode cX1_land 98 = .ok (.aload_n 0, 1) := dk_42 (dk_at dksX1_land_4 4 rfl rfl)
theorem dX1_land_99 : decode cX1_land 99 = .ok (.getfield 19, 3) := dk_180 0 19 (dk_at dksX1_land_4 5 rfl rfl)
theorem dX1_land_102 : decode cX1_land 102 = .ok (.iconst 0, 1) := dk_3 (dk_at dksX1_land_4 8 rfl rfl)
theorem dX1_land_103 : decode cX1_land 103 = .ok (.putfield 129, 3) := dk_181 0 129 (dk_at dksX1_land_4 9 rfl rfl)
theorem dX1_land_106 : decode cX1_land 106 = .ok (.aload_n 0, 1) := dk_42 (dk_at dksX1_land_4 12 rfl rfl)
theorem dX1_land_107 : decode cX1_land 107 = .ok (.iconst 0, 1) := dk_3 (dk_at dksX1_land_4 13 rfl rfl)
theorem dX1_land_108 : decode cX1_land 108 = .ok (.putfield 132, 3) := dk_181 0 132 (dk_at dksX1_land_4 14 rfl rfl)
theorem dX1_land_111 : decode cX1_land 111 = .ok (.iconst 0, 1) := dk_3 (dk_at dksX1_land_4 17 rfl rfl)
theorem dX1_land_112 : decode cX1_land 112 = .ok (.ireturn, 1) := dk_172 (dk_at dksX1_land_4 18 rfl rfl)
abbrev cX1_right : ByteArray := prog_1_method_2_code
def yX1_right : MethodName := ⟨RX1, "right", "(Z)V"⟩
def dkwX1_right_0 : List UInt8 := [26, 154, 0, 11, 187, 0, 52, 89, 183, 0, 54, 191, 177]
abbrev dktX1_right_0 : List UInt8 := dkwX1_right_0 ++ []
theorem dksX1_right_0 : cX1_right.data.toList.drop 0 = dktX1_right_0 := by decide +kernel
theorem dX1_right_0 : decode cX1_right 0 = .ok (.iload_n 0, 1) := dk_26 (dk_at dksX1_right_0 0 rfl rfl)
theorem dX1_right_1 : decode cX1_right 1 = .ok (.ifCond .ne 11, 3) := dk_154 0 11 (dk_at dksX1_right_0 1 rfl rfl)
theorem dX1_right_4 : decode cX1_right 4 = .ok (.new 52, 3) := dk_187 0 52 (dk_at dksX1_right_0 4 rfl rfl)
theorem dX1_right_7 : decode cX1_right 7 = .ok (.dup, 1) := dk_89 (dk_at dksX1_right_0 7 rfl rfl)
theorem dX1_right_8 : decode cX1_right 8 = .ok (.invokespecial 54, 3) := dk_183 0 54 (dk_at dksX1_right_0 8 rfl rfl)
theorem dX1_right_11 : decode cX1_right 11 = .ok (.athrow, 1) := dk_191 (dk_at dksX1_right_0 11 rfl rfl)
theorem dX1_right_12 : decode cX1_right 12 = .ok (.return_, 1) := dk_177 (dk_at dksX1_right_0 12 rfl rfl)
abbrev cX1_count : ByteArray := prog_1_method_14_code
def yX1_count : MethodName := ⟨RX1, "count", "(I)I"⟩
def dkwX1_count_7 : List UInt8 := [27, 16, 14, 100, 46, 172]
abbrev dktX1_count_7 : List UInt8 := dkwX1_count_7 ++ []
def dkwX1_count_6 : List UInt8 := [180, 0, 126, 172, 42, 180, 0, 19, 180, 0, 129, 172, 42, 180, 0, 93, 172, 42, 180, 0, 19, 180, 0, 116]
abbrev dktX1_count_6 : List UInt8 := dkwX1_count_6 ++ dktX1_count_7
def dkwX1_count_5 : List UInt8 := [182, 0, 155, 172, 42, 180, 0, 30, 180, 0, 159, 172, 42, 180, 0, 30, 180, 0, 162, 172, 42, 180, 0, 19]
abbrev dktX1_count_5 : List UInt8 := dkwX1_count_5 ++ dktX1_count_6
def dkwX1_count_4 : List UInt8 := [180, 0, 10, 180, 0, 149, 172, 42, 180, 0, 30, 180, 0, 152, 172, 42, 180, 0, 30, 42, 182, 0, 71]
abbrev dktX1_count_4 : List UInt8 := dkwX1_count_4 ++ dktX1_count_5
def dkwX1_count_3 : List UInt8 := [180, 0, 85, 182, 0, 62, 172, 42, 180, 0, 10, 180, 0, 143, 172, 42, 180, 0, 10, 180, 0, 146, 172, 42]
abbrev dktX1_count_3 : List UInt8 := dkwX1_count_3 ++ dktX1_count_4
def dkwX1_count_2 : List UInt8 := [42, 182, 0, 71, 172, 42, 180, 0, 10, 180, 0, 140, 172, 42, 182, 0, 83, 172, 42, 180, 0, 10]
abbrev dktX1_count_2 : List UInt8 := dkwX1_count_2 ++ dktX1_count_3
def dkwX1_count_1 : List UInt8 := [170, 0, 0, 0, 179, 0, 0, 0, 0, 0, 0, 0, 13, 0, 0, 0, 69, 0, 0, 0, 74, 0, 0, 0, 82, 0, 0, 0, 87, 0, 0, 0, 98, 0, 0, 0, 106, 0, 0, 0, 114, 0, 0, 0, 122, 0, 0, 0, 130, 0, 0, 0, 142, 0, 0, 0, 150, 0, 0, 0, 158, 0, 0, 0, 166, 0, 0, 0, 174]
abbrev dktX1_count_1 : List UInt8 := dkwX1_count_1 ++ dktX1_count_2
def dkwX1_count_0 : List UInt8 := [27, 3, 16, 16, 184, 0, 136, 184, 0, 73, 27]
abbrev dktX1_count_0 : List UInt8 := dkwX1_count_0 ++ dktX1_count_1
theorem dksX1_count_0 : cX1_count.data.toList.drop 0 = dktX1_count_0 := by decide +kernel
theorem dksX1_count_1 : cX1_count.data.toList.drop 11 = dktX1_count_1 := dk_seg dksX1_count_0 11 rfl rfl
theorem dksX1_count_2 : cX1_count.data.toList.drop 80 = dktX1_count_2 := dk_seg dksX1_count_1 69 rfl rfl
theorem dksX1_count_3 : cX1_count.data.toList.drop 102 = dktX1_count_3 := dk_seg dksX1_count_2 22 rfl rfl
theorem dksX1_count_4 : cX1_count.data.toList.drop 126 = dktX1_count_4 := dk_seg dksX1_count_3 24 rfl rfl
theorem dksX1_count_5 : cX1_count.data.toList.drop 149 = dktX1_count_5 := dk_seg dksX1_count_4 23 rfl rfl
theorem dksX1_count_6 : cX1_count.data.toList.drop 173 = dktX1_count_6 := dk_seg dksX1_count_5 24 rfl rfl
theorem dksX1_count_7 : cX1_count.data.toList.drop 197 = dktX1_count_7 := dk_seg dksX1_count_6 24 rfl rfl
theorem dX1_count_0 : decode cX1_count 0 = .ok (.iload_n 1, 1) := dk_27 (dk_at dksX1_count_0 0 rfl rfl)
theorem dX1_count_1 : decode cX1_count 1 = .ok (.iconst 0, 1) := dk_3 (dk_at dksX1_count_0 1 rfl rfl)
theorem dX1_count_2 : decode cX1_count 2 = .ok (.bipush 16, 2) := dk_16 16 (dk_at dksX1_count_0 2 rfl rfl)
theorem dX1_count_4 : decode cX1_count 4 = .ok (.invokestatic 136, 3) := dk_184 0 136 (dk_at dksX1_count_0 4 rfl rfl)
theorem dX1_count_7 : decode cX1_count 7 = .ok (.invokestatic 73, 3) := dk_184 0 73 (dk_at dksX1_count_0 7 rfl rfl)
theorem dX1_count_10 : decode cX1_count 10 = .ok (.iload_n 1, 1) := dk_27 (dk_at dksX1_count_0 10 rfl rfl)
theorem dX1_count_11 : decode cX1_count 11 = .ok (.tableswitch 179 0 13 #[69, 74, 82, 87, 98, 106, 114, 122, 130, 142, 150, 158, 166, 174], 69) := by decide +kernel
theorem dX1_count_80 : decode cX1_count 80 = .ok (.aload_n 0, 1) := dk_42 (dk_at dksX1_count_2 0 rfl rfl)
theorem dX1_count_81 : decode cX1_count 81 = .ok (.invokevirtual 71, 3) := dk_182 0 71 (dk_at dksX1_count_2 1 rfl rfl)
theorem dX1_count_84 : decode cX1_count 84 = .ok (.ireturn, 1) := dk_172 (dk_at dksX1_count_2 4 rfl rfl)
theorem dX1_count_85 : decode cX1_count 85 = .ok (.aload_n 0, 1) := dk_42 (dk_at dksX1_count_2 5 rfl rfl)
theorem dX1_count_86 : decode cX1_count 86 = .ok (.getfield 10, 3) := dk_180 0 10 (dk_at dksX1_count_2 6 rfl rfl)
theorem dX1_count_89 : decode cX1_count 89 = .ok (.getfield 140, 3) := dk_180 0 140 (dk_at dksX1_count_2 9 rfl rfl)
theorem dX1_count_92 : decode cX1_count 92 = .ok (.ireturn, 1) := dk_172 (dk_at dksX1_count_2 12 rfl rfl)
theorem dX1_count_93 : decode cX1_count 93 = .ok (.aload_n 0, 1) := dk_42 (dk_at dksX1_count_2 13 rfl rfl)
theorem dX1_count_94 : decode cX1_count 94 = .ok (.invokevirtual 83, 3) := dk_182 0 83 (dk_at dksX1_count_2 14 rfl rfl)
theorem dX1_count_97 : decode cX1_count 97 = .ok (.ireturn, 1) := dk_172 (dk_at dksX1_count_2 17 rfl rfl)
theorem dX1_count_98 : decode cX1_count 98 = .ok (.aload_n 0, 1) := dk_42 (dk_at dksX1_count_2 18 rfl rfl)
theorem dX1_count_99 : decode cX1_count 99 = .ok (.getfield 10, 3) := dk_180 0 10 (dk_at dksX1_count_2 19 rfl rfl)
theorem dX1_count_102 : decode cX1_count 102 = .ok (.getfield 85, 3) := dk_180 0 85 (dk_at dksX1_count_3 0 rfl rfl)
theorem dX1_count_105 : decode cX1_count 105 = .ok (.invokevirtual 62, 3) := dk_182 0 62 (dk_at dksX1_count_3 3 rfl rfl)
theorem dX1_count_108 : decode cX1_count 108 = .ok (.ireturn, 1) := dk_172 (dk_at dksX1_count_3 6 rfl rfl)
theorem dX1_count_109 : decode cX1_count 109 = .ok (.aload_n 0, 1) := dk_42 (dk_at dksX1_count_3 7 rfl rfl)
theorem dX1_count_110 : decode cX1_count 110 = .ok (.getfield 10, 3) := dk_180 0 10 (dk_at dksX1_count_3 8 rfl rfl)
theorem dX1_count_113 : decode cX1_count 113 = .ok (.getfield 143, 3) := dk_180 0 143 (dk_at dksX1_count_3 11 rfl rfl)
theorem dX1_count_116 : decode cX1_count 116 = .ok (.ireturn, 1) := dk_172 (dk_at dksX1_count_3 14 rfl rfl)
theorem dX1_count_117 : decode cX1_count 117 = .ok (.aload_n 0, 1) := dk_42 (dk_at dksX1_count_3 15 rfl rfl)
theorem dX1_count_118 : decode cX1_count 118 = .ok (.getfield 10, 3) := dk_180 0 10 (dk_at dksX1_count_3 16 rfl rfl)
theorem dX1_count_121 : decode cX1_count 121 = .ok (.getfield 146, 3) := dk_180 0 146 (dk_at dksX1_count_3 19 rfl rfl)
theorem dX1_count_124 : decode cX1_count 124 = .ok (.ireturn, 1) := dk_172 (dk_at dksX1_count_3 22 rfl rfl)
theorem dX1_count_125 : decode cX1_count 125 = .ok (.aload_n 0, 1) := dk_42 (dk_at dksX1_count_3 23 rfl rfl)
theorem dX1_count_126 : decode cX1_count 126 = .ok (.getfield 10, 3) := dk_180 0 10 (dk_at dksX1_count_4 0 rfl rfl)
theorem dX1_count_129 : decode cX1_count 129 = .ok (.getfield 149, 3) := dk_180 0 149 (dk_at dksX1_count_4 3 rfl rfl)
theorem dX1_count_132 : decode cX1_count 132 = .ok (.ireturn, 1) := dk_172 (dk_at dksX1_count_4 6 rfl rfl)
theorem dX1_count_133 : decode cX1_count 133 = .ok (.aload_n 0, 1) := dk_42 (dk_at dksX1_count_4 7 rfl rfl)
theorem dX1_count_134 : decode cX1_count 134 = .ok (.getfield 30, 3) := dk_180 0 30 (dk_at dksX1_count_4 8 rfl rfl)
theorem dX1_count_137 : decode cX1_count 137 = .ok (.getfield 152, 3) := dk_180 0 152 (dk_at dksX1_count_4 11 rfl rfl)
theorem dX1_count_140 : decode cX1_count 140 = .ok (.ireturn, 1) := dk_172 (dk_at dksX1_count_4 14 rfl rfl)
theorem dX1_count_141 : decode cX1_count 141 = .ok (.aload_n 0, 1) := dk_42 (dk_at dksX1_count_4 15 rfl rfl)
theorem dX1_count_142 : decode cX1_count 142 = .ok (.getfield 30, 3) := dk_180 0 30 (dk_at dksX1_count_4 16 rfl rfl)
theorem dX1_count_145 : decode cX1_count 145 = .ok (.aload_n 0, 1) := dk_42 (dk_at dksX1_count_4 19 rfl rfl)
theorem dX1_count_146 : decode cX1_count 146 = .ok (.invokevirtual 71, 3) := dk_182 0 71 (dk_at dksX1_count_4 20 rfl rfl)
theorem dX1_count_149 : decode cX1_count 149 = .ok (.invokevirtual 155, 3) := dk_182 0 155 (dk_at dksX1_count_5 0 rfl rfl)
theorem dX1_count_152 : decode cX1_count 152 = .ok (.ireturn, 1) := dk_172 (dk_at dksX1_count_5 3 rfl rfl)
theorem dX1_count_153 : decode cX1_count 153 = .ok (.aload_n 0, 1) := dk_42 (dk_at dksX1_count_5 4 rfl rfl)
theorem dX1_count_154 : decode cX1_count 154 = .ok (.getfield 30, 3) := dk_180 0 30 (dk_at dksX1_count_5 5 rfl rfl)
theorem dX1_count_157 : decode cX1_count 157 = .ok (.getfield 159, 3) := dk_180 0 159 (dk_at dksX1_count_5 8 rfl rfl)
theorem dX1_count_160 : decode cX1_count 160 = .ok (.ireturn, 1) := dk_172 (dk_at dksX1_count_5 11 rfl rfl)
theorem dX1_count_161 : decode cX1_count 161 = .ok (.aload_n 0, 1) := dk_42 (dk_at dksX1_count_5 12 rfl rfl)
theorem dX1_count_162 : decode cX1_count 162 = .ok (.getfield 30, 3) := dk_180 0 30 (dk_at dksX1_count_5 13 rfl rfl)
theorem dX1_count_165 : decode cX1_count 165 = .ok (.getfield 162, 3) := dk_180 0 162 (dk_at dksX1_count_5 16 rfl rfl)
theorem dX1_count_168 : decode cX1_count 168 = .ok (.ireturn, 1) := dk_172 (dk_at dksX1_count_5 19 rfl rfl)
theorem dX1_count_169 : decode cX1_count 169 = .ok (.aload_n 0, 1) := dk_42 (dk_at dksX1_count_5 20 rfl rfl)
theorem dX1_count_170 : decode cX1_count 170 = .ok (.getfield 19, 3) := dk_180 0 19 (dk_at dksX1_count_5 21 rfl rfl)
theorem dX1_count_173 : decode cX1_count 173 = .ok (.getfield 126, 3) := dk_180 0 126 (dk_at dksX1_count_6 0 rfl rfl)
theorem dX1_count_176 : decode cX1_count 176 = .ok (.ireturn, 1) := dk_172 (dk_at dksX1_count_6 3 rfl rfl)
theorem dX1_count_177 : decode cX1_count 177 = .ok (.aload_n 0, 1) := dk_42 (dk_at dksX1_count_6 4 rfl rfl)
theorem dX1_count_178 : decode cX1_count 178 = .ok (.getfield 19, 3) := dk_180 0 19 (dk_at dksX1_count_6 5 rfl rfl)
theorem dX1_count_181 : decode cX1_count 181 = .ok (.getfield 129, 3) := dk_180 0 129 (dk_at dksX1_count_6 8 rfl rfl)
theorem dX1_count_184 : decode cX1_count 184 = .ok (.ireturn, 1) := dk_172 (dk_at dksX1_count_6 11 rfl rfl)
theorem dX1_count_185 : decode cX1_count 185 = .ok (.aload_n 0, 1) := dk_42 (dk_at dksX1_count_6 12 rfl rfl)
theorem dX1_count_186 : decode cX1_count 186 = .ok (.getfield 93, 3) := dk_180 0 93 (dk_at dksX1_count_6 13 rfl rfl)
theorem dX1_count_189 : decode cX1_count 189 = .ok (.ireturn, 1) := dk_172 (dk_at dksX1_count_6 16 rfl rfl)
theorem dX1_count_190 : decode cX1_count 190 = .ok (.aload_n 0, 1) := dk_42 (dk_at dksX1_count_6 17 rfl rfl)
theorem dX1_count_191 : decode cX1_count 191 = .ok (.getfield 19, 3) := dk_180 0 19 (dk_at dksX1_count_6 18 rfl rfl)
theorem dX1_count_194 : decode cX1_count 194 = .ok (.getfield 116, 3) := dk_180 0 116 (dk_at dksX1_count_6 21 rfl rfl)
theorem dX1_count_197 : decode cX1_count 197 = .ok (.iload_n 1, 1) := dk_27 (dk_at dksX1_count_7 0 rfl rfl)
theorem dX1_count_198 : decode cX1_count 198 = .ok (.bipush 14, 2) := dk_16 14 (dk_at dksX1_count_7 1 rfl rfl)
theorem dX1_count_200 : decode cX1_count 200 = .ok (.isub, 1) := dk_100 (dk_at dksX1_count_7 3 rfl rfl)
theorem dX1_count_201 : decode cX1_count 201 = .ok (.iaload, 1) := dk_46 (dk_at dksX1_count_7 4 rfl rfl)
theorem dX1_count_202 : decode cX1_count 202 = .ok (.ireturn, 1) := dk_172 (dk_at dksX1_count_7 5 rfl rfl)
abbrev cX1_there : ByteArray := prog_1_method_3_code
def yX1_there : MethodName := ⟨RX1, "there", "(Z)V"⟩
def dkwX1_there_0 : List UInt8 := [26, 154, 0, 11, 187, 0, 55, 89, 183, 0, 57, 191, 177]
abbrev dktX1_there_0 : List UInt8 := dkwX1_there_0 ++ []
theorem dksX1_there_0 : cX1_there.data.toList.drop 0 = dktX1_there_0 := by decide +kernel
theorem dX1_there_0 : decode cX1_there 0 = .ok (.iload_n 0, 1) := dk_26 (dk_at dksX1_there_0 0 rfl rfl)
theorem dX1_there_1 : decode cX1_there 1 = .ok (.ifCond .ne 11, 3) := dk_154 0 11 (dk_at dksX1_there_0 1 rfl rfl)
theorem dX1_there_4 : decode cX1_there 4 = .ok (.new 55, 3) := dk_187 0 55 (dk_at dksX1_there_0 4 rfl rfl)
theorem dX1_there_7 : decode cX1_there 7 = .ok (.dup, 1) := dk_89 (dk_at dksX1_there_0 7 rfl rfl)
theorem dX1_there_8 : decode cX1_there 8 = .ok (.invokespecial 57, 3) := dk_183 0 57 (dk_at dksX1_there_0 8 rfl rfl)
theorem dX1_there_11 : decode cX1_there 11 = .ok (.athrow, 1) := dk_191 (dk_at dksX1_there_0 11 rfl rfl)
theorem dX1_there_12 : decode cX1_there 12 = .ok (.return_, 1) := dk_177 (dk_at dksX1_there_0 12 rfl rfl)
abbrev cX1_bands : ByteArray := prog_1_method_6_code
def yX1_bands : MethodName := ⟨RX1, "bands", "()I"⟩
def dkwX1_bands_0 : List UInt8 := [42, 180, 0, 10, 180, 0, 68, 182, 0, 62, 172]
abbrev dktX1_bands_0 : List UInt8 := dkwX1_bands_0 ++ []
theorem dksX1_bands_0 : cX1_bands.data.toList.drop 0 = dktX1_bands_0 := by decide +kernel
theorem dX1_bands_0 : decode cX1_bands 0 = .ok (.aload_n 0, 1) := dk_42 (dk_at dksX1_bands_0 0 rfl rfl)
theorem dX1_bands_1 : decode cX1_bands 1 = .ok (.getfield 10, 3) := dk_180 0 10 (dk_at dksX1_bands_0 1 rfl rfl)
theorem dX1_bands_4 : decode cX1_bands 4 = .ok (.getfield 68, 3) := dk_180 0 68 (dk_at dksX1_bands_0 4 rfl rfl)
theorem dX1_bands_7 : decode cX1_bands 7 = .ok (.invokevirtual 62, 3) := dk_182 0 62 (dk_at dksX1_bands_0 7 rfl rfl)
theorem dX1_bands_10 : decode cX1_bands 10 = .ok (.ireturn, 1) := dk_172 (dk_at dksX1_bands_0 10 rfl rfl)
abbrev cX1_forest : ByteArray := prog_1_method_17_code
def yX1_forest : MethodName := ⟨RX1, "forest", "(II)I"⟩
def dkwX1_forest_4 : List UInt8 := [182, 0, 194, 172]
abbrev dktX1_forest_4 : List UInt8 := dkwX1_forest_4 ++ []
def dkwX1_forest_3 : List UInt8 := [172, 45, 180, 0, 185, 172, 42, 180, 0, 30, 180, 0, 188, 27, 46, 172, 42, 27, 182, 0, 191, 172, 42, 27]
abbrev dktX1_forest_3 : List UInt8 := dkwX1_forest_3 ++ dktX1_forest_4
def dkwX1_forest_2 : List UInt8 := [42, 180, 0, 30, 180, 0, 176, 27, 46, 172, 42, 180, 0, 30, 180, 0, 179, 27, 46, 172, 45, 180, 0, 182]
abbrev dktX1_forest_2 : List UInt8 := dkwX1_forest_2 ++ dktX1_forest_3
def dkwX1_forest_1 : List UInt8 := [170, 0, 0, 0, 0, 0, 85, 0, 0, 0, 0, 0, 0, 0, 5, 0, 0, 0, 39, 0, 0, 0, 49, 0, 0, 0, 59, 0, 0, 0, 64, 0, 0, 0, 69, 0, 0, 0, 79]
abbrev dktX1_forest_1 : List UInt8 := dkwX1_forest_1 ++ dktX1_forest_2
def dkwX1_forest_0 : List UInt8 := [42, 27, 182, 0, 172, 78, 28, 3, 16, 6, 184, 0, 136, 184, 0, 73, 28]
abbrev dktX1_forest_0 : List UInt8 := dkwX1_forest_0 ++ dktX1_forest_1
theorem dksX1_forest_0 : cX1_forest.data.toList.drop 0 = dktX1_forest_0 := by decide +kernel
theorem dksX1_forest_1 : cX1_forest.data.toList.drop 17 = dktX1_forest_1 := dk_seg dksX1_forest_0 17 rfl rfl
theorem dksX1_forest_2 : cX1_forest.data.toList.drop 56 = dktX1_forest_2 := dk_seg dksX1_forest_1 39 rfl rfl
theorem dksX1_forest_3 : cX1_forest.data.toList.drop 80 = dktX1_forest_3 := dk_seg dksX1_forest_2 24 rfl rfl
theorem dksX1_forest_4 : cX1_forest.data.toList.drop 104 = dktX1_forest_4 := dk_seg dksX1_forest_3 24 rfl rfl
theorem dX1_forest_0 : decode cX1_forest 0 = .ok (.aload_n 0, 1) := dk_42 (dk_at dksX1_forest_0 0 rfl rfl)
theorem dX1_forest_1 : decode cX1_forest 1 = .ok (.iload_n 1, 1) := dk_27 (dk_at dksX1_forest_0 1 rfl rfl)
theorem dX1_forest_2 : decode cX1_forest 2 = .ok (.invokevirtual 172, 3) := dk_182 0 172 (dk_at dksX1_forest_0 2 rfl rfl)
theorem dX1_forest_5 : decode cX1_forest 5 = .ok (.astore_n 3, 1) := dk_78 (dk_at dksX1_forest_0 5 rfl rfl)
theorem dX1_forest_6 : decode cX1_forest 6 = .ok (.iload_n 2, 1) := dk_28 (dk_at dksX1_forest_0 6 rfl rfl)
theorem dX1_forest_7 : decode cX1_forest 7 = .ok (.iconst 0, 1) := dk_3 (dk_at dksX1_forest_0 7 rfl rfl)
theorem dX1_forest_8 : decode cX1_forest 8 = .ok (.bipush 6, 2) := dk_16 6 (dk_at dksX1_forest_0 8 rfl rfl)
theorem dX1_forest_10 : decode cX1_forest 10 = .ok (.invokestatic 136, 3) := dk_184 0 136 (dk_at dksX1_forest_0 10 rfl rfl)
theorem dX1_forest_13 : decode cX1_forest 13 = .ok (.invokestatic 73, 3) := dk_184 0 73 (dk_at dksX1_forest_0 13 rfl rfl)
theorem dX1_forest_16 : decode cX1_forest 16 = .ok (.iload_n 2, 1) := dk_28 (dk_at dksX1_forest_0 16 rfl rfl)
theorem dX1_forest_17 : decode cX1_forest 17 = .ok (.tableswitch 85 0 5 #[39, 49, 59, 64, 69, 79], 39) := by decide +kernel
theorem dX1_forest_56 : decode cX1_forest 56 = .ok (.aload_n 0, 1) := dk_42 (dk_at dksX1_forest_2 0 rfl rfl)
theorem dX1_forest_57 : decode cX1_forest 57 = .ok (.getfield 30, 3) := dk_180 0 30 (dk_at dksX1_forest_2 1 rfl rfl)
theorem dX1_forest_60 : decode cX1_forest 60 = .ok (.getfield 176, 3) := dk_180 0 176 (dk_at dksX1_forest_2 4 rfl rfl)
theorem dX1_forest_63 : decode cX1_forest 63 = .ok (.iload_n 1, 1) := dk_27 (dk_at dksX1_forest_2 7 rfl rfl)
theorem dX1_forest_64 : decode cX1_forest 64 = .ok (.iaload, 1) := dk_46 (dk_at dksX1_forest_2 8 rfl rfl)
theorem dX1_forest_65 : decode cX1_forest 65 = .ok (.ireturn, 1) := dk_172 (dk_at dksX1_forest_2 9 rfl rfl)
theorem dX1_forest_66 : decode cX1_forest 66 = .ok (.aload_n 0, 1) := dk_42 (dk_at dksX1_forest_2 10 rfl rfl)
theorem dX1_forest_67 : decode cX1_forest 67 = .ok (.getfield 30, 3) := dk_180 0 30 (dk_at dksX1_forest_2 11 rfl rfl)
theorem dX1_forest_70 : decode cX1_forest 70 = .ok (.getfield 179, 3) := dk_180 0 179 (dk_at dksX1_forest_2 14 rfl rfl)
theorem dX1_forest_73 : decode cX1_forest 73 = .ok (.iload_n 1, 1) := dk_27 (dk_at dksX1_forest_2 17 rfl rfl)
theorem dX1_forest_74 : decode cX1_forest 74 = .ok (.iaload, 1) := dk_46 (dk_at dksX1_forest_2 18 rfl rfl)
theorem dX1_forest_75 : decode cX1_forest 75 = .ok (.ireturn, 1) := dk_172 (dk_at dksX1_forest_2 19 rfl rfl)
theorem dX1_forest_76 : decode cX1_forest 76 = .ok (.aload_n 3, 1) := dk_45 (dk_at dksX1_forest_2 20 rfl rfl)
theorem dX1_forest_77 : decode cX1_forest 77 = .ok (.getfield 182, 3) := dk_180 0 182 (dk_at dksX1_forest_2 21 rfl rfl)
theorem dX1_forest_80 : decode cX1_forest 80 = .ok (.ireturn, 1) := dk_172 (dk_at dksX1_forest_3 0 rfl rfl)
theorem dX1_forest_81 : decode cX1_forest 81 = .ok (.aload_n 3, 1) := dk_45 (dk_at dksX1_forest_3 1 rfl rfl)
theorem dX1_forest_82 : decode cX1_forest 82 = .ok (.getfield 185, 3) := dk_180 0 185 (dk_at dksX1_forest_3 2 rfl rfl)
theorem dX1_forest_85 : decode cX1_forest 85 = .ok (.ireturn, 1) := dk_172 (dk_at dksX1_forest_3 5 rfl rfl)
theorem dX1_forest_86 : decode cX1_forest 86 = .ok (.aload_n 0, 1) := dk_42 (dk_at dksX1_forest_3 6 rfl rfl)
theorem dX1_forest_87 : decode cX1_forest 87 = .ok (.getfield 30, 3) := dk_180 0 30 (dk_at dksX1_forest_3 7 rfl rfl)
theorem dX1_forest_90 : decode cX1_forest 90 = .ok (.getfield 188, 3) := dk_180 0 188 (dk_at dksX1_forest_3 10 rfl rfl)
theorem dX1_forest_93 : decode cX1_forest 93 = .ok (.iload_n 1, 1) := dk_27 (dk_at dksX1_forest_3 13 rfl rfl)
theorem dX1_forest_94 : decode cX1_forest 94 = .ok (.iaload, 1) := dk_46 (dk_at dksX1_forest_3 14 rfl rfl)
theorem dX1_forest_95 : decode cX1_forest 95 = .ok (.ireturn, 1) := dk_172 (dk_at dksX1_forest_3 15 rfl rfl)
theorem dX1_forest_96 : decode cX1_forest 96 = .ok (.aload_n 0, 1) := dk_42 (dk_at dksX1_forest_3 16 rfl rfl)
theorem dX1_forest_97 : decode cX1_forest 97 = .ok (.iload_n 1, 1) := dk_27 (dk_at dksX1_forest_3 17 rfl rfl)
theorem dX1_forest_98 : decode cX1_forest 98 = .ok (.invokevirtual 191, 3) := dk_182 0 191 (dk_at dksX1_forest_3 18 rfl rfl)
theorem dX1_forest_101 : decode cX1_forest 101 = .ok (.ireturn, 1) := dk_172 (dk_at dksX1_forest_3 21 rfl rfl)
theorem dX1_forest_102 : decode cX1_forest 102 = .ok (.aload_n 0, 1) := dk_42 (dk_at dksX1_forest_3 22 rfl rfl)
theorem dX1_forest_103 : decode cX1_forest 103 = .ok (.iload_n 1, 1) := dk_27 (dk_at dksX1_forest_3 23 rfl rfl)
theorem dX1_forest_104 : decode cX1_forest 104 = .ok (.invokevirtual 194, 3) := dk_182 0 194 (dk_at dksX1_forest_4 0 rfl rfl)
theorem dX1_forest_107 : decode cX1_forest 107 = .ok (.ireturn, 1) := dk_172 (dk_at dksX1_forest_4 3 rfl rfl)
abbrev cX1_forestAt : ByteArray := prog_1_method_7_code
def yX1_forestAt : MethodName := ⟨RX1, "forestAt", "(I)LSableCrown$Forest;"⟩
def dkwX1_forestAt_1 : List UInt8 := [180, 0, 58, 27, 182, 0, 77, 192, 0, 81, 176]
abbrev dktX1_forestAt_1 : List UInt8 := dkwX1_forestAt_1 ++ []
def dkwX1_forestAt_0 : List UInt8 := [27, 155, 0, 15, 27, 42, 182, 0, 71, 162, 0, 7, 4, 167, 0, 4, 3, 184, 0, 73, 42, 180, 0, 10]
abbrev dktX1_forestAt_0 : List UInt8 := dkwX1_forestAt_0 ++ dktX1_forestAt_1
theorem dksX1_forestAt_0 : cX1_forestAt.data.toList.drop 0 = dktX1_forestAt_0 := by decide +kernel
theorem dksX1_forestAt_1 : cX1_forestAt.data.toList.drop 24 = dktX1_forestAt_1 := dk_seg dksX1_forestAt_0 24 rfl rfl
theorem dX1_forestAt_0 : decode cX1_forestAt 0 = .ok (.iload_n 1, 1) := dk_27 (dk_at dksX1_forestAt_0 0 rfl rfl)
theorem dX1_forestAt_1 : decode cX1_forestAt 1 = .ok (.ifCond .lt 15, 3) := dk_155 0 15 (dk_at dksX1_forestAt_0 1 rfl rfl)
theorem dX1_forestAt_4 : decode cX1_forestAt 4 = .ok (.iload_n 1, 1) := dk_27 (dk_at dksX1_forestAt_0 4 rfl rfl)
theorem dX1_forestAt_5 : decode cX1_forestAt 5 = .ok (.aload_n 0, 1) := dk_42 (dk_at dksX1_forestAt_0 5 rfl rfl)
theorem dX1_forestAt_6 : decode cX1_forestAt 6 = .ok (.invokevirtual 71, 3) := dk_182 0 71 (dk_at dksX1_forestAt_0 6 rfl rfl)
theorem dX1_forestAt_9 : decode cX1_forestAt 9 = .ok (.if_icmp .ge 7, 3) := dk_162 0 7 (dk_at dksX1_forestAt_0 9 rfl rfl)
theorem dX1_forestAt_12 : decode cX1_forestAt 12 = .ok (.iconst 1, 1) := dk_4 (dk_at dksX1_forestAt_0 12 rfl rfl)
theorem dX1_forestAt_13 : decode cX1_forestAt 13 = .ok (.goto 4, 3) := dk_167 0 4 (dk_at dksX1_forestAt_0 13 rfl rfl)
theorem dX1_forestAt_16 : decode cX1_forestAt 16 = .ok (.iconst 0, 1) := dk_3 (dk_at dksX1_forestAt_0 16 rfl rfl)
theorem dX1_forestAt_17 : decode cX1_forestAt 17 = .ok (.invokestatic 73, 3) := dk_184 0 73 (dk_at dksX1_forestAt_0 17 rfl rfl)
theorem dX1_forestAt_20 : decode cX1_forestAt 20 = .ok (.aload_n 0, 1) := dk_42 (dk_at dksX1_forestAt_0 20 rfl rfl)
theorem dX1_forestAt_21 : decode cX1_forestAt 21 = .ok (.getfield 10, 3) := dk_180 0 10 (dk_at dksX1_forestAt_0 21 rfl rfl)
theorem dX1_forestAt_24 : decode cX1_forestAt 24 = .ok (.getfield 58, 3) := dk_180 0 58 (dk_at dksX1_forestAt_1 0 rfl rfl)
theorem dX1_forestAt_27 : decode cX1_forestAt 27 = .ok (.iload_n 1, 1) := dk_27 (dk_at dksX1_forestAt_1 3 rfl rfl)
theorem dX1_forestAt_28 : decode cX1_forestAt 28 = .ok (.invokevirtual 77, 3) := dk_182 0 77 (dk_at dksX1_forestAt_1 4 rfl rfl)
theorem dX1_forestAt_31 : decode cX1_forestAt 31 = .ok (.checkcast 81, 3) := dk_192 0 81 (dk_at dksX1_forestAt_1 7 rfl rfl)
theorem dX1_forestAt_34 : decode cX1_forestAt 34 = .ok (.areturn, 1) := dk_176 (dk_at dksX1_forestAt_1 10 rfl rfl)
abbrev cX1_bandsIn : ByteArray := prog_1_method_15_code
def yX1_bandsIn : MethodName := ⟨RX1, "bandsIn", "(I)I"⟩
def dkwX1_bandsIn_1 : List UInt8 := [160, 0, 9, 28, 4, 29, 120, 128, 61, 132, 3, 1, 167, 255, 226, 28, 172]
abbrev dktX1_bandsIn_1 : List UInt8 := dkwX1_bandsIn_1 ++ []
def dkwX1_bandsIn_0 : List UInt8 := [3, 61, 3, 62, 29, 42, 182, 0, 83, 162, 0, 28, 42, 180, 0, 30, 180, 0, 165, 29, 46, 27]
abbrev dktX1_bandsIn_0 : List UInt8 := dkwX1_bandsIn_0 ++ dktX1_bandsIn_1
theorem dksX1_bandsIn_0 : cX1_bandsIn.data.toList.drop 0 = dktX1_bandsIn_0 := by decide +kernel
theorem dksX1_bandsIn_1 : cX1_bandsIn.data.toList.drop 22 = dktX1_bandsIn_1 := dk_seg dksX1_bandsIn_0 22 rfl rfl
theorem dX1_bandsIn_0 : decode cX1_bandsIn 0 = .ok (.iconst 0, 1) := dk_3 (dk_at dksX1_bandsIn_0 0 rfl rfl)
theorem dX1_bandsIn_1 : decode cX1_bandsIn 1 = .ok (.istore_n 2, 1) := dk_61 (dk_at dksX1_bandsIn_0 1 rfl rfl)
theorem dX1_bandsIn_2 : decode cX1_bandsIn 2 = .ok (.iconst 0, 1) := dk_3 (dk_at dksX1_bandsIn_0 2 rfl rfl)
theorem dX1_bandsIn_3 : decode cX1_bandsIn 3 = .ok (.istore_n 3, 1) := dk_62 (dk_at dksX1_bandsIn_0 3 rfl rfl)
theorem dX1_bandsIn_4 : decode cX1_bandsIn 4 = .ok (.iload_n 3, 1) := dk_29 (dk_at dksX1_bandsIn_0 4 rfl rfl)
theorem dX1_bandsIn_5 : decode cX1_bandsIn 5 = .ok (.aload_n 0, 1) := dk_42 (dk_at dksX1_bandsIn_0 5 rfl rfl)
theorem dX1_bandsIn_6 : decode cX1_bandsIn 6 = .ok (.invokevirtual 83, 3) := dk_182 0 83 (dk_at dksX1_bandsIn_0 6 rfl rfl)
theorem dX1_bandsIn_9 : decode cX1_bandsIn 9 = .ok (.if_icmp .ge 28, 3) := dk_162 0 28 (dk_at dksX1_bandsIn_0 9 rfl rfl)
theorem dX1_bandsIn_12 : decode cX1_bandsIn 12 = .ok (.aload_n 0, 1) := dk_42 (dk_at dksX1_bandsIn_0 12 rfl rfl)
theorem dX1_bandsIn_13 : decode cX1_bandsIn 13 = .ok (.getfield 30, 3) := dk_180 0 30 (dk_at dksX1_bandsIn_0 13 rfl rfl)
theorem dX1_bandsIn_16 : decode cX1_bandsIn 16 = .ok (.getfield 165, 3) := dk_180 0 165 (dk_at dksX1_bandsIn_0 16 rfl rfl)
theorem dX1_bandsIn_19 : decode cX1_bandsIn 19 = .ok (.iload_n 3, 1) := dk_29 (dk_at dksX1_bandsIn_0 19 rfl rfl)
theorem dX1_bandsIn_20 : decode cX1_bandsIn 20 = .ok (.iaload, 1) := dk_46 (dk_at dksX1_bandsIn_0 20 rfl rfl)
theorem dX1_bandsIn_21 : decode cX1_bandsIn 21 = .ok (.iload_n 1, 1) := dk_27 (dk_at dksX1_bandsIn_0 21 rfl rfl)
theorem dX1_bandsIn_22 : decode cX1_bandsIn 22 = .ok (.if_icmp .ne 9, 3) := dk_160 0 9 (dk_at dksX1_bandsIn_1 0 rfl rfl)
theorem dX1_bandsIn_25 : decode cX1_bandsIn 25 = .ok (.iload_n 2, 1) := dk_28 (dk_at dksX1_bandsIn_1 3 rfl rfl)
theorem dX1_bandsIn_26 : decode cX1_bandsIn 26 = .ok (.iconst 1, 1) := dk_4 (dk_at dksX1_bandsIn_1 4 rfl rfl)
theorem dX1_bandsIn_27 : decode cX1_bandsIn 27 = .ok (.iload_n 3, 1) := dk_29 (dk_at dksX1_bandsIn_1 5 rfl rfl)
theorem dX1_bandsIn_28 : decode cX1_bandsIn 28 = .ok (.ishl, 1) := dk_120 (dk_at dksX1_bandsIn_1 6 rfl rfl)
theorem dX1_bandsIn_29 : decode cX1_bandsIn 29 = .ok (.ior, 1) := dk_128 (dk_at dksX1_bandsIn_1 7 rfl rfl)
theorem dX1_bandsIn_30 : decode cX1_bandsIn 30 = .ok (.istore_n 2, 1) := dk_61 (dk_at dksX1_bandsIn_1 8 rfl rfl)
theorem dX1_bandsIn_31 : decode cX1_bandsIn 31 = .ok (.iinc 3 1, 3) := dk_132 3 1 (dk_at dksX1_bandsIn_1 9 rfl rfl)
theorem dX1_bandsIn_34 : decode cX1_bandsIn 34 = .ok (.goto (-30), 3) := dk_167 255 226 (dk_at dksX1_bandsIn_1 12 rfl rfl)
theorem dX1_bandsIn_37 : decode cX1_bandsIn 37 = .ok (.iload_n 2, 1) := dk_28 (dk_at dksX1_bandsIn_1 15 rfl rfl)
theorem dX1_bandsIn_38 : decode cX1_bandsIn 38 = .ok (.ireturn, 1) := dk_172 (dk_at dksX1_bandsIn_1 16 rfl rfl)
abbrev cX1_riversOf : ByteArray := prog_1_method_16_code
def yX1_riversOf : MethodName := ⟨RX1, "riversOf", "(I)I"⟩
def dkwX1_riversOf_1 : List UInt8 := [132, 2, 1, 132, 3, 1, 167, 255, 230, 28, 172]
abbrev dktX1_riversOf_1 : List UInt8 := dkwX1_riversOf_1 ++ []
def dkwX1_riversOf_0 : List UInt8 := [3, 61, 3, 62, 29, 42, 182, 0, 71, 162, 0, 24, 42, 180, 0, 10, 27, 29, 182, 0, 168, 153, 0, 6]
abbrev dktX1_riversOf_0 : List UInt8 := dkwX1_riversOf_0 ++ dktX1_riversOf_1
theorem dksX1_riversOf_0 : cX1_riversOf.data.toList.drop 0 = dktX1_riversOf_0 := by decide +kernel
theorem dksX1_riversOf_1 : cX1_riversOf.data.toList.drop 24 = dktX1_riversOf_1 := dk_seg dksX1_riversOf_0 24 rfl rfl
theorem dX1_riversOf_0 : decode cX1_riversOf 0 = .ok (.iconst 0, 1) := dk_3 (dk_at dksX1_riversOf_0 0 rfl rfl)
theorem dX1_riversOf_1 : decode cX1_riversOf 1 = .ok (.istore_n 2, 1) := dk_61 (dk_at dksX1_riversOf_0 1 rfl rfl)
theorem dX1_riversOf_2 : decode cX1_riversOf 2 = .ok (.iconst 0, 1) := dk_3 (dk_at dksX1_riversOf_0 2 rfl rfl)
theorem dX1_riversOf_3 : decode cX1_riversOf 3 = .ok (.istore_n 3, 1) := dk_62 (dk_at dksX1_riversOf_0 3 rfl rfl)
theorem dX1_riversOf_4 : decode cX1_riversOf 4 = .ok (.iload_n 3, 1) := dk_29 (dk_at dksX1_riversOf_0 4 rfl rfl)
theorem dX1_riversOf_5 : decode cX1_riversOf 5 = .ok (.aload_n 0, 1) := dk_42 (dk_at dksX1_riversOf_0 5 rfl rfl)
theorem dX1_riversOf_6 : decode cX1_riversOf 6 = .ok (.invokevirtual 71, 3) := dk_182 0 71 (dk_at dksX1_riversOf_0 6 rfl rfl)
theorem dX1_riversOf_9 : decode cX1_riversOf 9 = .ok (.if_icmp .ge 24, 3) := dk_162 0 24 (dk_at dksX1_riversOf_0 9 rfl rfl)
theorem dX1_riversOf_12 : decode cX1_riversOf 12 = .ok (.aload_n 0, 1) := dk_42 (dk_at dksX1_riversOf_0 12 rfl rfl)
theorem dX1_riversOf_13 : decode cX1_riversOf 13 = .ok (.getfield 10, 3) := dk_180 0 10 (dk_at dksX1_riversOf_0 13 rfl rfl)
theorem dX1_riversOf_16 : decode cX1_riversOf 16 = .ok (.iload_n 1, 1) := dk_27 (dk_at dksX1_riversOf_0 16 rfl rfl)
theorem dX1_riversOf_17 : decode cX1_riversOf 17 = .ok (.iload_n 3, 1) := dk_29 (dk_at dksX1_riversOf_0 17 rfl rfl)
theorem dX1_riversOf_18 : decode cX1_riversOf 18 = .ok (.invokevirtual 168, 3) := dk_182 0 168 (dk_at dksX1_riversOf_0 18 rfl rfl)
theorem dX1_riversOf_21 : decode cX1_riversOf 21 = .ok (.ifCond .eq 6, 3) := dk_153 0 6 (dk_at dksX1_riversOf_0 21 rfl rfl)
theorem dX1_riversOf_24 : decode cX1_riversOf 24 = .ok (.iinc 2 1, 3) := dk_132 2 1 (dk_at dksX1_riversOf_1 0 rfl rfl)
theorem dX1_riversOf_27 : decode cX1_riversOf 27 = .ok (.iinc 3 1, 3) := dk_132 3 1 (dk_at dksX1_riversOf_1 3 rfl rfl)
theorem dX1_riversOf_30 : decode cX1_riversOf 30 = .ok (.goto (-26), 3) := dk_167 255 230 (dk_at dksX1_riversOf_1 6 rfl rfl)
theorem dX1_riversOf_33 : decode cX1_riversOf 33 = .ok (.iload_n 2, 1) := dk_28 (dk_at dksX1_riversOf_1 9 rfl rfl)
theorem dX1_riversOf_34 : decode cX1_riversOf 34 = .ok (.ireturn, 1) := dk_172 (dk_at dksX1_riversOf_1 10 rfl rfl)
abbrev cX1_band : ByteArray := prog_1_method_18_code
def yX1_band : MethodName := ⟨RX1, "band", "(II)I"⟩
def dkwX1_band_5 : List UInt8 := [172]
abbrev dktX1_band_5 : List UInt8 := dkwX1_band_5 ++ []
def dkwX1_band_4 : List UInt8 := [46, 172, 42, 180, 0, 30, 180, 0, 212, 27, 46, 172, 42, 180, 0, 30, 42, 180, 0, 10, 27, 182, 0, 215]
abbrev dktX1_band_4 : List UInt8 := dkwX1_band_4 ++ dktX1_band_5
def dkwX1_band_3 : List UInt8 := [180, 0, 203, 27, 46, 172, 42, 180, 0, 30, 180, 0, 206, 27, 46, 172, 42, 180, 0, 30, 180, 0, 209, 27]
abbrev dktX1_band_3 : List UInt8 := dkwX1_band_3 ++ dktX1_band_4
def dkwX1_band_2 : List UInt8 := [42, 180, 0, 30, 180, 0, 200, 27, 46, 172, 42, 180, 0, 30, 180, 0, 165, 27, 46, 172, 42, 180, 0, 30]
abbrev dktX1_band_2 : List UInt8 := dkwX1_band_2 ++ dktX1_band_3
def dkwX1_band_1 : List UInt8 := [170, 0, 0, 0, 0, 0, 0, 100, 0, 0, 0, 0, 0, 0, 0, 5, 0, 0, 0, 40, 0, 0, 0, 50, 0, 0, 0, 60, 0, 0, 0, 70, 0, 0, 0, 80, 0, 0, 0, 90]
abbrev dktX1_band_1 : List UInt8 := dkwX1_band_1 ++ dktX1_band_2
def dkwX1_band_0 : List UInt8 := [42, 27, 182, 0, 197, 28, 3, 16, 6, 184, 0, 136, 184, 0, 73, 28]
abbrev dktX1_band_0 : List UInt8 := dkwX1_band_0 ++ dktX1_band_1
theorem dksX1_band_0 : cX1_band.data.toList.drop 0 = dktX1_band_0 := by decide +kernel
theorem dksX1_band_1 : cX1_band.data.toList.drop 16 = dktX1_band_1 := dk_seg dksX1_band_0 16 rfl rfl
theorem dksX1_band_2 : cX1_band.data.toList.drop 56 = dktX1_band_2 := dk_seg dksX1_band_1 40 rfl rfl
theorem dksX1_band_3 : cX1_band.data.toList.drop 80 = dktX1_band_3 := dk_seg dksX1_band_2 24 rfl rfl
theorem dksX1_band_4 : cX1_band.data.toList.drop 104 = dktX1_band_4 := dk_seg dksX1_band_3 24 rfl rfl
theorem dksX1_band_5 : cX1_band.data.toList.drop 128 = dktX1_band_5 := dk_seg dksX1_band_4 24 rfl rfl
theorem dX1_band_0 : decode cX1_band 0 = .ok (.aload_n 0, 1) := dk_42 (dk_at dksX1_band_0 0 rfl rfl)
theorem dX1_band_1 : decode cX1_band 1 = .ok (.iload_n 1, 1) := dk_27 (dk_at dksX1_band_0 1 rfl rfl)
theorem dX1_band_2 : decode cX1_band 2 = .ok (.invokevirtual 197, 3) := dk_182 0 197 (dk_at dksX1_band_0 2 rfl rfl)
theorem dX1_band_5 : decode cX1_band 5 = .ok (.iload_n 2, 1) := dk_28 (dk_at dksX1_band_0 5 rfl rfl)
theorem dX1_band_6 : decode cX1_band 6 = .ok (.iconst 0, 1) := dk_3 (dk_at dksX1_band_0 6 rfl rfl)
theorem dX1_band_7 : decode cX1_band 7 = .ok (.bipush 6, 2) := dk_16 6 (dk_at dksX1_band_0 7 rfl rfl)
theorem dX1_band_9 : decode cX1_band 9 = .ok (.invokestatic 136, 3) := dk_184 0 136 (dk_at dksX1_band_0 9 rfl rfl)
theorem dX1_band_12 : decode cX1_band 12 = .ok (.invokestatic 73, 3) := dk_184 0 73 (dk_at dksX1_band_0 12 rfl rfl)
theorem dX1_band_15 : decode cX1_band 15 = .ok (.iload_n 2, 1) := dk_28 (dk_at dksX1_band_0 15 rfl rfl)
theorem dX1_band_16 : decode cX1_band 16 = .ok (.tableswitch 100 0 5 #[40, 50, 60, 70, 80, 90], 40) := by decide +kernel
theorem dX1_band_56 : decode cX1_band 56 = .ok (.aload_n 0, 1) := dk_42 (dk_at dksX1_band_2 0 rfl rfl)
theorem dX1_band_57 : decode cX1_band 57 = .ok (.getfield 30, 3) := dk_180 0 30 (dk_at dksX1_band_2 1 rfl rfl)
theorem dX1_band_60 : decode cX1_band 60 = .ok (.getfield 200, 3) := dk_180 0 200 (dk_at dksX1_band_2 4 rfl rfl)
theorem dX1_band_63 : decode cX1_band 63 = .ok (.iload_n 1, 1) := dk_27 (dk_at dksX1_band_2 7 rfl rfl)
theorem dX1_band_64 : decode cX1_band 64 = .ok (.iaload, 1) := dk_46 (dk_at dksX1_band_2 8 rfl rfl)
theorem dX1_band_65 : decode cX1_band 65 = .ok (.ireturn, 1) := dk_172 (dk_at dksX1_band_2 9 rfl rfl)
theorem dX1_band_66 : decode cX1_band 66 = .ok (.aload_n 0, 1) := dk_42 (dk_at dksX1_band_2 10 rfl rfl)
theorem dX1_band_67 : decode cX1_band 67 = .ok (.getfield 30, 3) := dk_180 0 30 (dk_at dksX1_band_2 11 rfl rfl)
theorem dX1_band_70 : decode cX1_band 70 = .ok (.getfield 165, 3) := dk_180 0 165 (dk_at dksX1_band_2 14 rfl rfl)
theorem dX1_band_73 : decode cX1_band 73 = .ok (.iload_n 1, 1) := dk_27 (dk_at dksX1_band_2 17 rfl rfl)
theorem dX1_band_74 : decode cX1_band 74 = .ok (.iaload, 1) := dk_46 (dk_at dksX1_band_2 18 rfl rfl)
theorem dX1_band_75 : decode cX1_band 75 = .ok (.ireturn, 1) := dk_172 (dk_at dksX1_band_2 19 rfl rfl)
theorem dX1_band_76 : decode cX1_band 76 = .ok (.aload_n 0, 1) := dk_42 (dk_at dksX1_band_2 20 rfl rfl)
theorem dX1_band_77 : decode cX1_band 77 = .ok (.getfield 30, 3) := dk_180 0 30 (dk_at dksX1_band_2 21 rfl rfl)
theorem dX1_band_80 : decode cX1_band 80 = .ok (.getfield 203, 3) := dk_180 0 203 (dk_at dksX1_band_3 0 rfl rfl)
theorem dX1_band_83 : decode cX1_band 83 = .ok (.iload_n 1, 1) := dk_27 (dk_at dksX1_band_3 3 rfl rfl)
theorem dX1_band_84 : decode cX1_band 84 = .ok (.iaload, 1) := dk_46 (dk_at dksX1_band_3 4 rfl rfl)
theorem dX1_band_85 : decode cX1_band 85 = .ok (.ireturn, 1) := dk_172 (dk_at dksX1_band_3 5 rfl rfl)
theorem dX1_band_86 : decode cX1_band 86 = .ok (.aload_n 0, 1) := dk_42 (dk_at dksX1_band_3 6 rfl rfl)
theorem dX1_band_87 : decode cX1_band 87 = .ok (.getfield 30, 3) := dk_180 0 30 (dk_at dksX1_band_3 7 rfl rfl)
theorem dX1_band_90 : decode cX1_band 90 = .ok (.getfield 206, 3) := dk_180 0 206 (dk_at dksX1_band_3 10 rfl rfl)
theorem dX1_band_93 : decode cX1_band 93 = .ok (.iload_n 1, 1) := dk_27 (dk_at dksX1_band_3 13 rfl rfl)
theorem dX1_band_94 : decode cX1_band 94 = .ok (.iaload, 1) := dk_46 (dk_at dksX1_band_3 14 rfl rfl)
theorem dX1_band_95 : decode cX1_band 95 = .ok (.ireturn, 1) := dk_172 (dk_at dksX1_band_3 15 rfl rfl)
theorem dX1_band_96 : decode cX1_band 96 = .ok (.aload_n 0, 1) := dk_42 (dk_at dksX1_band_3 16 rfl rfl)
theorem dX1_band_97 : decode cX1_band 97 = .ok (.getfield 30, 3) := dk_180 0 30 (dk_at dksX1_band_3 17 rfl rfl)
theorem dX1_band_100 : decode cX1_band 100 = .ok (.getfield 209, 3) := dk_180 0 209 (dk_at dksX1_band_3 20 rfl rfl)
theorem dX1_band_103 : decode cX1_band 103 = .ok (.iload_n 1, 1) := dk_27 (dk_at dksX1_band_3 23 rfl rfl)
theorem dX1_band_104 : decode cX1_band 104 = .ok (.iaload, 1) := dk_46 (dk_at dksX1_band_4 0 rfl rfl)
theorem dX1_band_105 : decode cX1_band 105 = .ok (.ireturn, 1) := dk_172 (dk_at dksX1_band_4 1 rfl rfl)
theorem dX1_band_106 : decode cX1_band 106 = .ok (.aload_n 0, 1) := dk_42 (dk_at dksX1_band_4 2 rfl rfl)
theorem dX1_band_107 : decode cX1_band 107 = .ok (.getfield 30, 3) := dk_180 0 30 (dk_at dksX1_band_4 3 rfl rfl)
theorem dX1_band_110 : decode cX1_band 110 = .ok (.getfield 212, 3) := dk_180 0 212 (dk_at dksX1_band_4 6 rfl rfl)
theorem dX1_band_113 : decode cX1_band 113 = .ok (.iload_n 1, 1) := dk_27 (dk_at dksX1_band_4 9 rfl rfl)
theorem dX1_band_114 : decode cX1_band 114 = .ok (.iaload, 1) := dk_46 (dk_at dksX1_band_4 10 rfl rfl)
theorem dX1_band_115 : decode cX1_band 115 = .ok (.ireturn, 1) := dk_172 (dk_at dksX1_band_4 11 rfl rfl)
theorem dX1_band_116 : decode cX1_band 116 = .ok (.aload_n 0, 1) := dk_42 (dk_at dksX1_band_4 12 rfl rfl)
theorem dX1_band_117 : decode cX1_band 117 = .ok (.getfield 30, 3) := dk_180 0 30 (dk_at dksX1_band_4 13 rfl rfl)
theorem dX1_band_120 : decode cX1_band 120 = .ok (.aload_n 0, 1) := dk_42 (dk_at dksX1_band_4 16 rfl rfl)
theorem dX1_band_121 : decode cX1_band 121 = .ok (.getfield 10, 3) := dk_180 0 10 (dk_at dksX1_band_4 17 rfl rfl)
theorem dX1_band_124 : decode cX1_band 124 = .ok (.iload_n 1, 1) := dk_27 (dk_at dksX1_band_4 20 rfl rfl)
theorem dX1_band_125 : decode cX1_band 125 = .ok (.invokevirtual 215, 3) := dk_182 0 215 (dk_at dksX1_band_4 21 rfl rfl)
theorem dX1_band_128 : decode cX1_band 128 = .ok (.ireturn, 1) := dk_172 (dk_at dksX1_band_5 0 rfl rfl)
abbrev cX1_bandAt : ByteArray := prog_1_method_8_code
def yX1_bandAt : MethodName := ⟨RX1, "bandAt", "(I)V"⟩
def dkwX1_bandAt_0 : List UInt8 := [27, 155, 0, 15, 27, 42, 182, 0, 83, 162, 0, 7, 4, 167, 0, 4, 3, 184, 0, 73, 177]
abbrev dktX1_bandAt_0 : List UInt8 := dkwX1_bandAt_0 ++ []
theorem dksX1_bandAt_0 : cX1_bandAt.data.toList.drop 0 = dktX1_bandAt_0 := by decide +kernel
theorem dX1_bandAt_0 : decode cX1_bandAt 0 = .ok (.iload_n 1, 1) := dk_27 (dk_at dksX1_bandAt_0 0 rfl rfl)
theorem dX1_bandAt_1 : decode cX1_bandAt 1 = .ok (.ifCond .lt 15, 3) := dk_155 0 15 (dk_at dksX1_bandAt_0 1 rfl rfl)
theorem dX1_bandAt_4 : decode cX1_bandAt 4 = .ok (.iload_n 1, 1) := dk_27 (dk_at dksX1_bandAt_0 4 rfl rfl)
theorem dX1_bandAt_5 : decode cX1_bandAt 5 = .ok (.aload_n 0, 1) := dk_42 (dk_at dksX1_bandAt_0 5 rfl rfl)
theorem dX1_bandAt_6 : decode cX1_bandAt 6 = .ok (.invokevirtual 83, 3) := dk_182 0 83 (dk_at dksX1_bandAt_0 6 rfl rfl)
theorem dX1_bandAt_9 : decode cX1_bandAt 9 = .ok (.if_icmp .ge 7, 3) := dk_162 0 7 (dk_at dksX1_bandAt_0 9 rfl rfl)
theorem dX1_bandAt_12 : decode cX1_bandAt 12 = .ok (.iconst 1, 1) := dk_4 (dk_at dksX1_bandAt_0 12 rfl rfl)
theorem dX1_bandAt_13 : decode cX1_bandAt 13 = .ok (.goto 4, 3) := dk_167 0 4 (dk_at dksX1_bandAt_0 13 rfl rfl)
theorem dX1_bandAt_16 : decode cX1_bandAt 16 = .ok (.iconst 0, 1) := dk_3 (dk_at dksX1_bandAt_0 16 rfl rfl)
theorem dX1_bandAt_17 : decode cX1_bandAt 17 = .ok (.invokestatic 73, 3) := dk_184 0 73 (dk_at dksX1_bandAt_0 17 rfl rfl)
theorem dX1_bandAt_20 : decode cX1_bandAt 20 = .ok (.return_, 1) := dk_177 (dk_at dksX1_bandAt_0 20 rfl rfl)
abbrev cX1_move : ByteArray := prog_1_method_22_code
def yX1_move : MethodName := ⟨RX1, "move", "(II)I"⟩
def dkwX1_move_2 : List UInt8 := [28, 79, 29, 172]
abbrev dktX1_move_2 : List UInt8 := dkwX1_move_2 ++ []
def dkwX1_move_1 : List UInt8 := [180, 0, 10, 29, 28, 182, 0, 168, 182, 0, 225, 154, 0, 5, 2, 172, 42, 180, 0, 30, 180, 0, 165, 27]
abbrev dktX1_move_1 : List UInt8 := dkwX1_move_1 ++ dktX1_move_2
def dkwX1_move_0 : List UInt8 := [42, 27, 182, 0, 197, 42, 28, 182, 0, 172, 87, 42, 180, 0, 30, 180, 0, 165, 27, 46, 62, 42, 42]
abbrev dktX1_move_0 : List UInt8 := dkwX1_move_0 ++ dktX1_move_1
theorem dksX1_move_0 : cX1_move.data.toList.drop 0 = dktX1_move_0 := by decide +kernel
theorem dksX1_move_1 : cX1_move.data.toList.drop 23 = dktX1_move_1 := dk_seg dksX1_move_0 23 rfl rfl
theorem dksX1_move_2 : cX1_move.data.toList.drop 47 = dktX1_move_2 := dk_seg dksX1_move_1 24 rfl rfl
theorem dX1_move_0 : decode cX1_move 0 = .ok (.aload_n 0, 1) := dk_42 (dk_at dksX1_move_0 0 rfl rfl)
theorem dX1_move_1 : decode cX1_move 1 = .ok (.iload_n 1, 1) := dk_27 (dk_at dksX1_move_0 1 rfl rfl)
theorem dX1_move_2 : decode cX1_move 2 = .ok (.invokevirtual 197, 3) := dk_182 0 197 (dk_at dksX1_move_0 2 rfl rfl)
theorem dX1_move_5 : decode cX1_move 5 = .ok (.aload_n 0, 1) := dk_42 (dk_at dksX1_move_0 5 rfl rfl)
theorem dX1_move_6 : decode cX1_move 6 = .ok (.iload_n 2, 1) := dk_28 (dk_at dksX1_move_0 6 rfl rfl)
theorem dX1_move_7 : decode cX1_move 7 = .ok (.invokevirtual 172, 3) := dk_182 0 172 (dk_at dksX1_move_0 7 rfl rfl)
theorem dX1_move_10 : decode cX1_move 10 = .ok (.pop, 1) := dk_87 (dk_at dksX1_move_0 10 rfl rfl)
theorem dX1_move_11 : decode cX1_move 11 = .ok (.aload_n 0, 1) := dk_42 (dk_at dksX1_move_0 11 rfl rfl)
theorem dX1_move_12 : decode cX1_move 12 = .ok (.getfield 30, 3) := dk_180 0 30 (dk_at dksX1_move_0 12 rfl rfl)
theorem dX1_move_15 : decode cX1_move 15 = .ok (.getfield 165, 3) := dk_180 0 165 (dk_at dksX1_move_0 15 rfl rfl)
theorem dX1_move_18 : decode cX1_move 18 = .ok (.iload_n 1, 1) := dk_27 (dk_at dksX1_move_0 18 rfl rfl)
theorem dX1_move_19 : decode cX1_move 19 = .ok (.iaload, 1) := dk_46 (dk_at dksX1_move_0 19 rfl rfl)
theorem dX1_move_20 : decode cX1_move 20 = .ok (.istore_n 3, 1) := dk_62 (dk_at dksX1_move_0 20 rfl rfl)
theorem dX1_move_21 : decode cX1_move 21 = .ok (.aload_n 0, 1) := dk_42 (dk_at dksX1_move_0 21 rfl rfl)
theorem dX1_move_22 : decode cX1_move 22 = .ok (.aload_n 0, 1) := dk_42 (dk_at dksX1_move_0 22 rfl rfl)
theorem dX1_move_23 : decode cX1_move 23 = .ok (.getfield 10, 3) := dk_180 0 10 (dk_at dksX1_move_1 0 rfl rfl)
theorem dX1_move_26 : decode cX1_move 26 = .ok (.iload_n 3, 1) := dk_29 (dk_at dksX1_move_1 3 rfl rfl)
theorem dX1_move_27 : decode cX1_move 27 = .ok (.iload_n 2, 1) := dk_28 (dk_at dksX1_move_1 4 rfl rfl)
theorem dX1_move_28 : decode cX1_move 28 = .ok (.invokevirtual 168, 3) := dk_182 0 168 (dk_at dksX1_move_1 5 rfl rfl)
theorem dX1_move_31 : decode cX1_move 31 = .ok (.invokevirtual 225, 3) := dk_182 0 225 (dk_at dksX1_move_1 8 rfl rfl)
theorem dX1_move_34 : decode cX1_move 34 = .ok (.ifCond .ne 5, 3) := dk_154 0 5 (dk_at dksX1_move_1 11 rfl rfl)
theorem dX1_move_37 : decode cX1_move 37 = .ok (.iconst (-1), 1) := dk_2 (dk_at dksX1_move_1 14 rfl rfl)
theorem dX1_move_38 : decode cX1_move 38 = .ok (.ireturn, 1) := dk_172 (dk_at dksX1_move_1 15 rfl rfl)
theorem dX1_move_39 : decode cX1_move 39 = .ok (.aload_n 0, 1) := dk_42 (dk_at dksX1_move_1 16 rfl rfl)
theorem dX1_move_40 : decode cX1_move 40 = .ok (.getfield 30, 3) := dk_180 0 30 (dk_at dksX1_move_1 17 rfl rfl)
theorem dX1_move_43 : decode cX1_move 43 = .ok (.getfield 165, 3) := dk_180 0 165 (dk_at dksX1_move_1 20 rfl rfl)
theorem dX1_move_46 : decode cX1_move 46 = .ok (.iload_n 1, 1) := dk_27 (dk_at dksX1_move_1 23 rfl rfl)
theorem dX1_move_47 : decode cX1_move 47 = .ok (.iload_n 2, 1) := dk_28 (dk_at dksX1_move_2 0 rfl rfl)
theorem dX1_move_48 : decode cX1_move 48 = .ok (.iastore, 1) := dk_79 (dk_at dksX1_move_2 1 rfl rfl)
theorem dX1_move_49 : decode cX1_move 49 = .ok (.iload_n 3, 1) := dk_29 (dk_at dksX1_move_2 2 rfl rfl)
theorem dX1_move_50 : decode cX1_move 50 = .ok (.ireturn, 1) := dk_172 (dk_at dksX1_move_2 3 rfl rfl)
abbrev cX1_bows : ByteArray := prog_1_method_23_code
def yX1_bows : MethodName := ⟨RX1, "bows", "(II)I"⟩
def dkwX1_bows_1 : List UInt8 := [180, 0, 30, 180, 0, 203, 27, 46, 62, 42, 180, 0, 30, 180, 0, 203, 27, 28, 79, 29, 172]
abbrev dktX1_bows_1 : List UInt8 := dkwX1_bows_1 ++ []
def dkwX1_bows_0 : List UInt8 := [42, 27, 182, 0, 197, 42, 28, 3, 16, 30, 184, 0, 136, 182, 0, 225, 154, 0, 5, 2, 172, 42]
abbrev dktX1_bows_0 : List UInt8 := dkwX1_bows_0 ++ dktX1_bows_1
theorem dksX1_bows_0 : cX1_bows.data.toList.drop 0 = dktX1_bows_0 := by decide +kernel
theorem dksX1_bows_1 : cX1_bows.data.toList.drop 22 = dktX1_bows_1 := dk_seg dksX1_bows_0 22 rfl rfl
theorem dX1_bows_0 : decode cX1_bows 0 = .ok (.aload_n 0, 1) := dk_42 (dk_at dksX1_bows_0 0 rfl rfl)
theorem dX1_bows_1 : decode cX1_bows 1 = .ok (.iload_n 1, 1) := dk_27 (dk_at dksX1_bows_0 1 rfl rfl)
theorem dX1_bows_2 : decode cX1_bows 2 = .ok (.invokevirtual 197, 3) := dk_182 0 197 (dk_at dksX1_bows_0 2 rfl rfl)
theorem dX1_bows_5 : decode cX1_bows 5 = .ok (.aload_n 0, 1) := dk_42 (dk_at dksX1_bows_0 5 rfl rfl)
theorem dX1_bows_6 : decode cX1_bows 6 = .ok (.iload_n 2, 1) := dk_28 (dk_at dksX1_bows_0 6 rfl rfl)
theorem dX1_bows_7 : decode cX1_bows 7 = .ok (.iconst 0, 1) := dk_3 (dk_at dksX1_bows_0 7 rfl rfl)
theorem dX1_bows_8 : decode cX1_bows 8 = .ok (.bipush 30, 2) := dk_16 30 (dk_at dksX1_bows_0 8 rfl rfl)
theorem dX1_bows_10 : decode cX1_bows 10 = .ok (.invokestatic 136, 3) := dk_184 0 136 (dk_at dksX1_bows_0 10 rfl rfl)
theorem dX1_bows_13 : decode cX1_bows 13 = .ok (.invokevirtual 225, 3) := dk_182 0 225 (dk_at dksX1_bows_0 13 rfl rfl)
theorem dX1_bows_16 : decode cX1_bows 16 = .ok (.ifCond .ne 5, 3) := dk_154 0 5 (dk_at dksX1_bows_0 16 rfl rfl)
theorem dX1_bows_19 : decode cX1_bows 19 = .ok (.iconst (-1), 1) := dk_2 (dk_at dksX1_bows_0 19 rfl rfl)
theorem dX1_bows_20 : decode cX1_bows 20 = .ok (.ireturn, 1) := dk_172 (dk_at dksX1_bows_0 20 rfl rfl)
theorem dX1_bows_21 : decode cX1_bows 21 = .ok (.aload_n 0, 1) := dk_42 (dk_at dksX1_bows_0 21 rfl rfl)
theorem dX1_bows_22 : decode cX1_bows 22 = .ok (.getfield 30, 3) := dk_180 0 30 (dk_at dksX1_bows_1 0 rfl rfl)
theorem dX1_bows_25 : decode cX1_bows 25 = .ok (.getfield 203, 3) := dk_180 0 203 (dk_at dksX1_bows_1 3 rfl rfl)
theorem dX1_bows_28 : decode cX1_bows 28 = .ok (.iload_n 1, 1) := dk_27 (dk_at dksX1_bows_1 6 rfl rfl)
theorem dX1_bows_29 : decode cX1_bows 29 = .ok (.iaload, 1) := dk_46 (dk_at dksX1_bows_1 7 rfl rfl)
theorem dX1_bows_30 : decode cX1_bows 30 = .ok (.istore_n 3, 1) := dk_62 (dk_at dksX1_bows_1 8 rfl rfl)
theorem dX1_bows_31 : decode cX1_bows 31 = .ok (.aload_n 0, 1) := dk_42 (dk_at dksX1_bows_1 9 rfl rfl)
theorem dX1_bows_32 : decode cX1_bows 32 = .ok (.getfield 30, 3) := dk_180 0 30 (dk_at dksX1_bows_1 10 rfl rfl)
theorem dX1_bows_35 : decode cX1_bows 35 = .ok (.getfield 203, 3) := dk_180 0 203 (dk_at dksX1_bows_1 13 rfl rfl)
theorem dX1_bows_38 : decode cX1_bows 38 = .ok (.iload_n 1, 1) := dk_27 (dk_at dksX1_bows_1 16 rfl rfl)
theorem dX1_bows_39 : decode cX1_bows 39 = .ok (.iload_n 2, 1) := dk_28 (dk_at dksX1_bows_1 17 rfl rfl)
theorem dX1_bows_40 : decode cX1_bows 40 = .ok (.iastore, 1) := dk_79 (dk_at dksX1_bows_1 18 rfl rfl)
theorem dX1_bows_41 : decode cX1_bows 41 = .ok (.iload_n 3, 1) := dk_29 (dk_at dksX1_bows_1 19 rfl rfl)
theorem dX1_bows_42 : decode cX1_bows 42 = .ok (.ireturn, 1) := dk_172 (dk_at dksX1_bows_1 20 rfl rfl)
abbrev cX1_rest : ByteArray := prog_1_method_24_code
def yX1_rest : MethodName := ⟨RX1, "rest", "(II)I"⟩
def dkwX1_rest_1 : List UInt8 := [180, 0, 30, 180, 0, 188, 27, 46, 62, 42, 180, 0, 30, 180, 0, 188, 27, 28, 79, 29, 172]
abbrev dktX1_rest_1 : List UInt8 := dkwX1_rest_1 ++ []
def dkwX1_rest_0 : List UInt8 := [42, 27, 182, 0, 172, 87, 42, 28, 3, 16, 50, 184, 0, 136, 182, 0, 225, 154, 0, 5, 2, 172, 42]
abbrev dktX1_rest_0 : List UInt8 := dkwX1_rest_0 ++ dktX1_rest_1
theorem dksX1_rest_0 : cX1_rest.data.toList.drop 0 = dktX1_rest_0 := by decide +kernel
theorem dksX1_rest_1 : cX1_rest.data.toList.drop 23 = dktX1_rest_1 := dk_seg dksX1_rest_0 23 rfl rfl
theorem dX1_rest_0 : decode cX1_rest 0 = .ok (.aload_n 0, 1) := dk_42 (dk_at dksX1_rest_0 0 rfl rfl)
theorem dX1_rest_1 : decode cX1_rest 1 = .ok (.iload_n 1, 1) := dk_27 (dk_at dksX1_rest_0 1 rfl rfl)
theorem dX1_rest_2 : decode cX1_rest 2 = .ok (.invokevirtual 172, 3) := dk_182 0 172 (dk_at dksX1_rest_0 2 rfl rfl)
theorem dX1_rest_5 : decode cX1_rest 5 = .ok (.pop, 1) := dk_87 (dk_at dksX1_rest_0 5 rfl rfl)
theorem dX1_rest_6 : decode cX1_rest 6 = .ok (.aload_n 0, 1) := dk_42 (dk_at dksX1_rest_0 6 rfl rfl)
theorem dX1_rest_7 : decode cX1_rest 7 = .ok (.iload_n 2, 1) := dk_28 (dk_at dksX1_rest_0 7 rfl rfl)
theorem dX1_rest_8 : decode cX1_rest 8 = .ok (.iconst 0, 1) := dk_3 (dk_at dksX1_rest_0 8 rfl rfl)
theorem dX1_rest_9 : decode cX1_rest 9 = .ok (.bipush 50, 2) := dk_16 50 (dk_at dksX1_rest_0 9 rfl rfl)
theorem dX1_rest_11 : decode cX1_rest 11 = .ok (.invokestatic 136, 3) := dk_184 0 136 (dk_at dksX1_rest_0 11 rfl rfl)
theorem dX1_rest_14 : decode cX1_rest 14 = .ok (.invokevirtual 225, 3) := dk_182 0 225 (dk_at dksX1_rest_0 14 rfl rfl)
theorem dX1_rest_17 : decode cX1_rest 17 = .ok (.ifCond .ne 5, 3) := dk_154 0 5 (dk_at dksX1_rest_0 17 rfl rfl)
theorem dX1_rest_20 : decode cX1_rest 20 = .ok (.iconst (-1), 1) := dk_2 (dk_at dksX1_rest_0 20 rfl rfl)
theorem dX1_rest_21 : decode cX1_rest 21 = .ok (.ireturn, 1) := dk_172 (dk_at dksX1_rest_0 21 rfl rfl)
theorem dX1_rest_22 : decode cX1_rest 22 = .ok (.aload_n 0, 1) := dk_42 (dk_at dksX1_rest_0 22 rfl rfl)
theorem dX1_rest_23 : decode cX1_rest 23 = .ok (.getfield 30, 3) := dk_180 0 30 (dk_at dksX1_rest_1 0 rfl rfl)
theorem dX1_rest_26 : decode cX1_rest 26 = .ok (.getfield 188, 3) := dk_180 0 188 (dk_at dksX1_rest_1 3 rfl rfl)
theorem dX1_rest_29 : decode cX1_rest 29 = .ok (.iload_n 1, 1) := dk_27 (dk_at dksX1_rest_1 6 rfl rfl)
theorem dX1_rest_30 : decode cX1_rest 30 = .ok (.iaload, 1) := dk_46 (dk_at dksX1_rest_1 7 rfl rfl)
theorem dX1_rest_31 : decode cX1_rest 31 = .ok (.istore_n 3, 1) := dk_62 (dk_at dksX1_rest_1 8 rfl rfl)
theorem dX1_rest_32 : decode cX1_rest 32 = .ok (.aload_n 0, 1) := dk_42 (dk_at dksX1_rest_1 9 rfl rfl)
theorem dX1_rest_33 : decode cX1_rest 33 = .ok (.getfield 30, 3) := dk_180 0 30 (dk_at dksX1_rest_1 10 rfl rfl)
theorem dX1_rest_36 : decode cX1_rest 36 = .ok (.getfield 188, 3) := dk_180 0 188 (dk_at dksX1_rest_1 13 rfl rfl)
theorem dX1_rest_39 : decode cX1_rest 39 = .ok (.iload_n 1, 1) := dk_27 (dk_at dksX1_rest_1 16 rfl rfl)
theorem dX1_rest_40 : decode cX1_rest 40 = .ok (.iload_n 2, 1) := dk_28 (dk_at dksX1_rest_1 17 rfl rfl)
theorem dX1_rest_41 : decode cX1_rest 41 = .ok (.iastore, 1) := dk_79 (dk_at dksX1_rest_1 18 rfl rfl)
theorem dX1_rest_42 : decode cX1_rest 42 = .ok (.iload_n 3, 1) := dk_29 (dk_at dksX1_rest_1 19 rfl rfl)
theorem dX1_rest_43 : decode cX1_rest 43 = .ok (.ireturn, 1) := dk_172 (dk_at dksX1_rest_1 20 rfl rfl)
abbrev cX1_dye : ByteArray := prog_1_method_25_code
def yX1_dye : MethodName := ⟨RX1, "dye", "(II)I"⟩
def dkwX1_dye_2 : List UInt8 := [79, 42, 180, 0, 30, 180, 0, 206, 27, 46, 172]
abbrev dktX1_dye_2 : List UInt8 := dkwX1_dye_2 ++ []
def dkwX1_dye_1 : List UInt8 := [180, 0, 30, 180, 0, 206, 27, 17, 39, 15, 42, 180, 0, 30, 180, 0, 206, 27, 46, 28, 96, 184, 0, 232]
abbrev dktX1_dye_1 : List UInt8 := dkwX1_dye_1 ++ dktX1_dye_2
def dkwX1_dye_0 : List UInt8 := [42, 27, 182, 0, 197, 42, 28, 4, 16, 99, 184, 0, 136, 182, 0, 225, 154, 0, 5, 2, 172, 42]
abbrev dktX1_dye_0 : List UInt8 := dkwX1_dye_0 ++ dktX1_dye_1
theorem dksX1_dye_0 : cX1_dye.data.toList.drop 0 = dktX1_dye_0 := by decide +kernel
theorem dksX1_dye_1 : cX1_dye.data.toList.drop 22 = dktX1_dye_1 := dk_seg dksX1_dye_0 22 rfl rfl
theorem dksX1_dye_2 : cX1_dye.data.toList.drop 46 = dktX1_dye_2 := dk_seg dksX1_dye_1 24 rfl rfl
theorem dX1_dye_0 : decode cX1_dye 0 = .ok (.aload_n 0, 1) := dk_42 (dk_at dksX1_dye_0 0 rfl rfl)
theorem dX1_dye_1 : decode cX1_dye 1 = .ok (.iload_n 1, 1) := dk_27 (dk_at dksX1_dye_0 1 rfl rfl)
theorem dX1_dye_2 : decode cX1_dye 2 = .ok (.invokevirtual 197, 3) := dk_182 0 197 (dk_at dksX1_dye_0 2 rfl rfl)
theorem dX1_dye_5 : decode cX1_dye 5 = .ok (.aload_n 0, 1) := dk_42 (dk_at dksX1_dye_0 5 rfl rfl)
theorem dX1_dye_6 : decode cX1_dye 6 = .ok (.iload_n 2, 1) := dk_28 (dk_at dksX1_dye_0 6 rfl rfl)
theorem dX1_dye_7 : decode cX1_dye 7 = .ok (.iconst 1, 1) := dk_4 (dk_at dksX1_dye_0 7 rfl rfl)
theorem dX1_dye_8 : decode cX1_dye 8 = .ok (.bipush 99, 2) := dk_16 99 (dk_at dksX1_dye_0 8 rfl rfl)
theorem dX1_dye_10 : decode cX1_dye 10 = .ok (.invokestatic 136, 3) := dk_184 0 136 (dk_at dksX1_dye_0 10 rfl rfl)
theorem dX1_dye_13 : decode cX1_dye 13 = .ok (.invokevirtual 225, 3) := dk_182 0 225 (dk_at dksX1_dye_0 13 rfl rfl)
theorem dX1_dye_16 : decode cX1_dye 16 = .ok (.ifCond .ne 5, 3) := dk_154 0 5 (dk_at dksX1_dye_0 16 rfl rfl)
theorem dX1_dye_19 : decode cX1_dye 19 = .ok (.iconst (-1), 1) := dk_2 (dk_at dksX1_dye_0 19 rfl rfl)
theorem dX1_dye_20 : decode cX1_dye 20 = .ok (.ireturn, 1) := dk_172 (dk_at dksX1_dye_0 20 rfl rfl)
theorem dX1_dye_21 : decode cX1_dye 21 = .ok (.aload_n 0, 1) := dk_42 (dk_at dksX1_dye_0 21 rfl rfl)
theorem dX1_dye_22 : decode cX1_dye 22 = .ok (.getfield 30, 3) := dk_180 0 30 (dk_at dksX1_dye_1 0 rfl rfl)
theorem dX1_dye_25 : decode cX1_dye 25 = .ok (.getfield 206, 3) := dk_180 0 206 (dk_at dksX1_dye_1 3 rfl rfl)
theorem dX1_dye_28 : decode cX1_dye 28 = .ok (.iload_n 1, 1) := dk_27 (dk_at dksX1_dye_1 6 rfl rfl)
theorem dX1_dye_29 : decode cX1_dye 29 = .ok (.sipush 9999, 3) := dk_17 39 15 (dk_at dksX1_dye_1 7 rfl rfl)
theorem dX1_dye_32 : decode cX1_dye 32 = .ok (.aload_n 0, 1) := dk_42 (dk_at dksX1_dye_1 10 rfl rfl)
theorem dX1_dye_33 : decode cX1_dye 33 = .ok (.getfield 30, 3) := dk_180 0 30 (dk_at dksX1_dye_1 11 rfl rfl)
theorem dX1_dye_36 : decode cX1_dye 36 = .ok (.getfield 206, 3) := dk_180 0 206 (dk_at dksX1_dye_1 14 rfl rfl)
theorem dX1_dye_39 : decode cX1_dye 39 = .ok (.iload_n 1, 1) := dk_27 (dk_at dksX1_dye_1 17 rfl rfl)
theorem dX1_dye_40 : decode cX1_dye 40 = .ok (.iaload, 1) := dk_46 (dk_at dksX1_dye_1 18 rfl rfl)
theorem dX1_dye_41 : decode cX1_dye 41 = .ok (.iload_n 2, 1) := dk_28 (dk_at dksX1_dye_1 19 rfl rfl)
theorem dX1_dye_42 : decode cX1_dye 42 = .ok (.iadd, 1) := dk_96 (dk_at dksX1_dye_1 20 rfl rfl)
theorem dX1_dye_43 : decode cX1_dye 43 = .ok (.invokestatic 232, 3) := dk_184 0 232 (dk_at dksX1_dye_1 21 rfl rfl)
theorem dX1_dye_46 : decode cX1_dye 46 = .ok (.iastore, 1) := dk_79 (dk_at dksX1_dye_2 0 rfl rfl)
theorem dX1_dye_47 : decode cX1_dye 47 = .ok (.aload_n 0, 1) := dk_42 (dk_at dksX1_dye_2 1 rfl rfl)
theorem dX1_dye_48 : decode cX1_dye 48 = .ok (.getfield 30, 3) := dk_180 0 30 (dk_at dksX1_dye_2 2 rfl rfl)
theorem dX1_dye_51 : decode cX1_dye 51 = .ok (.getfield 206, 3) := dk_180 0 206 (dk_at dksX1_dye_2 5 rfl rfl)
theorem dX1_dye_54 : decode cX1_dye 54 = .ok (.iload_n 1, 1) := dk_27 (dk_at dksX1_dye_2 8 rfl rfl)
theorem dX1_dye_55 : decode cX1_dye 55 = .ok (.iaload, 1) := dk_46 (dk_at dksX1_dye_2 9 rfl rfl)
theorem dX1_dye_56 : decode cX1_dye 56 = .ok (.ireturn, 1) := dk_172 (dk_at dksX1_dye_2 10 rfl rfl)
abbrev cX1_forgive : ByteArray := prog_1_method_26_code
def yX1_forgive : MethodName := ⟨RX1, "forgive", "(I)I"⟩
def dkwX1_forgive_1 : List UInt8 := [3, 182, 0, 225, 154, 0, 5, 2, 172, 42, 180, 0, 30, 180, 0, 209, 27, 3, 79, 28, 172]
abbrev dktX1_forgive_1 : List UInt8 := dkwX1_forgive_1 ++ []
def dkwX1_forgive_0 : List UInt8 := [42, 27, 182, 0, 197, 42, 180, 0, 30, 180, 0, 209, 27, 46, 61, 42, 28, 158, 0, 7, 4, 167, 0, 4]
abbrev dktX1_forgive_0 : List UInt8 := dkwX1_forgive_0 ++ dktX1_forgive_1
theorem dksX1_forgive_0 : cX1_forgive.data.toList.drop 0 = dktX1_forgive_0 := by decide +kernel
theorem dksX1_forgive_1 : cX1_forgive.data.toList.drop 24 = dktX1_forgive_1 := dk_seg dksX1_forgive_0 24 rfl rfl
theorem dX1_forgive_0 : decode cX1_forgive 0 = .ok (.aload_n 0, 1) := dk_42 (dk_at dksX1_forgive_0 0 rfl rfl)
theorem dX1_forgive_1 : decode cX1_forgive 1 = .ok (.iload_n 1, 1) := dk_27 (dk_at dksX1_forgive_0 1 rfl rfl)
theorem dX1_forgive_2 : decode cX1_forgive 2 = .ok (.invokevirtual 197, 3) := dk_182 0 197 (dk_at dksX1_forgive_0 2 rfl rfl)
theorem dX1_forgive_5 : decode cX1_forgive 5 = .ok (.aload_n 0, 1) := dk_42 (dk_at dksX1_forgive_0 5 rfl rfl)
theorem dX1_forgive_6 : decode cX1_forgive 6 = .ok (.getfield 30, 3) := dk_180 0 30 (dk_at dksX1_forgive_0 6 rfl rfl)
theorem dX1_forgive_9 : decode cX1_forgive 9 = .ok (.getfield 209, 3) := dk_180 0 209 (dk_at dksX1_forgive_0 9 rfl rfl)
theorem dX1_forgive_12 : decode cX1_forgive 12 = .ok (.iload_n 1, 1) := dk_27 (dk_at dksX1_forgive_0 12 rfl rfl)
theorem dX1_forgive_13 : decode cX1_forgive 13 = .ok (.iaload, 1) := dk_46 (dk_at dksX1_forgive_0 13 rfl rfl)
theorem dX1_forgive_14 : decode cX1_forgive 14 = .ok (.istore_n 2, 1) := dk_61 (dk_at dksX1_forgive_0 14 rfl rfl)
theorem dX1_forgive_15 : decode cX1_forgive 15 = .ok (.aload_n 0, 1) := dk_42 (dk_at dksX1_forgive_0 15 rfl rfl)
theorem dX1_forgive_16 : decode cX1_forgive 16 = .ok (.iload_n 2, 1) := dk_28 (dk_at dksX1_forgive_0 16 rfl rfl)
theorem dX1_forgive_17 : decode cX1_forgive 17 = .ok (.ifCond .le 7, 3) := dk_158 0 7 (dk_at dksX1_forgive_0 17 rfl rfl)
theorem dX1_forgive_20 : decode cX1_forgive 20 = .ok (.iconst 1, 1) := dk_4 (dk_at dksX1_forgive_0 20 rfl rfl)
theorem dX1_forgive_21 : decode cX1_forgive 21 = .ok (.goto 4, 3) := dk_167 0 4 (dk_at dksX1_forgive_0 21 rfl rfl)
theorem dX1_forgive_24 : decode cX1_forgive 24 = .ok (.iconst 0, 1) := dk_3 (dk_at dksX1_forgive_1 0 rfl rfl)
theorem dX1_forgive_25 : decode cX1_forgive 25 = .ok (.invokevirtual 225, 3) := dk_182 0 225 (dk_at dksX1_forgive_1 1 rfl rfl)
theorem dX1_forgive_28 : decode cX1_forgive 28 = .ok (.ifCond .ne 5, 3) := dk_154 0 5 (dk_at dksX1_forgive_1 4 rfl rfl)
theorem dX1_forgive_31 : decode cX1_forgive 31 = .ok (.iconst (-1), 1) := dk_2 (dk_at dksX1_forgive_1 7 rfl rfl)
theorem dX1_forgive_32 : decode cX1_forgive 32 = .ok (.ireturn, 1) := dk_172 (dk_at dksX1_forgive_1 8 rfl rfl)
theorem dX1_forgive_33 : decode cX1_forgive 33 = .ok (.aload_n 0, 1) := dk_42 (dk_at dksX1_forgive_1 9 rfl rfl)
theorem dX1_forgive_34 : decode cX1_forgive 34 = .ok (.getfield 30, 3) := dk_180 0 30 (dk_at dksX1_forgive_1 10 rfl rfl)
theorem dX1_forgive_37 : decode cX1_forgive 37 = .ok (.getfield 209, 3) := dk_180 0 209 (dk_at dksX1_forgive_1 13 rfl rfl)
theorem dX1_forgive_40 : decode cX1_forgive 40 = .ok (.iload_n 1, 1) := dk_27 (dk_at dksX1_forgive_1 16 rfl rfl)
theorem dX1_forgive_41 : decode cX1_forgive 41 = .ok (.iconst 0, 1) := dk_3 (dk_at dksX1_forgive_1 17 rfl rfl)
theorem dX1_forgive_42 : decode cX1_forgive 42 = .ok (.iastore, 1) := dk_79 (dk_at dksX1_forgive_1 18 rfl rfl)
theorem dX1_forgive_43 : decode cX1_forgive 43 = .ok (.iload_n 2, 1) := dk_28 (dk_at dksX1_forgive_1 19 rfl rfl)
theorem dX1_forgive_44 : decode cX1_forgive 44 = .ok (.ireturn, 1) := dk_172 (dk_at dksX1_forgive_1 20 rfl rfl)
abbrev cX1_then : ByteArray := prog_1_method_29_code
def yX1_then : MethodName := ⟨RX1, "then", "(II)I"⟩
def dkwX1_then_1 : List UInt8 := [182, 0, 241, 42, 28, 182, 0, 245, 42, 180, 0, 34, 180, 0, 176, 27, 46, 172]
abbrev dktX1_then_1 : List UInt8 := dkwX1_then_1 ++ []
def dkwX1_then_0 : List UInt8 := [42, 27, 182, 0, 172, 87, 28, 3, 16, 50, 184, 0, 136, 184, 0, 100, 42, 180, 0, 34, 42, 180, 0, 30]
abbrev dktX1_then_0 : List UInt8 := dkwX1_then_0 ++ dktX1_then_1
theorem dksX1_then_0 : cX1_then.data.toList.drop 0 = dktX1_then_0 := by decide +kernel
theorem dksX1_then_1 : cX1_then.data.toList.drop 24 = dktX1_then_1 := dk_seg dksX1_then_0 24 rfl rfl
theorem dX1_then_0 : decode cX1_then 0 = .ok (.aload_n 0, 1) := dk_42 (dk_at dksX1_then_0 0 rfl rfl)
theorem dX1_then_1 : decode cX1_then 1 = .ok (.iload_n 1, 1) := dk_27 (dk_at dksX1_then_0 1 rfl rfl)
theorem dX1_then_2 : decode cX1_then 2 = .ok (.invokevirtual 172, 3) := dk_182 0 172 (dk_at dksX1_then_0 2 rfl rfl)
theorem dX1_then_5 : decode cX1_then 5 = .ok (.pop, 1) := dk_87 (dk_at dksX1_then_0 5 rfl rfl)
theorem dX1_then_6 : decode cX1_then 6 = .ok (.iload_n 2, 1) := dk_28 (dk_at dksX1_then_0 6 rfl rfl)
theorem dX1_then_7 : decode cX1_then 7 = .ok (.iconst 0, 1) := dk_3 (dk_at dksX1_then_0 7 rfl rfl)
theorem dX1_then_8 : decode cX1_then 8 = .ok (.bipush 50, 2) := dk_16 50 (dk_at dksX1_then_0 8 rfl rfl)
theorem dX1_then_10 : decode cX1_then 10 = .ok (.invokestatic 136, 3) := dk_184 0 136 (dk_at dksX1_then_0 10 rfl rfl)
theorem dX1_then_13 : decode cX1_then 13 = .ok (.invokestatic 100, 3) := dk_184 0 100 (dk_at dksX1_then_0 13 rfl rfl)
theorem dX1_then_16 : decode cX1_then 16 = .ok (.aload_n 0, 1) := dk_42 (dk_at dksX1_then_0 16 rfl rfl)
theorem dX1_then_17 : decode cX1_then 17 = .ok (.getfield 34, 3) := dk_180 0 34 (dk_at dksX1_then_0 17 rfl rfl)
theorem dX1_then_20 : decode cX1_then 20 = .ok (.aload_n 0, 1) := dk_42 (dk_at dksX1_then_0 20 rfl rfl)
theorem dX1_then_21 : decode cX1_then 21 = .ok (.getfield 30, 3) := dk_180 0 30 (dk_at dksX1_then_0 21 rfl rfl)
theorem dX1_then_24 : decode cX1_then 24 = .ok (.invokevirtual 241, 3) := dk_182 0 241 (dk_at dksX1_then_1 0 rfl rfl)
theorem dX1_then_27 : decode cX1_then 27 = .ok (.aload_n 0, 1) := dk_42 (dk_at dksX1_then_1 3 rfl rfl)
theorem dX1_then_28 : decode cX1_then 28 = .ok (.iload_n 2, 1) := dk_28 (dk_at dksX1_then_1 4 rfl rfl)
theorem dX1_then_29 : decode cX1_then 29 = .ok (.invokevirtual 245, 3) := dk_182 0 245 (dk_at dksX1_then_1 5 rfl rfl)
theorem dX1_then_32 : decode cX1_then 32 = .ok (.aload_n 0, 1) := dk_42 (dk_at dksX1_then_1 8 rfl rfl)
theorem dX1_then_33 : decode cX1_then 33 = .ok (.getfield 34, 3) := dk_180 0 34 (dk_at dksX1_then_1 9 rfl rfl)
theorem dX1_then_36 : decode cX1_then 36 = .ok (.getfield 176, 3) := dk_180 0 176 (dk_at dksX1_then_1 12 rfl rfl)
theorem dX1_then_39 : decode cX1_then 39 = .ok (.iload_n 1, 1) := dk_27 (dk_at dksX1_then_1 15 rfl rfl)
theorem dX1_then_40 : decode cX1_then 40 = .ok (.iaload, 1) := dk_46 (dk_at dksX1_then_1 16 rfl rfl)
theorem dX1_then_41 : decode cX1_then 41 = .ok (.ireturn, 1) := dk_172 (dk_at dksX1_then_1 17 rfl rfl)
abbrev cX1_goesBy : ByteArray := prog_1_method_28_code
def yX1_goesBy : MethodName := ⟨RX1, "goesBy", "(I)V"⟩
def dkwX1_goesBy_1 : List UInt8 := [177]
abbrev dktX1_goesBy_1 : List UInt8 := dkwX1_goesBy_1 ++ []
def dkwX1_goesBy_0 : List UInt8 := [3, 61, 28, 27, 162, 0, 20, 42, 180, 0, 34, 42, 180, 0, 10, 182, 0, 229, 132, 2, 1, 167, 255, 237]
abbrev dktX1_goesBy_0 : List UInt8 := dkwX1_goesBy_0 ++ dktX1_goesBy_1
theorem dksX1_goesBy_0 : cX1_goesBy.data.toList.drop 0 = dktX1_goesBy_0 := by decide +kernel
theorem dksX1_goesBy_1 : cX1_goesBy.data.toList.drop 24 = dktX1_goesBy_1 := dk_seg dksX1_goesBy_0 24 rfl rfl
theorem dX1_goesBy_0 : decode cX1_goesBy 0 = .ok (.iconst 0, 1) := dk_3 (dk_at dksX1_goesBy_0 0 rfl rfl)
theorem dX1_goesBy_1 : decode cX1_goesBy 1 = .ok (.istore_n 2, 1) := dk_61 (dk_at dksX1_goesBy_0 1 rfl rfl)
theorem dX1_goesBy_2 : decode cX1_goesBy 2 = .ok (.iload_n 2, 1) := dk_28 (dk_at dksX1_goesBy_0 2 rfl rfl)
theorem dX1_goesBy_3 : decode cX1_goesBy 3 = .ok (.iload_n 1, 1) := dk_27 (dk_at dksX1_goesBy_0 3 rfl rfl)
theorem dX1_goesBy_4 : decode cX1_goesBy 4 = .ok (.if_icmp .ge 20, 3) := dk_162 0 20 (dk_at dksX1_goesBy_0 4 rfl rfl)
theorem dX1_goesBy_7 : decode cX1_goesBy 7 = .ok (.aload_n 0, 1) := dk_42 (dk_at dksX1_goesBy_0 7 rfl rfl)
theorem dX1_goesBy_8 : decode cX1_goesBy 8 = .ok (.getfield 34, 3) := dk_180 0 34 (dk_at dksX1_goesBy_0 8 rfl rfl)
theorem dX1_goesBy_11 : decode cX1_goesBy 11 = .ok (.aload_n 0, 1) := dk_42 (dk_at dksX1_goesBy_0 11 rfl rfl)
theorem dX1_goesBy_12 : decode cX1_goesBy 12 = .ok (.getfield 10, 3) := dk_180 0 10 (dk_at dksX1_goesBy_0 12 rfl rfl)
theorem dX1_goesBy_15 : decode cX1_goesBy 15 = .ok (.invokevirtual 229, 3) := dk_182 0 229 (dk_at dksX1_goesBy_0 15 rfl rfl)
theorem dX1_goesBy_18 : decode cX1_goesBy 18 = .ok (.iinc 2 1, 3) := dk_132 2 1 (dk_at dksX1_goesBy_0 18 rfl rfl)
theorem dX1_goesBy_21 : decode cX1_goesBy 21 = .ok (.goto (-19), 3) := dk_167 255 237 (dk_at dksX1_goesBy_0 21 rfl rfl)
theorem dX1_goesBy_24 : decode cX1_goesBy 24 = .ok (.return_, 1) := dk_177 (dk_at dksX1_goesBy_1 0 rfl rfl)
abbrev cX1_empty : ByteArray := prog_1_method_30_code
def yX1_empty : MethodName := ⟨RX1, "empty", "(I)I"⟩
def dkwX1_empty_2 : List UInt8 := [180, 0, 10, 182, 0, 229, 132, 2, 1, 167, 255, 222, 2, 172]
abbrev dktX1_empty_2 : List UInt8 := dkwX1_empty_2 ++ []
def dkwX1_empty_1 : List UInt8 := [163, 0, 34, 42, 180, 0, 34, 180, 0, 176, 27, 46, 154, 0, 5, 28, 172, 42, 180, 0, 34, 42]
abbrev dktX1_empty_1 : List UInt8 := dkwX1_empty_1 ++ dktX1_empty_2
def dkwX1_empty_0 : List UInt8 := [42, 27, 182, 0, 172, 87, 42, 180, 0, 34, 42, 180, 0, 30, 182, 0, 241, 3, 61, 28, 16, 50]
abbrev dktX1_empty_0 : List UInt8 := dkwX1_empty_0 ++ dktX1_empty_1
theorem dksX1_empty_0 : cX1_empty.data.toList.drop 0 = dktX1_empty_0 := by decide +kernel
theorem dksX1_empty_1 : cX1_empty.data.toList.drop 22 = dktX1_empty_1 := dk_seg dksX1_empty_0 22 rfl rfl
theorem dksX1_empty_2 : cX1_empty.data.toList.drop 44 = dktX1_empty_2 := dk_seg dksX1_empty_1 22 rfl rfl
theorem dX1_empty_0 : decode cX1_empty 0 = .ok (.aload_n 0, 1) := dk_42 (dk_at dksX1_empty_0 0 rfl rfl)
theorem dX1_empty_1 : decode cX1_empty 1 = .ok (.iload_n 1, 1) := dk_27 (dk_at dksX1_empty_0 1 rfl rfl)
theorem dX1_empty_2 : decode cX1_empty 2 = .ok (.invokevirtual 172, 3) := dk_182 0 172 (dk_at dksX1_empty_0 2 rfl rfl)
theorem dX1_empty_5 : decode cX1_empty 5 = .ok (.pop, 1) := dk_87 (dk_at dksX1_empty_0 5 rfl rfl)
theorem dX1_empty_6 : decode cX1_empty 6 = .ok (.aload_n 0, 1) := dk_42 (dk_at dksX1_empty_0 6 rfl rfl)
theorem dX1_empty_7 : decode cX1_empty 7 = .ok (.getfield 34, 3) := dk_180 0 34 (dk_at dksX1_empty_0 7 rfl rfl)
theorem dX1_empty_10 : decode cX1_empty 10 = .ok (.aload_n 0, 1) := dk_42 (dk_at dksX1_empty_0 10 rfl rfl)
theorem dX1_empty_11 : decode cX1_empty 11 = .ok (.getfield 30, 3) := dk_180 0 30 (dk_at dksX1_empty_0 11 rfl rfl)
theorem dX1_empty_14 : decode cX1_empty 14 = .ok (.invokevirtual 241, 3) := dk_182 0 241 (dk_at dksX1_empty_0 14 rfl rfl)
theorem dX1_empty_17 : decode cX1_empty 17 = .ok (.iconst 0, 1) := dk_3 (dk_at dksX1_empty_0 17 rfl rfl)
theorem dX1_empty_18 : decode cX1_empty 18 = .ok (.istore_n 2, 1) := dk_61 (dk_at dksX1_empty_0 18 rfl rfl)
theorem dX1_empty_19 : decode cX1_empty 19 = .ok (.iload_n 2, 1) := dk_28 (dk_at dksX1_empty_0 19 rfl rfl)
theorem dX1_empty_20 : decode cX1_empty 20 = .ok (.bipush 50, 2) := dk_16 50 (dk_at dksX1_empty_0 20 rfl rfl)
theorem dX1_empty_22 : decode cX1_empty 22 = .ok (.if_icmp .gt 34, 3) := dk_163 0 34 (dk_at dksX1_empty_1 0 rfl rfl)
theorem dX1_empty_25 : decode cX1_empty 25 = .ok (.aload_n 0, 1) := dk_42 (dk_at dksX1_empty_1 3 rfl rfl)
theorem dX1_empty_26 : decode cX1_empty 26 = .ok (.getfield 34, 3) := dk_180 0 34 (dk_at dksX1_empty_1 4 rfl rfl)
theorem dX1_empty_29 : decode cX1_empty 29 = .ok (.getfield 176, 3) := dk_180 0 176 (dk_at dksX1_empty_1 7 rfl rfl)
theorem dX1_empty_32 : decode cX1_empty 32 = .ok (.iload_n 1, 1) := dk_27 (dk_at dksX1_empty_1 10 rfl rfl)
theorem dX1_empty_33 : decode cX1_empty 33 = .ok (.iaload, 1) := dk_46 (dk_at dksX1_empty_1 11 rfl rfl)
theorem dX1_empty_34 : decode cX1_empty 34 = .ok (.ifCond .ne 5, 3) := dk_154 0 5 (dk_at dksX1_empty_1 12 rfl rfl)
theorem dX1_empty_37 : decode cX1_empty 37 = .ok (.iload_n 2, 1) := dk_28 (dk_at dksX1_empty_1 15 rfl rfl)
theorem dX1_empty_38 : decode cX1_empty 38 = .ok (.ireturn, 1) := dk_172 (dk_at dksX1_empty_1 16 rfl rfl)
theorem dX1_empty_39 : decode cX1_empty 39 = .ok (.aload_n 0, 1) := dk_42 (dk_at dksX1_empty_1 17 rfl rfl)
theorem dX1_empty_40 : decode cX1_empty 40 = .ok (.getfield 34, 3) := dk_180 0 34 (dk_at dksX1_empty_1 18 rfl rfl)
theorem dX1_empty_43 : decode cX1_empty 43 = .ok (.aload_n 0, 1) := dk_42 (dk_at dksX1_empty_1 21 rfl rfl)
theorem dX1_empty_44 : decode cX1_empty 44 = .ok (.getfield 10, 3) := dk_180 0 10 (dk_at dksX1_empty_2 0 rfl rfl)
theorem dX1_empty_47 : decode cX1_empty 47 = .ok (.invokevirtual 229, 3) := dk_182 0 229 (dk_at dksX1_empty_2 3 rfl rfl)
theorem dX1_empty_50 : decode cX1_empty 50 = .ok (.iinc 2 1, 3) := dk_132 2 1 (dk_at dksX1_empty_2 6 rfl rfl)
theorem dX1_empty_53 : decode cX1_empty 53 = .ok (.goto (-34), 3) := dk_167 255 222 (dk_at dksX1_empty_2 9 rfl rfl)
theorem dX1_empty_56 : decode cX1_empty 56 = .ok (.iconst (-1), 1) := dk_2 (dk_at dksX1_empty_2 12 rfl rfl)
theorem dX1_empty_57 : decode cX1_empty 57 = .ok (.ireturn, 1) := dk_172 (dk_at dksX1_empty_2 13 rfl rfl)
abbrev cX1_paid : ByteArray := prog_1_method_31_code
def yX1_paid : MethodName := ⟨RX1, "paid", "(II)I"⟩
def dkwX1_paid_3 : List UInt8 := [100, 172]
abbrev dktX1_paid_3 : List UInt8 := dkwX1_paid_3 ++ []
def dkwX1_paid_2 : List UInt8 := [180, 0, 30, 180, 0, 159, 100, 167, 0, 18, 42, 180, 0, 34, 180, 0, 162, 42, 180, 0, 30, 180, 0, 162]
abbrev dktX1_paid_2 : List UInt8 := dkwX1_paid_2 ++ dktX1_paid_3
def dkwX1_paid_1 : List UInt8 := [180, 0, 30, 182, 0, 241, 42, 27, 182, 0, 245, 28, 154, 0, 21, 42, 180, 0, 34, 180, 0, 159, 42]
abbrev dktX1_paid_1 : List UInt8 := dkwX1_paid_1 ++ dktX1_paid_2
def dkwX1_paid_0 : List UInt8 := [28, 3, 4, 184, 0, 136, 184, 0, 73, 27, 3, 16, 50, 184, 0, 136, 184, 0, 100, 42, 180, 0, 34, 42]
abbrev dktX1_paid_0 : List UInt8 := dkwX1_paid_0 ++ dktX1_paid_1
theorem dksX1_paid_0 : cX1_paid.data.toList.drop 0 = dktX1_paid_0 := by decide +kernel
theorem dksX1_paid_1 : cX1_paid.data.toList.drop 24 = dktX1_paid_1 := dk_seg dksX1_paid_0 24 rfl rfl
theorem dksX1_paid_2 : cX1_paid.data.toList.drop 47 = dktX1_paid_2 := dk_seg dksX1_paid_1 23 rfl rfl
theorem dksX1_paid_3 : cX1_paid.data.toList.drop 71 = dktX1_paid_3 := dk_seg dksX1_paid_2 24 rfl rfl
theorem dX1_paid_0 : decode cX1_paid 0 = .ok (.iload_n 2, 1) := dk_28 (dk_at dksX1_paid_0 0 rfl rfl)
theorem dX1_paid_1 : decode cX1_paid 1 = .ok (.iconst 0, 1) := dk_3 (dk_at dksX1_paid_0 1 rfl rfl)
theorem dX1_paid_2 : decode cX1_paid 2 = .ok (.iconst 1, 1) := dk_4 (dk_at dksX1_paid_0 2 rfl rfl)
theorem dX1_paid_3 : decode cX1_paid 3 = .ok (.invokestatic 136, 3) := dk_184 0 136 (dk_at dksX1_paid_0 3 rfl rfl)
theorem dX1_paid_6 : decode cX1_paid 6 = .ok (.invokestatic 73, 3) := dk_184 0 73 (dk_at dksX1_paid_0 6 rfl rfl)
theorem dX1_paid_9 : decode cX1_paid 9 = .ok (.iload_n 1, 1) := dk_27 (dk_at dksX1_paid_0 9 rfl rfl)
theorem dX1_paid_10 : decode cX1_paid 10 = .ok (.iconst 0, 1) := dk_3 (dk_at dksX1_paid_0 10 rfl rfl)
theorem dX1_paid_11 : decode cX1_paid 11 = .ok (.bipush 50, 2) := dk_16 50 (dk_at dksX1_paid_0 11 rfl rfl)
theorem dX1_paid_13 : decode cX1_paid 13 = .ok (.invokestatic 136, 3) := dk_184 0 136 (dk_at dksX1_paid_0 13 rfl rfl)
theorem dX1_paid_16 : decode cX1_paid 16 = .ok (.invokestatic 100, 3) := dk_184 0 100 (dk_at dksX1_paid_0 16 rfl rfl)
theorem dX1_paid_19 : decode cX1_paid 19 = .ok (.aload_n 0, 1) := dk_42 (dk_at dksX1_paid_0 19 rfl rfl)
theorem dX1_paid_20 : decode cX1_paid 20 = .ok (.getfield 34, 3) := dk_180 0 34 (dk_at dksX1_paid_0 20 rfl rfl)
theorem dX1_paid_23 : decode cX1_paid 23 = .ok (.aload_n 0, 1) := dk_42 (dk_at dksX1_paid_0 23 rfl rfl)
theorem dX1_paid_24 : decode cX1_paid 24 = .ok (.getfield 30, 3) := dk_180 0 30 (dk_at dksX1_paid_1 0 rfl rfl)
theorem dX1_paid_27 : decode cX1_paid 27 = .ok (.invokevirtual 241, 3) := dk_182 0 241 (dk_at dksX1_paid_1 3 rfl rfl)
theorem dX1_paid_30 : decode cX1_paid 30 = .ok (.aload_n 0, 1) := dk_42 (dk_at dksX1_paid_1 6 rfl rfl)
theorem dX1_paid_31 : decode cX1_paid 31 = .ok (.iload_n 1, 1) := dk_27 (dk_at dksX1_paid_1 7 rfl rfl)
theorem dX1_paid_32 : decode cX1_paid 32 = .ok (.invokevirtual 245, 3) := dk_182 0 245 (dk_at dksX1_paid_1 8 rfl rfl)
theorem dX1_paid_35 : decode cX1_paid 35 = .ok (.iload_n 2, 1) := dk_28 (dk_at dksX1_paid_1 11 rfl rfl)
theorem dX1_paid_36 : decode cX1_paid 36 = .ok (.ifCond .ne 21, 3) := dk_154 0 21 (dk_at dksX1_paid_1 12 rfl rfl)
theorem dX1_paid_39 : decode cX1_paid 39 = .ok (.aload_n 0, 1) := dk_42 (dk_at dksX1_paid_1 15 rfl rfl)
theorem dX1_paid_40 : decode cX1_paid 40 = .ok (.getfield 34, 3) := dk_180 0 34 (dk_at dksX1_paid_1 16 rfl rfl)
theorem dX1_paid_43 : decode cX1_paid 43 = .ok (.getfield 159, 3) := dk_180 0 159 (dk_at dksX1_paid_1 19 rfl rfl)
theorem dX1_paid_46 : decode cX1_paid 46 = .ok (.aload_n 0, 1) := dk_42 (dk_at dksX1_paid_1 22 rfl rfl)
theorem dX1_paid_47 : decode cX1_paid 47 = .ok (.getfield 30, 3) := dk_180 0 30 (dk_at dksX1_paid_2 0 rfl rfl)
theorem dX1_paid_50 : decode cX1_paid 50 = .ok (.getfield 159, 3) := dk_180 0 159 (dk_at dksX1_paid_2 3 rfl rfl)
theorem dX1_paid_53 : decode cX1_paid 53 = .ok (.isub, 1) := dk_100 (dk_at dksX1_paid_2 6 rfl rfl)
theorem dX1_paid_54 : decode cX1_paid 54 = .ok (.goto 18, 3) := dk_167 0 18 (dk_at dksX1_paid_2 7 rfl rfl)
theorem dX1_paid_57 : decode cX1_paid 57 = .ok (.aload_n 0, 1) := dk_42 (dk_at dksX1_paid_2 10 rfl rfl)
theorem dX1_paid_58 : decode cX1_paid 58 = .ok (.getfield 34, 3) := dk_180 0 34 (dk_at dksX1_paid_2 11 rfl rfl)
theorem dX1_paid_61 : decode cX1_paid 61 = .ok (.getfield 162, 3) := dk_180 0 162 (dk_at dksX1_paid_2 14 rfl rfl)
theorem dX1_paid_64 : decode cX1_paid 64 = .ok (.aload_n 0, 1) := dk_42 (dk_at dksX1_paid_2 17 rfl rfl)
theorem dX1_paid_65 : decode cX1_paid 65 = .ok (.getfield 30, 3) := dk_180 0 30 (dk_at dksX1_paid_2 18 rfl rfl)
theorem dX1_paid_68 : decode cX1_paid 68 = .ok (.getfield 162, 3) := dk_180 0 162 (dk_at dksX1_paid_2 21 rfl rfl)
theorem dX1_paid_71 : decode cX1_paid 71 = .ok (.isub, 1) := dk_100 (dk_at dksX1_paid_3 0 rfl rfl)
theorem dX1_paid_72 : decode cX1_paid 72 = .ok (.ireturn, 1) := dk_172 (dk_at dksX1_paid_3 1 rfl rfl)
abbrev cX1_hostages : ByteArray := prog_1_method_32_code
def yX1_hostages : MethodName := ⟨RX1, "hostages", "(I)I"⟩
def dkwX1_hostages_2 : List UInt8 := [182, 0, 248, 100, 172]
abbrev dktX1_hostages_2 : List UInt8 := dkwX1_hostages_2 ++ []
def dkwX1_hostages_1 : List UInt8 := [182, 0, 245, 42, 180, 0, 34, 42, 182, 0, 83, 182, 0, 248, 42, 180, 0, 30, 42, 182, 0, 83]
abbrev dktX1_hostages_1 : List UInt8 := dkwX1_hostages_1 ++ dktX1_hostages_2
def dkwX1_hostages_0 : List UInt8 := [27, 3, 16, 50, 184, 0, 136, 184, 0, 100, 42, 180, 0, 34, 42, 180, 0, 30, 182, 0, 241, 42, 27]
abbrev dktX1_hostages_0 : List UInt8 := dkwX1_hostages_0 ++ dktX1_hostages_1
theorem dksX1_hostages_0 : cX1_hostages.data.toList.drop 0 = dktX1_hostages_0 := by decide +kernel
theorem dksX1_hostages_1 : cX1_hostages.data.toList.drop 23 = dktX1_hostages_1 := dk_seg dksX1_hostages_0 23 rfl rfl
theorem dksX1_hostages_2 : cX1_hostages.data.toList.drop 45 = dktX1_hostages_2 := dk_seg dksX1_hostages_1 22 rfl rfl
theorem dX1_hostages_0 : decode cX1_hostages 0 = .ok (.iload_n 1, 1) := dk_27 (dk_at dksX1_hostages_0 0 rfl rfl)
theorem dX1_hostages_1 : decode cX1_hostages 1 = .ok (.iconst 0, 1) := dk_3 (dk_at dksX1_hostages_0 1 rfl rfl)
theorem dX1_hostages_2 : decode cX1_hostages 2 = .ok (.bipush 50, 2) := dk_16 50 (dk_at dksX1_hostages_0 2 rfl rfl)
theorem dX1_hostages_4 : decode cX1_hostages 4 = .ok (.invokestatic 136, 3) := dk_184 0 136 (dk_at dksX1_hostages_0 4 rfl rfl)
theorem dX1_hostages_7 : decode cX1_hostages 7 = .ok (.invokestatic 100, 3) := dk_184 0 100 (dk_at dksX1_hostages_0 7 rfl rfl)
theorem dX1_hostages_10 : decode cX1_hostages 10 = .ok (.aload_n 0, 1) := dk_42 (dk_at dksX1_hostages_0 10 rfl rfl)
theorem dX1_hostages_11 : decode cX1_hostages 11 = .ok (.getfield 34, 3) := dk_180 0 34 (dk_at dksX1_hostages_0 11 rfl rfl)
theorem dX1_hostages_14 : decode cX1_hostages 14 = .ok (.aload_n 0, 1) := dk_42 (dk_at dksX1_hostages_0 14 rfl rfl)
theorem dX1_hostages_15 : decode cX1_hostages 15 = .ok (.getfield 30, 3) := dk_180 0 30 (dk_at dksX1_hostages_0 15 rfl rfl)
theorem dX1_hostages_18 : decode cX1_hostages 18 = .ok (.invokevirtual 241, 3) := dk_182 0 241 (dk_at dksX1_hostages_0 18 rfl rfl)
theorem dX1_hostages_21 : decode cX1_hostages 21 = .ok (.aload_n 0, 1) := dk_42 (dk_at dksX1_hostages_0 21 rfl rfl)
theorem dX1_hostages_22 : decode cX1_hostages 22 = .ok (.iload_n 1, 1) := dk_27 (dk_at dksX1_hostages_0 22 rfl rfl)
theorem dX1_hostages_23 : decode cX1_hostages 23 = .ok (.invokevirtual 245, 3) := dk_182 0 245 (dk_at dksX1_hostages_1 0 rfl rfl)
theorem dX1_hostages_26 : decode cX1_hostages 26 = .ok (.aload_n 0, 1) := dk_42 (dk_at dksX1_hostages_1 3 rfl rfl)
theorem dX1_hostages_27 : decode cX1_hostages 27 = .ok (.getfield 34, 3) := dk_180 0 34 (dk_at dksX1_hostages_1 4 rfl rfl)
theorem dX1_hostages_30 : decode cX1_hostages 30 = .ok (.aload_n 0, 1) := dk_42 (dk_at dksX1_hostages_1 7 rfl rfl)
theorem dX1_hostages_31 : decode cX1_hostages 31 = .ok (.invokevirtual 83, 3) := dk_182 0 83 (dk_at dksX1_hostages_1 8 rfl rfl)
theorem dX1_hostages_34 : decode cX1_hostages 34 = .ok (.invokevirtual 248, 3) := dk_182 0 248 (dk_at dksX1_hostages_1 11 rfl rfl)
theorem dX1_hostages_37 : decode cX1_hostages 37 = .ok (.aload_n 0, 1) := dk_42 (dk_at dksX1_hostages_1 14 rfl rfl)
theorem dX1_hostages_38 : decode cX1_hostages 38 = .ok (.getfield 30, 3) := dk_180 0 30 (dk_at dksX1_hostages_1 15 rfl rfl)
theorem dX1_hostages_41 : decode cX1_hostages 41 = .ok (.aload_n 0, 1) := dk_42 (dk_at dksX1_hostages_1 18 rfl rfl)
theorem dX1_hostages_42 : decode cX1_hostages 42 = .ok (.invokevirtual 83, 3) := dk_182 0 83 (dk_at dksX1_hostages_1 19 rfl rfl)
theorem dX1_hostages_45 : decode cX1_hostages 45 = .ok (.invokevirtual 248, 3) := dk_182 0 248 (dk_at dksX1_hostages_2 0 rfl rfl)
theorem dX1_hostages_48 : decode cX1_hostages 48 = .ok (.isub, 1) := dk_100 (dk_at dksX1_hostages_2 3 rfl rfl)
theorem dX1_hostages_49 : decode cX1_hostages 49 = .ok (.ireturn, 1) := dk_172 (dk_at dksX1_hostages_2 4 rfl rfl)
abbrev cX1_owing : ByteArray := prog_1_method_33_code
def yX1_owing : MethodName := ⟨RX1, "owing", "(I)I"⟩
def dkwX1_owing_3 : List UInt8 := [132, 3, 1, 167, 255, 213, 28, 172]
abbrev dktX1_owing_3 : List UInt8 := dkwX1_owing_3 ++ []
def dkwX1_owing_2 : List UInt8 := [28, 2, 160, 0, 7, 3, 167, 0, 12, 42, 180, 0, 34, 180, 0, 209, 28, 46, 164, 0, 5, 29, 61]
abbrev dktX1_owing_2 : List UInt8 := dkwX1_owing_2 ++ dktX1_owing_3
def dkwX1_owing_1 : List UInt8 := [182, 0, 245, 2, 61, 3, 62, 29, 42, 182, 0, 83, 162, 0, 41, 42, 180, 0, 34, 180, 0, 209, 29, 46]
abbrev dktX1_owing_1 : List UInt8 := dkwX1_owing_1 ++ dktX1_owing_2
def dkwX1_owing_0 : List UInt8 := [27, 3, 16, 50, 184, 0, 136, 184, 0, 100, 42, 180, 0, 34, 42, 180, 0, 30, 182, 0, 241, 42, 27]
abbrev dktX1_owing_0 : List UInt8 := dkwX1_owing_0 ++ dktX1_owing_1
theorem dksX1_owing_0 : cX1_owing.data.toList.drop 0 = dktX1_owing_0 := by decide +kernel
theorem dksX1_owing_1 : cX1_owing.data.toList.drop 23 = dktX1_owing_1 := dk_seg dksX1_owing_0 23 rfl rfl
theorem dksX1_owing_2 : cX1_owing.data.toList.drop 47 = dktX1_owing_2 := dk_seg dksX1_owing_1 24 rfl rfl
theorem dksX1_owing_3 : cX1_owing.data.toList.drop 70 = dktX1_owing_3 := dk_seg dksX1_owing_2 23 rfl rfl
theorem dX1_owing_0 : decode cX1_owing 0 = .ok (.iload_n 1, 1) := dk_27 (dk_at dksX1_owing_0 0 rfl rfl)
theorem dX1_owing_1 : decode cX1_owing 1 = .ok (.iconst 0, 1) := dk_3 (dk_at dksX1_owing_0 1 rfl rfl)
theorem dX1_owing_2 : decode cX1_owing 2 = .ok (.bipush 50, 2) := dk_16 50 (dk_at dksX1_owing_0 2 rfl rfl)
theorem dX1_owing_4 : decode cX1_owing 4 = .ok (.invokestatic 136, 3) := dk_184 0 136 (dk_at dksX1_owing_0 4 rfl rfl)
theorem dX1_owing_7 : decode cX1_owing 7 = .ok (.invokestatic 100, 3) := dk_184 0 100 (dk_at dksX1_owing_0 7 rfl rfl)
theorem dX1_owing_10 : decode cX1_owing 10 = .ok (.aload_n 0, 1) := dk_42 (dk_at dksX1_owing_0 10 rfl rfl)
theorem dX1_owing_11 : decode cX1_owing 11 = .ok (.getfield 34, 3) := dk_180 0 34 (dk_at dksX1_owing_0 11 rfl rfl)
theorem dX1_owing_14 : decode cX1_owing 14 = .ok (.aload_n 0, 1) := dk_42 (dk_at dksX1_owing_0 14 rfl rfl)
theorem dX1_owing_15 : decode cX1_owing 15 = .ok (.getfield 30, 3) := dk_180 0 30 (dk_at dksX1_owing_0 15 rfl rfl)
theorem dX1_owing_18 : decode cX1_owing 18 = .ok (.invokevirtual 241, 3) := dk_182 0 241 (dk_at dksX1_owing_0 18 rfl rfl)
theorem dX1_owing_21 : decode cX1_owing 21 = .ok (.aload_n 0, 1) := dk_42 (dk_at dksX1_owing_0 21 rfl rfl)
theorem dX1_owing_22 : decode cX1_owing 22 = .ok (.iload_n 1, 1) := dk_27 (dk_at dksX1_owing_0 22 rfl rfl)
theorem dX1_owing_23 : decode cX1_owing 23 = .ok (.invokevirtual 245, 3) := dk_182 0 245 (dk_at dksX1_owing_1 0 rfl rfl)
theorem dX1_owing_26 : decode cX1_owing 26 = .ok (.iconst (-1), 1) := dk_2 (dk_at dksX1_owing_1 3 rfl rfl)
theorem dX1_owing_27 : decode cX1_owing 27 = .ok (.istore_n 2, 1) := dk_61 (dk_at dksX1_owing_1 4 rfl rfl)
theorem dX1_owing_28 : decode cX1_owing 28 = .ok (.iconst 0, 1) := dk_3 (dk_at dksX1_owing_1 5 rfl rfl)
theorem dX1_owing_29 : decode cX1_owing 29 = .ok (.istore_n 3, 1) := dk_62 (dk_at dksX1_owing_1 6 rfl rfl)
theorem dX1_owing_30 : decode cX1_owing 30 = .ok (.iload_n 3, 1) := dk_29 (dk_at dksX1_owing_1 7 rfl rfl)
theorem dX1_owing_31 : decode cX1_owing 31 = .ok (.aload_n 0, 1) := dk_42 (dk_at dksX1_owing_1 8 rfl rfl)
theorem dX1_owing_32 : decode cX1_owing 32 = .ok (.invokevirtual 83, 3) := dk_182 0 83 (dk_at dksX1_owing_1 9 rfl rfl)
theorem dX1_owing_35 : decode cX1_owing 35 = .ok (.if_icmp .ge 41, 3) := dk_162 0 41 (dk_at dksX1_owing_1 12 rfl rfl)
theorem dX1_owing_38 : decode cX1_owing 38 = .ok (.aload_n 0, 1) := dk_42 (dk_at dksX1_owing_1 15 rfl rfl)
theorem dX1_owing_39 : decode cX1_owing 39 = .ok (.getfield 34, 3) := dk_180 0 34 (dk_at dksX1_owing_1 16 rfl rfl)
theorem dX1_owing_42 : decode cX1_owing 42 = .ok (.getfield 209, 3) := dk_180 0 209 (dk_at dksX1_owing_1 19 rfl rfl)
theorem dX1_owing_45 : decode cX1_owing 45 = .ok (.iload_n 3, 1) := dk_29 (dk_at dksX1_owing_1 22 rfl rfl)
theorem dX1_owing_46 : decode cX1_owing 46 = .ok (.iaload, 1) := dk_46 (dk_at dksX1_owing_1 23 rfl rfl)
theorem dX1_owing_47 : decode cX1_owing 47 = .ok (.iload_n 2, 1) := dk_28 (dk_at dksX1_owing_2 0 rfl rfl)
theorem dX1_owing_48 : decode cX1_owing 48 = .ok (.iconst (-1), 1) := dk_2 (dk_at dksX1_owing_2 1 rfl rfl)
theorem dX1_owing_49 : decode cX1_owing 49 = .ok (.if_icmp .ne 7, 3) := dk_160 0 7 (dk_at dksX1_owing_2 2 rfl rfl)
theorem dX1_owing_52 : decode cX1_owing 52 = .ok (.iconst 0, 1) := dk_3 (dk_at dksX1_owing_2 5 rfl rfl)
theorem dX1_owing_53 : decode cX1_owing 53 = .ok (.goto 12, 3) := dk_167 0 12 (dk_at dksX1_owing_2 6 rfl rfl)
theorem dX1_owing_56 : decode cX1_owing 56 = .ok (.aload_n 0, 1) := dk_42 (dk_at dksX1_owing_2 9 rfl rfl)
theorem dX1_owing_57 : decode cX1_owing 57 = .ok (.getfield 34, 3) := dk_180 0 34 (dk_at dksX1_owing_2 10 rfl rfl)
theorem dX1_owing_60 : decode cX1_owing 60 = .ok (.getfield 209, 3) := dk_180 0 209 (dk_at dksX1_owing_2 13 rfl rfl)
theorem dX1_owing_63 : decode cX1_owing 63 = .ok (.iload_n 2, 1) := dk_28 (dk_at dksX1_owing_2 16 rfl rfl)
theorem dX1_owing_64 : decode cX1_owing 64 = .ok (.iaload, 1) := dk_46 (dk_at dksX1_owing_2 17 rfl rfl)
theorem dX1_owing_65 : decode cX1_owing 65 = .ok (.if_icmp .le 5, 3) := dk_164 0 5 (dk_at dksX1_owing_2 18 rfl rfl)
theorem dX1_owing_68 : decode cX1_owing 68 = .ok (.iload_n 3, 1) := dk_29 (dk_at dksX1_owing_2 21 rfl rfl)
theorem dX1_owing_69 : decode cX1_owing 69 = .ok (.istore_n 2, 1) := dk_61 (dk_at dksX1_owing_2 22 rfl rfl)
theorem dX1_owing_70 : decode cX1_owing 70 = .ok (.iinc 3 1, 3) := dk_132 3 1 (dk_at dksX1_owing_3 0 rfl rfl)
theorem dX1_owing_73 : decode cX1_owing 73 = .ok (.goto (-43), 3) := dk_167 255 213 (dk_at dksX1_owing_3 3 rfl rfl)
theorem dX1_owing_76 : decode cX1_owing 76 = .ok (.iload_n 2, 1) := dk_28 (dk_at dksX1_owing_3 6 rfl rfl)
theorem dX1_owing_77 : decode cX1_owing 77 = .ok (.ireturn, 1) := dk_172 (dk_at dksX1_owing_3 7 rfl rfl)
abbrev cX1_lastBlack : ByteArray := prog_1_method_35_code
def yX1_lastBlack : MethodName := ⟨RX1, "lastBlack", "(I)I"⟩
def dkwX1_lastBlack_3 : List UInt8 := [132, 4, 1, 167, 255, 210, 27, 154, 0, 7, 28, 167, 0, 4, 29, 172]
abbrev dktX1_lastBlack_3 : List UInt8 := dkwX1_lastBlack_3 ++ []
def dkwX1_lastBlack_2 : List UInt8 := [180, 0, 34, 180, 0, 251, 2, 160, 0, 6, 167, 0, 14, 21, 4, 61, 42, 180, 0, 34, 180, 0, 251, 62]
abbrev dktX1_lastBlack_2 : List UInt8 := dkwX1_lastBlack_2 ++ dktX1_lastBlack_3
def dkwX1_lastBlack_1 : List UInt8 := [4, 54, 4, 21, 4, 16, 50, 163, 0, 45, 42, 180, 0, 34, 42, 180, 0, 10, 182, 0, 229, 42]
abbrev dktX1_lastBlack_1 : List UInt8 := dkwX1_lastBlack_1 ++ dktX1_lastBlack_2
def dkwX1_lastBlack_0 : List UInt8 := [27, 3, 4, 184, 0, 136, 184, 0, 73, 42, 180, 0, 34, 42, 180, 0, 30, 182, 0, 241, 2, 61, 2, 62]
abbrev dktX1_lastBlack_0 : List UInt8 := dkwX1_lastBlack_0 ++ dktX1_lastBlack_1
theorem dksX1_lastBlack_0 : cX1_lastBlack.data.toList.drop 0 = dktX1_lastBlack_0 := by decide +kernel
theorem dksX1_lastBlack_1 : cX1_lastBlack.data.toList.drop 24 = dktX1_lastBlack_1 := dk_seg dksX1_lastBlack_0 24 rfl rfl
theorem dksX1_lastBlack_2 : cX1_lastBlack.data.toList.drop 46 = dktX1_lastBlack_2 := dk_seg dksX1_lastBlack_1 22 rfl rfl
theorem dksX1_lastBlack_3 : cX1_lastBlack.data.toList.drop 70 = dktX1_lastBlack_3 := dk_seg dksX1_lastBlack_2 24 rfl rfl
theorem dX1_lastBlack_0 : decode cX1_lastBlack 0 = .ok (.iload_n 1, 1) := dk_27 (dk_at dksX1_lastBlack_0 0 rfl rfl)
theorem dX1_lastBlack_1 : decode cX1_lastBlack 1 = .ok (.iconst 0, 1) := dk_3 (dk_at dksX1_lastBlack_0 1 rfl rfl)
theorem dX1_lastBlack_2 : decode cX1_lastBlack 2 = .ok (.iconst 1, 1) := dk_4 (dk_at dksX1_lastBlack_0 2 rfl rfl)
theorem dX1_lastBlack_3 : decode cX1_lastBlack 3 = .ok (.invokestatic 136, 3) := dk_184 0 136 (dk_at dksX1_lastBlack_0 3 rfl rfl)
theorem dX1_lastBlack_6 : decode cX1_lastBlack 6 = .ok (.invokestatic 73, 3) := dk_184 0 73 (dk_at dksX1_lastBlack_0 6 rfl rfl)
theorem dX1_lastBlack_9 : decode cX1_lastBlack 9 = .ok (.aload_n 0, 1) := dk_42 (dk_at dksX1_lastBlack_0 9 rfl rfl)
theorem dX1_lastBlack_10 : decode cX1_lastBlack 10 = .ok (.getfield 34, 3) := dk_180 0 34 (dk_at dksX1_lastBlack_0 10 rfl rfl)
theorem dX1_lastBlack_13 : decode cX1_lastBlack 13 = .ok (.aload_n 0, 1) := dk_42 (dk_at dksX1_lastBlack_0 13 rfl rfl)
theorem dX1_lastBlack_14 : decode cX1_lastBlack 14 = .ok (.getfield 30, 3) := dk_180 0 30 (dk_at dksX1_lastBlack_0 14 rfl rfl)
theorem dX1_lastBlack_17 : decode cX1_lastBlack 17 = .ok (.invokevirtual 241, 3) := dk_182 0 241 (dk_at dksX1_lastBlack_0 17 rfl rfl)
theorem dX1_lastBlack_20 : decode cX1_lastBlack 20 = .ok (.iconst (-1), 1) := dk_2 (dk_at dksX1_lastBlack_0 20 rfl rfl)
theorem dX1_lastBlack_21 : decode cX1_lastBlack 21 = .ok (.istore_n 2, 1) := dk_61 (dk_at dksX1_lastBlack_0 21 rfl rfl)
theorem dX1_lastBlack_22 : decode cX1_lastBlack 22 = .ok (.iconst (-1), 1) := dk_2 (dk_at dksX1_lastBlack_0 22 rfl rfl)
theorem dX1_lastBlack_23 : decode cX1_lastBlack 23 = .ok (.istore_n 3, 1) := dk_62 (dk_at dksX1_lastBlack_0 23 rfl rfl)
theorem dX1_lastBlack_24 : decode cX1_lastBlack 24 = .ok (.iconst 1, 1) := dk_4 (dk_at dksX1_lastBlack_1 0 rfl rfl)
theorem dX1_lastBlack_25 : decode cX1_lastBlack 25 = .ok (.istore 4, 2) := dk_54 4 (dk_at dksX1_lastBlack_1 1 rfl rfl)
theorem dX1_lastBlack_27 : decode cX1_lastBlack 27 = .ok (.iload 4, 2) := dk_21 4 (dk_at dksX1_lastBlack_1 3 rfl rfl)
theorem dX1_lastBlack_29 : decode cX1_lastBlack 29 = .ok (.bipush 50, 2) := dk_16 50 (dk_at dksX1_lastBlack_1 5 rfl rfl)
theorem dX1_lastBlack_31 : decode cX1_lastBlack 31 = .ok (.if_icmp .gt 45, 3) := dk_163 0 45 (dk_at dksX1_lastBlack_1 7 rfl rfl)
theorem dX1_lastBlack_34 : decode cX1_lastBlack 34 = .ok (.aload_n 0, 1) := dk_42 (dk_at dksX1_lastBlack_1 10 rfl rfl)
theorem dX1_lastBlack_35 : decode cX1_lastBlack 35 = .ok (.getfield 34, 3) := dk_180 0 34 (dk_at dksX1_lastBlack_1 11 rfl rfl)
theorem dX1_lastBlack_38 : decode cX1_lastBlack 38 = .ok (.aload_n 0, 1) := dk_42 (dk_at dksX1_lastBlack_1 14 rfl rfl)
theorem dX1_lastBlack_39 : decode cX1_lastBlack 39 = .ok (.getfield 10, 3) := dk_180 0 10 (dk_at dksX1_lastBlack_1 15 rfl rfl)
theorem dX1_lastBlack_42 : decode cX1_lastBlack 42 = .ok (.invokevirtual 229, 3) := dk_182 0 229 (dk_at dksX1_lastBlack_1 18 rfl rfl)
theorem dX1_lastBlack_45 : decode cX1_lastBlack 45 = .ok (.aload_n 0, 1) := dk_42 (dk_at dksX1_lastBlack_1 21 rfl rfl)
theorem dX1_lastBlack_46 : decode cX1_lastBlack 46 = .ok (.getfield 34, 3) := dk_180 0 34 (dk_at dksX1_lastBlack_2 0 rfl rfl)
theorem dX1_lastBlack_49 : decode cX1_lastBlack 49 = .ok (.getfield 251, 3) := dk_180 0 251 (dk_at dksX1_lastBlack_2 3 rfl rfl)
theorem dX1_lastBlack_52 : decode cX1_lastBlack 52 = .ok (.iconst (-1), 1) := dk_2 (dk_at dksX1_lastBlack_2 6 rfl rfl)
theorem dX1_lastBlack_53 : decode cX1_lastBlack 53 = .ok (.if_icmp .ne 6, 3) := dk_160 0 6 (dk_at dksX1_lastBlack_2 7 rfl rfl)
theorem dX1_lastBlack_56 : decode cX1_lastBlack 56 = .ok (.goto 14, 3) := dk_167 0 14 (dk_at dksX1_lastBlack_2 10 rfl rfl)
theorem dX1_lastBlack_59 : decode cX1_lastBlack 59 = .ok (.iload 4, 2) := dk_21 4 (dk_at dksX1_lastBlack_2 13 rfl rfl)
theorem dX1_lastBlack_61 : decode cX1_lastBlack 61 = .ok (.istore_n 2, 1) := dk_61 (dk_at dksX1_lastBlack_2 15 rfl rfl)
theorem dX1_lastBlack_62 : decode cX1_lastBlack 62 = .ok (.aload_n 0, 1) := dk_42 (dk_at dksX1_lastBlack_2 16 rfl rfl)
theorem dX1_lastBlack_63 : decode cX1_lastBlack 63 = .ok (.getfield 34, 3) := dk_180 0 34 (dk_at dksX1_lastBlack_2 17 rfl rfl)
theorem dX1_lastBlack_66 : decode cX1_lastBlack 66 = .ok (.getfield 251, 3) := dk_180 0 251 (dk_at dksX1_lastBlack_2 20 rfl rfl)
theorem dX1_lastBlack_69 : decode cX1_lastBlack 69 = .ok (.istore_n 3, 1) := dk_62 (dk_at dksX1_lastBlack_2 23 rfl rfl)
theorem dX1_lastBlack_70 : decode cX1_lastBlack 70 = .ok (.iinc 4 1, 3) := dk_132 4 1 (dk_at dksX1_lastBlack_3 0 rfl rfl)
theorem dX1_lastBlack_73 : decode cX1_lastBlack 73 = .ok (.goto (-46), 3) := dk_167 255 210 (dk_at dksX1_lastBlack_3 3 rfl rfl)
theorem dX1_lastBlack_76 : decode cX1_lastBlack 76 = .ok (.iload_n 1, 1) := dk_27 (dk_at dksX1_lastBlack_3 6 rfl rfl)
theorem dX1_lastBlack_77 : decode cX1_lastBlack 77 = .ok (.ifCond .ne 7, 3) := dk_154 0 7 (dk_at dksX1_lastBlack_3 7 rfl rfl)
theorem dX1_lastBlack_80 : decode cX1_lastBlack 80 = .ok (.iload_n 2, 1) := dk_28 (dk_at dksX1_lastBlack_3 10 rfl rfl)
theorem dX1_lastBlack_81 : decode cX1_lastBlack 81 = .ok (.goto 4, 3) := dk_167 0 4 (dk_at dksX1_lastBlack_3 11 rfl rfl)
theorem dX1_lastBlack_84 : decode cX1_lastBlack 84 = .ok (.iload_n 3, 1) := dk_29 (dk_at dksX1_lastBlack_3 14 rfl rfl)
theorem dX1_lastBlack_85 : decode cX1_lastBlack 85 = .ok (.ireturn, 1) := dk_172 (dk_at dksX1_lastBlack_3 15 rfl rfl)
abbrev cX1_forEver : ByteArray := prog_1_method_37_code
def yX1_forEver : MethodName := ⟨RX1, "forEver", "(I)I"⟩
def dkwX1_forEver_1 : List UInt8 := [167, 255, 244, 28, 172]
abbrev dktX1_forEver_1 : List UInt8 := dkwX1_forEver_1 ++ []
def dkwX1_forEver_0 : List UInt8 := [42, 27, 182, 0, 172, 87, 17, 3, 231, 61, 42, 27, 28, 182, 1, 1, 154, 0, 9, 132, 2, 255]
abbrev dktX1_forEver_0 : List UInt8 := dkwX1_forEver_0 ++ dktX1_forEver_1
theorem dksX1_forEver_0 : cX1_forEver.data.toList.drop 0 = dktX1_forEver_0 := by decide +kernel
theorem dksX1_forEver_1 : cX1_forEver.data.toList.drop 22 = dktX1_forEver_1 := dk_seg dksX1_forEver_0 22 rfl rfl
theorem dX1_forEver_0 : decode cX1_forEver 0 = .ok (.aload_n 0, 1) := dk_42 (dk_at dksX1_forEver_0 0 rfl rfl)
theorem dX1_forEver_1 : decode cX1_forEver 1 = .ok (.iload_n 1, 1) := dk_27 (dk_at dksX1_forEver_0 1 rfl rfl)
theorem dX1_forEver_2 : decode cX1_forEver 2 = .ok (.invokevirtual 172, 3) := dk_182 0 172 (dk_at dksX1_forEver_0 2 rfl rfl)
theorem dX1_forEver_5 : decode cX1_forEver 5 = .ok (.pop, 1) := dk_87 (dk_at dksX1_forEver_0 5 rfl rfl)
theorem dX1_forEver_6 : decode cX1_forEver 6 = .ok (.sipush 999, 3) := dk_17 3 231 (dk_at dksX1_forEver_0 6 rfl rfl)
theorem dX1_forEver_9 : decode cX1_forEver 9 = .ok (.istore_n 2, 1) := dk_61 (dk_at dksX1_forEver_0 9 rfl rfl)
theorem dX1_forEver_10 : decode cX1_forEver 10 = .ok (.aload_n 0, 1) := dk_42 (dk_at dksX1_forEver_0 10 rfl rfl)
theorem dX1_forEver_11 : decode cX1_forEver 11 = .ok (.iload_n 1, 1) := dk_27 (dk_at dksX1_forEver_0 11 rfl rfl)
theorem dX1_forEver_12 : decode cX1_forEver 12 = .ok (.iload_n 2, 1) := dk_28 (dk_at dksX1_forEver_0 12 rfl rfl)
theorem dX1_forEver_13 : decode cX1_forEver 13 = .ok (.invokevirtual 257, 3) := dk_182 1 1 (dk_at dksX1_forEver_0 13 rfl rfl)
theorem dX1_forEver_16 : decode cX1_forEver 16 = .ok (.ifCond .ne 9, 3) := dk_154 0 9 (dk_at dksX1_forEver_0 16 rfl rfl)
theorem dX1_forEver_19 : decode cX1_forEver 19 = .ok (.iinc 2 (-1), 3) := dk_132 2 255 (dk_at dksX1_forEver_0 19 rfl rfl)
theorem dX1_forEver_22 : decode cX1_forEver 22 = .ok (.goto (-12), 3) := dk_167 255 244 (dk_at dksX1_forEver_1 0 rfl rfl)
theorem dX1_forEver_25 : decode cX1_forEver 25 = .ok (.iload_n 2, 1) := dk_28 (dk_at dksX1_forEver_1 3 rfl rfl)
theorem dX1_forEver_26 : decode cX1_forEver 26 = .ok (.ireturn, 1) := dk_172 (dk_at dksX1_forEver_1 4 rfl rfl)
abbrev cX1_bears : ByteArray := prog_1_method_36_code
def yX1_bears : MethodName := ⟨RX1, "bears", "(II)Z"⟩
def dkwX1_bears_2 : List UInt8 := [182, 0, 254, 62, 132, 4, 1, 167, 255, 218, 4, 172]
abbrev dktX1_bears_2 : List UInt8 := dkwX1_bears_2 ++ []
def dkwX1_bears_1 : List UInt8 := [162, 0, 5, 3, 172, 42, 180, 0, 10, 180, 0, 58, 27, 182, 0, 77, 192, 0, 81, 29, 28, 100]
abbrev dktX1_bears_1 : List UInt8 := dkwX1_bears_1 ++ dktX1_bears_2
def dkwX1_bears_0 : List UInt8 := [42, 180, 0, 30, 180, 0, 176, 27, 46, 62, 3, 54, 4, 21, 4, 16, 30, 162, 0, 37, 29, 28]
abbrev dktX1_bears_0 : List UInt8 := dkwX1_bears_0 ++ dktX1_bears_1
theorem dksX1_bears_0 : cX1_bears.data.toList.drop 0 = dktX1_bears_0 := by decide +kernel
theorem dksX1_bears_1 : cX1_bears.data.toList.drop 22 = dktX1_bears_1 := dk_seg dksX1_bears_0 22 rfl rfl
theorem dksX1_bears_2 : cX1_bears.data.toList.drop 44 = dktX1_bears_2 := dk_seg dksX1_bears_1 22 rfl rfl
theorem dX1_bears_0 : decode cX1_bears 0 = .ok (.aload_n 0, 1) := dk_42 (dk_at dksX1_bears_0 0 rfl rfl)
theorem dX1_bears_1 : decode cX1_bears 1 = .ok (.getfield 30, 3) := dk_180 0 30 (dk_at dksX1_bears_0 1 rfl rfl)
theorem dX1_bears_4 : decode cX1_bears 4 = .ok (.getfield 176, 3) := dk_180 0 176 (dk_at dksX1_bears_0 4 rfl rfl)
theorem dX1_bears_7 : decode cX1_bears 7 = .ok (.iload_n 1, 1) := dk_27 (dk_at dksX1_bears_0 7 rfl rfl)
theorem dX1_bears_8 : decode cX1_bears 8 = .ok (.iaload, 1) := dk_46 (dk_at dksX1_bears_0 8 rfl rfl)
theorem dX1_bears_9 : decode cX1_bears 9 = .ok (.istore_n 3, 1) := dk_62 (dk_at dksX1_bears_0 9 rfl rfl)
theorem dX1_bears_10 : decode cX1_bears 10 = .ok (.iconst 0, 1) := dk_3 (dk_at dksX1_bears_0 10 rfl rfl)
theorem dX1_bears_11 : decode cX1_bears 11 = .ok (.istore 4, 2) := dk_54 4 (dk_at dksX1_bears_0 11 rfl rfl)
theorem dX1_bears_13 : decode cX1_bears 13 = .ok (.iload 4, 2) := dk_21 4 (dk_at dksX1_bears_0 13 rfl rfl)
theorem dX1_bears_15 : decode cX1_bears 15 = .ok (.bipush 30, 2) := dk_16 30 (dk_at dksX1_bears_0 15 rfl rfl)
theorem dX1_bears_17 : decode cX1_bears 17 = .ok (.if_icmp .ge 37, 3) := dk_162 0 37 (dk_at dksX1_bears_0 17 rfl rfl)
theorem dX1_bears_20 : decode cX1_bears 20 = .ok (.iload_n 3, 1) := dk_29 (dk_at dksX1_bears_0 20 rfl rfl)
theorem dX1_bears_21 : decode cX1_bears 21 = .ok (.iload_n 2, 1) := dk_28 (dk_at dksX1_bears_0 21 rfl rfl)
theorem dX1_bears_22 : decode cX1_bears 22 = .ok (.if_icmp .ge 5, 3) := dk_162 0 5 (dk_at dksX1_bears_1 0 rfl rfl)
theorem dX1_bears_25 : decode cX1_bears 25 = .ok (.iconst 0, 1) := dk_3 (dk_at dksX1_bears_1 3 rfl rfl)
theorem dX1_bears_26 : decode cX1_bears 26 = .ok (.ireturn, 1) := dk_172 (dk_at dksX1_bears_1 4 rfl rfl)
theorem dX1_bears_27 : decode cX1_bears 27 = .ok (.aload_n 0, 1) := dk_42 (dk_at dksX1_bears_1 5 rfl rfl)
theorem dX1_bears_28 : decode cX1_bears 28 = .ok (.getfield 10, 3) := dk_180 0 10 (dk_at dksX1_bears_1 6 rfl rfl)
theorem dX1_bears_31 : decode cX1_bears 31 = .ok (.getfield 58, 3) := dk_180 0 58 (dk_at dksX1_bears_1 9 rfl rfl)
theorem dX1_bears_34 : decode cX1_bears 34 = .ok (.iload_n 1, 1) := dk_27 (dk_at dksX1_bears_1 12 rfl rfl)
theorem dX1_bears_35 : decode cX1_bears 35 = .ok (.invokevirtual 77, 3) := dk_182 0 77 (dk_at dksX1_bears_1 13 rfl rfl)
theorem dX1_bears_38 : decode cX1_bears 38 = .ok (.checkcast 81, 3) := dk_192 0 81 (dk_at dksX1_bears_1 16 rfl rfl)
theorem dX1_bears_41 : decode cX1_bears 41 = .ok (.iload_n 3, 1) := dk_29 (dk_at dksX1_bears_1 19 rfl rfl)
theorem dX1_bears_42 : decode cX1_bears 42 = .ok (.iload_n 2, 1) := dk_28 (dk_at dksX1_bears_1 20 rfl rfl)
theorem dX1_bears_43 : decode cX1_bears 43 = .ok (.isub, 1) := dk_100 (dk_at dksX1_bears_1 21 rfl rfl)
theorem dX1_bears_44 : decode cX1_bears 44 = .ok (.invokevirtual 254, 3) := dk_182 0 254 (dk_at dksX1_bears_2 0 rfl rfl)
theorem dX1_bears_47 : decode cX1_bears 47 = .ok (.istore_n 3, 1) := dk_62 (dk_at dksX1_bears_2 3 rfl rfl)
theorem dX1_bears_48 : decode cX1_bears 48 = .ok (.iinc 4 1, 3) := dk_132 4 1 (dk_at dksX1_bears_2 4 rfl rfl)
theorem dX1_bears_51 : decode cX1_bears 51 = .ok (.goto (-38), 3) := dk_167 255 218 (dk_at dksX1_bears_2 7 rfl rfl)
theorem dX1_bears_54 : decode cX1_bears 54 = .ok (.iconst 1, 1) := dk_4 (dk_at dksX1_bears_2 10 rfl rfl)
theorem dX1_bears_55 : decode cX1_bears 55 = .ok (.ireturn, 1) := dk_172 (dk_at dksX1_bears_2 11 rfl rfl)
abbrev cX1_resting : ByteArray := prog_1_method_38_code
def yX1_resting : MethodName := ⟨RX1, "resting", "(II)I"⟩
def dkwX1_resting_2 : List UInt8 := [21, 4, 182, 0, 254, 54, 4, 132, 5, 1, 167, 255, 229, 2, 172]
abbrev dktX1_resting_2 : List UInt8 := dkwX1_resting_2 ++ []
def dkwX1_resting_1 : List UInt8 := [27, 46, 54, 4, 3, 54, 5, 21, 5, 16, 50, 163, 0, 26, 21, 4, 28, 161, 0, 6, 21, 5, 172, 45]
abbrev dktX1_resting_1 : List UInt8 := dkwX1_resting_1 ++ dktX1_resting_2
def dkwX1_resting_0 : List UInt8 := [42, 27, 182, 0, 172, 78, 28, 3, 17, 3, 231, 184, 0, 136, 184, 0, 100, 42, 180, 0, 30, 180, 0, 176]
abbrev dktX1_resting_0 : List UInt8 := dkwX1_resting_0 ++ dktX1_resting_1
theorem dksX1_resting_0 : cX1_resting.data.toList.drop 0 = dktX1_resting_0 := by decide +kernel
theorem dksX1_resting_1 : cX1_resting.data.toList.drop 24 = dktX1_resting_1 := dk_seg dksX1_resting_0 24 rfl rfl
theorem dksX1_resting_2 : cX1_resting.data.toList.drop 48 = dktX1_resting_2 := dk_seg dksX1_resting_1 24 rfl rfl
theorem dX1_resting_0 : decode cX1_resting 0 = .ok (.aload_n 0, 1) := dk_42 (dk_at dksX1_resting_0 0 rfl rfl)
theorem dX1_resting_1 : decode cX1_resting 1 = .ok (.iload_n 1, 1) := dk_27 (dk_at dksX1_resting_0 1 rfl rfl)
theorem dX1_resting_2 : decode cX1_resting 2 = .ok (.invokevirtual 172, 3) := dk_182 0 172 (dk_at dksX1_resting_0 2 rfl rfl)
theorem dX1_resting_5 : decode cX1_resting 5 = .ok (.astore_n 3, 1) := dk_78 (dk_at dksX1_resting_0 5 rfl rfl)
theorem dX1_resting_6 : decode cX1_resting 6 = .ok (.iload_n 2, 1) := dk_28 (dk_at dksX1_resting_0 6 rfl rfl)
theorem dX1_resting_7 : decode cX1_resting 7 = .ok (.iconst 0, 1) := dk_3 (dk_at dksX1_resting_0 7 rfl rfl)
theorem dX1_resting_8 : decode cX1_resting 8 = .ok (.sipush 999, 3) := dk_17 3 231 (dk_at dksX1_resting_0 8 rfl rfl)
theorem dX1_resting_11 : decode cX1_resting 11 = .ok (.invokestatic 136, 3) := dk_184 0 136 (dk_at dksX1_resting_0 11 rfl rfl)
theorem dX1_resting_14 : decode cX1_resting 14 = .ok (.invokestatic 100, 3) := dk_184 0 100 (dk_at dksX1_resting_0 14 rfl rfl)
theorem dX1_resting_17 : decode cX1_resting 17 = .ok (.aload_n 0, 1) := dk_42 (dk_at dksX1_resting_0 17 rfl rfl)
theorem dX1_resting_18 : decode cX1_resting 18 = .ok (.getfield 30, 3) := dk_180 0 30 (dk_at dksX1_resting_0 18 rfl rfl)
theorem dX1_resting_21 : decode cX1_resting 21 = .ok (.getfield 176, 3) := dk_180 0 176 (dk_at dksX1_resting_0 21 rfl rfl)
theorem dX1_resting_24 : decode cX1_resting 24 = .ok (.iload_n 1, 1) := dk_27 (dk_at dksX1_resting_1 0 rfl rfl)
theorem dX1_resting_25 : decode cX1_resting 25 = .ok (.iaload, 1) := dk_46 (dk_at dksX1_resting_1 1 rfl rfl)
theorem dX1_resting_26 : decode cX1_resting 26 = .ok (.istore 4, 2) := dk_54 4 (dk_at dksX1_resting_1 2 rfl rfl)
theorem dX1_resting_28 : decode cX1_resting 28 = .ok (.iconst 0, 1) := dk_3 (dk_at dksX1_resting_1 4 rfl rfl)
theorem dX1_resting_29 : decode cX1_resting 29 = .ok (.istore 5, 2) := dk_54 5 (dk_at dksX1_resting_1 5 rfl rfl)
theorem dX1_resting_31 : decode cX1_resting 31 = .ok (.iload 5, 2) := dk_21 5 (dk_at dksX1_resting_1 7 rfl rfl)
theorem dX1_resting_33 : decode cX1_resting 33 = .ok (.bipush 50, 2) := dk_16 50 (dk_at dksX1_resting_1 9 rfl rfl)
theorem dX1_resting_35 : decode cX1_resting 35 = .ok (.if_icmp .gt 26, 3) := dk_163 0 26 (dk_at dksX1_resting_1 11 rfl rfl)
theorem dX1_resting_38 : decode cX1_resting 38 = .ok (.iload 4, 2) := dk_21 4 (dk_at dksX1_resting_1 14 rfl rfl)
theorem dX1_resting_40 : decode cX1_resting 40 = .ok (.iload_n 2, 1) := dk_28 (dk_at dksX1_resting_1 16 rfl rfl)
theorem dX1_resting_41 : decode cX1_resting 41 = .ok (.if_icmp .lt 6, 3) := dk_161 0 6 (dk_at dksX1_resting_1 17 rfl rfl)
theorem dX1_resting_44 : decode cX1_resting 44 = .ok (.iload 5, 2) := dk_21 5 (dk_at dksX1_resting_1 20 rfl rfl)
theorem dX1_resting_46 : decode cX1_resting 46 = .ok (.ireturn, 1) := dk_172 (dk_at dksX1_resting_1 22 rfl rfl)
theorem dX1_resting_47 : decode cX1_resting 47 = .ok (.aload_n 3, 1) := dk_45 (dk_at dksX1_resting_1 23 rfl rfl)
theorem dX1_resting_48 : decode cX1_resting 48 = .ok (.iload 4, 2) := dk_21 4 (dk_at dksX1_resting_2 0 rfl rfl)
theorem dX1_resting_50 : decode cX1_resting 50 = .ok (.invokevirtual 254, 3) := dk_182 0 254 (dk_at dksX1_resting_2 2 rfl rfl)
theorem dX1_resting_53 : decode cX1_resting 53 = .ok (.istore 4, 2) := dk_54 4 (dk_at dksX1_resting_2 5 rfl rfl)
theorem dX1_resting_55 : decode cX1_resting 55 = .ok (.iinc 5 1, 3) := dk_132 5 1 (dk_at dksX1_resting_2 7 rfl rfl)
theorem dX1_resting_58 : decode cX1_resting 58 = .ok (.goto (-27), 3) := dk_167 255 229 (dk_at dksX1_resting_2 10 rfl rfl)
theorem dX1_resting_61 : decode cX1_resting 61 = .ok (.iconst (-1), 1) := dk_2 (dk_at dksX1_resting_2 13 rfl rfl)
theorem dX1_resting_62 : decode cX1_resting 62 = .ok (.ireturn, 1) := dk_172 (dk_at dksX1_resting_2 14 rfl rfl)
abbrev cX1_far : ByteArray := prog_1_method_40_code
def yX1_far : MethodName := ⟨RX1, "far", "(II)I"⟩
def dkwX1_far_1 : List UInt8 := [172]
abbrev dktX1_far_1 : List UInt8 := dkwX1_far_1 ++ []
def dkwX1_far_0 : List UInt8 := [42, 27, 182, 0, 172, 87, 42, 28, 182, 0, 172, 87, 42, 180, 0, 10, 27, 28, 182, 1, 5, 184, 1, 8]
abbrev dktX1_far_0 : List UInt8 := dkwX1_far_0 ++ dktX1_far_1
theorem dksX1_far_0 : cX1_far.data.toList.drop 0 = dktX1_far_0 := by decide +kernel
theorem dksX1_far_1 : cX1_far.data.toList.drop 24 = dktX1_far_1 := dk_seg dksX1_far_0 24 rfl rfl
theorem dX1_far_0 : decode cX1_far 0 = .ok (.aload_n 0, 1) := dk_42 (dk_at dksX1_far_0 0 rfl rfl)
theorem dX1_far_1 : decode cX1_far 1 = .ok (.iload_n 1, 1) := dk_27 (dk_at dksX1_far_0 1 rfl rfl)
theorem dX1_far_2 : decode cX1_far 2 = .ok (.invokevirtual 172, 3) := dk_182 0 172 (dk_at dksX1_far_0 2 rfl rfl)
theorem dX1_far_5 : decode cX1_far 5 = .ok (.pop, 1) := dk_87 (dk_at dksX1_far_0 5 rfl rfl)
theorem dX1_far_6 : decode cX1_far 6 = .ok (.aload_n 0, 1) := dk_42 (dk_at dksX1_far_0 6 rfl rfl)
theorem dX1_far_7 : decode cX1_far 7 = .ok (.iload_n 2, 1) := dk_28 (dk_at dksX1_far_0 7 rfl rfl)
theorem dX1_far_8 : decode cX1_far 8 = .ok (.invokevirtual 172, 3) := dk_182 0 172 (dk_at dksX1_far_0 8 rfl rfl)
theorem dX1_far_11 : decode cX1_far 11 = .ok (.pop, 1) := dk_87 (dk_at dksX1_far_0 11 rfl rfl)
theorem dX1_far_12 : decode cX1_far 12 = .ok (.aload_n 0, 1) := dk_42 (dk_at dksX1_far_0 12 rfl rfl)
theorem dX1_far_13 : decode cX1_far 13 = .ok (.getfield 10, 3) := dk_180 0 10 (dk_at dksX1_far_0 13 rfl rfl)
theorem dX1_far_16 : decode cX1_far 16 = .ok (.iload_n 1, 1) := dk_27 (dk_at dksX1_far_0 16 rfl rfl)
theorem dX1_far_17 : decode cX1_far 17 = .ok (.iload_n 2, 1) := dk_28 (dk_at dksX1_far_0 17 rfl rfl)
theorem dX1_far_18 : decode cX1_far 18 = .ok (.invokevirtual 261, 3) := dk_182 1 5 (dk_at dksX1_far_0 18 rfl rfl)
theorem dX1_far_21 : decode cX1_far 21 = .ok (.invokestatic 264, 3) := dk_184 1 8 (dk_at dksX1_far_0 21 rfl rfl)
theorem dX1_far_24 : decode cX1_far 24 = .ok (.ireturn, 1) := dk_172 (dk_at dksX1_far_1 0 rfl rfl)
abbrev cX1_orNone : ByteArray := prog_1_method_39_code
def yX1_orNone : MethodName := ⟨RX1, "orNone", "(I)I"⟩
def dkwX1_orNone_0 : List UInt8 := [26, 19, 1, 4, 161, 0, 7, 2, 167, 0, 4, 26, 172]
abbrev dktX1_orNone_0 : List UInt8 := dkwX1_orNone_0 ++ []
theorem dksX1_orNone_0 : cX1_orNone.data.toList.drop 0 = dktX1_orNone_0 := by decide +kernel
theorem dX1_orNone_0 : decode cX1_orNone 0 = .ok (.iload_n 0, 1) := dk_26 (dk_at dksX1_orNone_0 0 rfl rfl)
theorem dX1_orNone_1 : decode cX1_orNone 1 = .ok (.ldc_w 260, 3) := dk_19 1 4 (dk_at dksX1_orNone_0 1 rfl rfl)
theorem dX1_orNone_4 : decode cX1_orNone 4 = .ok (.if_icmp .lt 7, 3) := dk_161 0 7 (dk_at dksX1_orNone_0 4 rfl rfl)
theorem dX1_orNone_7 : decode cX1_orNone 7 = .ok (.iconst (-1), 1) := dk_2 (dk_at dksX1_orNone_0 7 rfl rfl)
theorem dX1_orNone_8 : decode cX1_orNone 8 = .ok (.goto 4, 3) := dk_167 0 4 (dk_at dksX1_orNone_0 8 rfl rfl)
theorem dX1_orNone_11 : decode cX1_orNone 11 = .ok (.iload_n 0, 1) := dk_26 (dk_at dksX1_orNone_0 11 rfl rfl)
theorem dX1_orNone_12 : decode cX1_orNone 12 = .ok (.ireturn, 1) := dk_172 (dk_at dksX1_orNone_0 12 rfl rfl)
abbrev cX1_round : ByteArray := prog_1_method_43_code
def yX1_round : MethodName := ⟨RX1, "round", "(I)I"⟩
def dkwX1_round_8 : List UInt8 := [21, 5, 28, 182, 1, 5, 96, 184, 0, 232, 54, 4, 132, 5, 1, 167, 255, 214, 21, 4, 184, 1, 8, 172]
abbrev dktX1_round_8 : List UInt8 := dkwX1_round_8 ++ []
def dkwX1_round_7 : List UInt8 := [182, 0, 71, 162, 0, 39, 21, 4, 42, 180, 0, 45, 16, 8, 29, 104, 21, 5, 96, 46, 42, 180, 0, 10]
abbrev dktX1_round_7 : List UInt8 := dkwX1_round_7 ++ dktX1_round_8
def dkwX1_round_6 : List UInt8 := [167, 255, 211, 29, 154, 0, 7, 3, 167, 0, 6, 19, 1, 4, 54, 4, 3, 54, 5, 21, 5, 42]
abbrev dktX1_round_6 : List UInt8 := dkwX1_round_6 ++ dktX1_round_7
def dkwX1_round_5 : List UInt8 := [2, 130, 126, 154, 0, 18, 42, 21, 4, 21, 5, 29, 182, 1, 17, 132, 5, 1, 167, 255, 226, 132, 4, 1]
abbrev dktX1_round_5 : List UInt8 := dkwX1_round_5 ++ dktX1_round_6
def dkwX1_round_4 : List UInt8 := [4, 54, 4, 21, 4, 29, 163, 0, 45, 3, 54, 5, 21, 5, 42, 182, 0, 71, 162, 0, 27, 21, 4, 29]
abbrev dktX1_round_4 : List UInt8 := dkwX1_round_4 ++ dktX1_round_5
def dkwX1_round_3 : List UInt8 := [21, 4, 120, 104, 21, 4, 96, 42, 180, 0, 10, 28, 21, 4, 182, 1, 5, 79, 132, 4, 1, 167, 255, 209]
abbrev dktX1_round_3 : List UInt8 := dkwX1_round_3 ++ dktX1_round_4
def dkwX1_round_2 : List UInt8 := [182, 0, 71, 162, 0, 44, 29, 21, 4, 122, 4, 126, 4, 160, 0, 28, 42, 180, 0, 45, 16, 8, 4]
abbrev dktX1_round_2 : List UInt8 := dkwX1_round_2 ++ dktX1_round_3
def dkwX1_round_1 : List UInt8 := [42, 180, 0, 45, 21, 4, 19, 1, 4, 79, 132, 4, 1, 167, 255, 233, 3, 54, 4, 21, 4, 42]
abbrev dktX1_round_1 : List UInt8 := dkwX1_round_1 ++ dktX1_round_2
def dkwX1_round_0 : List UInt8 := [42, 27, 182, 1, 11, 61, 42, 182, 1, 14, 62, 3, 54, 4, 21, 4, 42, 180, 0, 45, 190, 162, 0, 19]
abbrev dktX1_round_0 : List UInt8 := dkwX1_round_0 ++ dktX1_round_1
theorem dksX1_round_0 : cX1_round.data.toList.drop 0 = dktX1_round_0 := by decide +kernel
theorem dksX1_round_1 : cX1_round.data.toList.drop 24 = dktX1_round_1 := dk_seg dksX1_round_0 24 rfl rfl
theorem dksX1_round_2 : cX1_round.data.toList.drop 46 = dktX1_round_2 := dk_seg dksX1_round_1 22 rfl rfl
theorem dksX1_round_3 : cX1_round.data.toList.drop 69 = dktX1_round_3 := dk_seg dksX1_round_2 23 rfl rfl
theorem dksX1_round_4 : cX1_round.data.toList.drop 93 = dktX1_round_4 := dk_seg dksX1_round_3 24 rfl rfl
theorem dksX1_round_5 : cX1_round.data.toList.drop 117 = dktX1_round_5 := dk_seg dksX1_round_4 24 rfl rfl
theorem dksX1_round_6 : cX1_round.data.toList.drop 141 = dktX1_round_6 := dk_seg dksX1_round_5 24 rfl rfl
theorem dksX1_round_7 : cX1_round.data.toList.drop 163 = dktX1_round_7 := dk_seg dksX1_round_6 22 rfl rfl
theorem dksX1_round_8 : cX1_round.data.toList.drop 187 = dktX1_round_8 := dk_seg dksX1_round_7 24 rfl rfl
theorem dX1_round_0 : decode cX1_round 0 = .ok (.aload_n 0, 1) := dk_42 (dk_at dksX1_round_0 0 rfl rfl)
theorem dX1_round_1 : decode cX1_round 1 = .ok (.iload_n 1, 1) := dk_27 (dk_at dksX1_round_0 1 rfl rfl)
theorem dX1_round_2 : decode cX1_round 2 = .ok (.invokevirtual 267, 3) := dk_182 1 11 (dk_at dksX1_round_0 2 rfl rfl)
theorem dX1_round_5 : decode cX1_round 5 = .ok (.istore_n 2, 1) := dk_61 (dk_at dksX1_round_0 5 rfl rfl)
theorem dX1_round_6 : decode cX1_round 6 = .ok (.aload_n 0, 1) := dk_42 (dk_at dksX1_round_0 6 rfl rfl)
theorem dX1_round_7 : decode cX1_round 7 = .ok (.invokevirtual 270, 3) := dk_182 1 14 (dk_at dksX1_round_0 7 rfl rfl)
theorem dX1_round_10 : decode cX1_round 10 = .ok (.istore_n 3, 1) := dk_62 (dk_at dksX1_round_0 10 rfl rfl)
theorem dX1_round_11 : decode cX1_round 11 = .ok (.iconst 0, 1) := dk_3 (dk_at dksX1_round_0 11 rfl rfl)
theorem dX1_round_12 : decode cX1_round 12 = .ok (.istore 4, 2) := dk_54 4 (dk_at dksX1_round_0 12 rfl rfl)
theorem dX1_round_14 : decode cX1_round 14 = .ok (.iload 4, 2) := dk_21 4 (dk_at dksX1_round_0 14 rfl rfl)
theorem dX1_round_16 : decode cX1_round 16 = .ok (.aload_n 0, 1) := dk_42 (dk_at dksX1_round_0 16 rfl rfl)
theorem dX1_round_17 : decode cX1_round 17 = .ok (.getfield 45, 3) := dk_180 0 45 (dk_at dksX1_round_0 17 rfl rfl)
theorem dX1_round_20 : decode cX1_round 20 = .ok (.arraylength, 1) := dk_190 (dk_at dksX1_round_0 20 rfl rfl)
theorem dX1_round_21 : decode cX1_round 21 = .ok (.if_icmp .ge 19, 3) := dk_162 0 19 (dk_at dksX1_round_0 21 rfl rfl)
theorem dX1_round_24 : decode cX1_round 24 = .ok (.aload_n 0, 1) := dk_42 (dk_at dksX1_round_1 0 rfl rfl)
theorem dX1_round_25 : decode cX1_round 25 = .ok (.getfield 45, 3) := dk_180 0 45 (dk_at dksX1_round_1 1 rfl rfl)
theorem dX1_round_28 : decode cX1_round 28 = .ok (.iload 4, 2) := dk_21 4 (dk_at dksX1_round_1 4 rfl rfl)
theorem dX1_round_30 : decode cX1_round 30 = .ok (.ldc_w 260, 3) := dk_19 1 4 (dk_at dksX1_round_1 6 rfl rfl)
theorem dX1_round_33 : decode cX1_round 33 = .ok (.iastore, 1) := dk_79 (dk_at dksX1_round_1 9 rfl rfl)
theorem dX1_round_34 : decode cX1_round 34 = .ok (.iinc 4 1, 3) := dk_132 4 1 (dk_at dksX1_round_1 10 rfl rfl)
theorem dX1_round_37 : decode cX1_round 37 = .ok (.goto (-23), 3) := dk_167 255 233 (dk_at dksX1_round_1 13 rfl rfl)
theorem dX1_round_40 : decode cX1_round 40 = .ok (.iconst 0, 1) := dk_3 (dk_at dksX1_round_1 16 rfl rfl)
theorem dX1_round_41 : decode cX1_round 41 = .ok (.istore 4, 2) := dk_54 4 (dk_at dksX1_round_1 17 rfl rfl)
theorem dX1_round_43 : decode cX1_round 43 = .ok (.iload 4, 2) := dk_21 4 (dk_at dksX1_round_1 19 rfl rfl)
theorem dX1_round_45 : decode cX1_round 45 = .ok (.aload_n 0, 1) := dk_42 (dk_at dksX1_round_1 21 rfl rfl)
theorem dX1_round_46 : decode cX1_round 46 = .ok (.invokevirtual 71, 3) := dk_182 0 71 (dk_at dksX1_round_2 0 rfl rfl)
theorem dX1_round_49 : decode cX1_round 49 = .ok (.if_icmp .ge 44, 3) := dk_162 0 44 (dk_at dksX1_round_2 3 rfl rfl)
theorem dX1_round_52 : decode cX1_round 52 = .ok (.iload_n 3, 1) := dk_29 (dk_at dksX1_round_2 6 rfl rfl)
theorem dX1_round_53 : decode cX1_round 53 = .ok (.iload 4, 2) := dk_21 4 (dk_at dksX1_round_2 7 rfl rfl)
theorem dX1_round_55 : decode cX1_round 55 = .ok (.ishr, 1) := dk_122 (dk_at dksX1_round_2 9 rfl rfl)
theorem dX1_round_56 : decode cX1_round 56 = .ok (.iconst 1, 1) := dk_4 (dk_at dksX1_round_2 10 rfl rfl)
theorem dX1_round_57 : decode cX1_round 57 = .ok (.iand, 1) := dk_126 (dk_at dksX1_round_2 11 rfl rfl)
theorem dX1_round_58 : decode cX1_round 58 = .ok (.iconst 1, 1) := dk_4 (dk_at dksX1_round_2 12 rfl rfl)
theorem dX1_round_59 : decode cX1_round 59 = .ok (.if_icmp .ne 28, 3) := dk_160 0 28 (dk_at dksX1_round_2 13 rfl rfl)
theorem dX1_round_62 : decode cX1_round 62 = .ok (.aload_n 0, 1) := dk_42 (dk_at dksX1_round_2 16 rfl rfl)
theorem dX1_round_63 : decode cX1_round 63 = .ok (.getfield 45, 3) := dk_180 0 45 (dk_at dksX1_round_2 17 rfl rfl)
theorem dX1_round_66 : decode cX1_round 66 = .ok (.bipush 8, 2) := dk_16 8 (dk_at dksX1_round_2 20 rfl rfl)
theorem dX1_round_68 : decode cX1_round 68 = .ok (.iconst 1, 1) := dk_4 (dk_at dksX1_round_2 22 rfl rfl)
theorem dX1_round_69 : decode cX1_round 69 = .ok (.iload 4, 2) := dk_21 4 (dk_at dksX1_round_3 0 rfl rfl)
theorem dX1_round_71 : decode cX1_round 71 = .ok (.ishl, 1) := dk_120 (dk_at dksX1_round_3 2 rfl rfl)
theorem dX1_round_72 : decode cX1_round 72 = .ok (.imul, 1) := dk_104 (dk_at dksX1_round_3 3 rfl rfl)
theorem dX1_round_73 : decode cX1_round 73 = .ok (.iload 4, 2) := dk_21 4 (dk_at dksX1_round_3 4 rfl rfl)
theorem dX1_round_75 : decode cX1_round 75 = .ok (.iadd, 1) := dk_96 (dk_at dksX1_round_3 6 rfl rfl)
theorem dX1_round_76 : decode cX1_round 76 = .ok (.aload_n 0, 1) := dk_42 (dk_at dksX1_round_3 7 rfl rfl)
theorem dX1_round_77 : decode cX1_round 77 = .ok (.getfield 10, 3) := dk_180 0 10 (dk_at dksX1_round_3 8 rfl rfl)
theorem dX1_round_80 : decode cX1_round 80 = .ok (.iload_n 2, 1) := dk_28 (dk_at dksX1_round_3 11 rfl rfl)
theorem dX1_round_81 : decode cX1_round 81 = .ok (.iload 4, 2) := dk_21 4 (dk_at dksX1_round_3 12 rfl rfl)
theorem dX1_round_83 : decode cX1_round 83 = .ok (.invokevirtual 261, 3) := dk_182 1 5 (dk_at dksX1_round_3 14 rfl rfl)
theorem dX1_round_86 : decode cX1_round 86 = .ok (.iastore, 1) := dk_79 (dk_at dksX1_round_3 17 rfl rfl)
theorem dX1_round_87 : decode cX1_round 87 = .ok (.iinc 4 1, 3) := dk_132 4 1 (dk_at dksX1_round_3 18 rfl rfl)
theorem dX1_round_90 : decode cX1_round 90 = .ok (.goto (-47), 3) := dk_167 255 209 (dk_at dksX1_round_3 21 rfl rfl)
theorem dX1_round_93 : decode cX1_round 93 = .ok (.iconst 1, 1) := dk_4 (dk_at dksX1_round_4 0 rfl rfl)
theorem dX1_round_94 : decode cX1_round 94 = .ok (.istore 4, 2) := dk_54 4 (dk_at dksX1_round_4 1 rfl rfl)
theorem dX1_round_96 : decode cX1_round 96 = .ok (.iload 4, 2) := dk_21 4 (dk_at dksX1_round_4 3 rfl rfl)
theorem dX1_round_98 : decode cX1_round 98 = .ok (.iload_n 3, 1) := dk_29 (dk_at dksX1_round_4 5 rfl rfl)
theorem dX1_round_99 : decode cX1_round 99 = .ok (.if_icmp .gt 45, 3) := dk_163 0 45 (dk_at dksX1_round_4 6 rfl rfl)
theorem dX1_round_102 : decode cX1_round 102 = .ok (.iconst 0, 1) := dk_3 (dk_at dksX1_round_4 9 rfl rfl)
theorem dX1_round_103 : decode cX1_round 103 = .ok (.istore 5, 2) := dk_54 5 (dk_at dksX1_round_4 10 rfl rfl)
theorem dX1_round_105 : decode cX1_round 105 = .ok (.iload 5, 2) := dk_21 5 (dk_at dksX1_round_4 12 rfl rfl)
theorem dX1_round_107 : decode cX1_round 107 = .ok (.aload_n 0, 1) := dk_42 (dk_at dksX1_round_4 14 rfl rfl)
theorem dX1_round_108 : decode cX1_round 108 = .ok (.invokevirtual 71, 3) := dk_182 0 71 (dk_at dksX1_round_4 15 rfl rfl)
theorem dX1_round_111 : decode cX1_round 111 = .ok (.if_icmp .ge 27, 3) := dk_162 0 27 (dk_at dksX1_round_4 18 rfl rfl)
theorem dX1_round_114 : decode cX1_round 114 = .ok (.iload 4, 2) := dk_21 4 (dk_at dksX1_round_4 21 rfl rfl)
theorem dX1_round_116 : decode cX1_round 116 = .ok (.iload_n 3, 1) := dk_29 (dk_at dksX1_round_4 23 rfl rfl)
theorem dX1_round_117 : decode cX1_round 117 = .ok (.iconst (-1), 1) := dk_2 (dk_at dksX1_round_5 0 rfl rfl)
theorem dX1_round_118 : decode cX1_round 118 = .ok (.ixor, 1) := dk_130 (dk_at dksX1_round_5 1 rfl rfl)
theorem dX1_round_119 : decode cX1_round 119 = .ok (.iand, 1) := dk_126 (dk_at dksX1_round_5 2 rfl rfl)
theorem dX1_round_120 : decode cX1_round 120 = .ok (.ifCond .ne 18, 3) := dk_154 0 18 (dk_at dksX1_round_5 3 rfl rfl)
theorem dX1_round_123 : decode cX1_round 123 = .ok (.aload_n 0, 1) := dk_42 (dk_at dksX1_round_5 6 rfl rfl)
theorem dX1_round_124 : decode cX1_round 124 = .ok (.iload 4, 2) := dk_21 4 (dk_at dksX1_round_5 7 rfl rfl)
theorem dX1_round_126 : decode cX1_round 126 = .ok (.iload 5, 2) := dk_21 5 (dk_at dksX1_round_5 9 rfl rfl)
theorem dX1_round_128 : decode cX1_round 128 = .ok (.iload_n 3, 1) := dk_29 (dk_at dksX1_round_5 11 rfl rfl)
theorem dX1_round_129 : decode cX1_round 129 = .ok (.invokevirtual 273, 3) := dk_182 1 17 (dk_at dksX1_round_5 12 rfl rfl)
theorem dX1_round_132 : decode cX1_round 132 = .ok (.iinc 5 1, 3) := dk_132 5 1 (dk_at dksX1_round_5 15 rfl rfl)
theorem dX1_round_135 : decode cX1_round 135 = .ok (.goto (-30), 3) := dk_167 255 226 (dk_at dksX1_round_5 18 rfl rfl)
theorem dX1_round_138 : decode cX1_round 138 = .ok (.iinc 4 1, 3) := dk_132 4 1 (dk_at dksX1_round_5 21 rfl rfl)
theorem dX1_round_141 : decode cX1_round 141 = .ok (.goto (-45), 3) := dk_167 255 211 (dk_at dksX1_round_6 0 rfl rfl)
theorem dX1_round_144 : decode cX1_round 144 = .ok (.iload_n 3, 1) := dk_29 (dk_at dksX1_round_6 3 rfl rfl)
theorem dX1_round_145 : decode cX1_round 145 = .ok (.ifCond .ne 7, 3) := dk_154 0 7 (dk_at dksX1_round_6 4 rfl rfl)
theorem dX1_round_148 : decode cX1_round 148 = .ok (.iconst 0, 1) := dk_3 (dk_at dksX1_round_6 7 rfl rfl)
theorem dX1_round_149 : decode cX1_round 149 = .ok (.goto 6, 3) := dk_167 0 6 (dk_at dksX1_round_6 8 rfl rfl)
theorem dX1_round_152 : decode cX1_round 152 = .ok (.ldc_w 260, 3) := dk_19 1 4 (dk_at dksX1_round_6 11 rfl rfl)
theorem dX1_round_155 : decode cX1_round 155 = .ok (.istore 4, 2) := dk_54 4 (dk_at dksX1_round_6 14 rfl rfl)
theorem dX1_round_157 : decode cX1_round 157 = .ok (.iconst 0, 1) := dk_3 (dk_at dksX1_round_6 16 rfl rfl)
theorem dX1_round_158 : decode cX1_round 158 = .ok (.istore 5, 2) := dk_54 5 (dk_at dksX1_round_6 17 rfl rfl)
theorem dX1_round_160 : decode cX1_round 160 = .ok (.iload 5, 2) := dk_21 5 (dk_at dksX1_round_6 19 rfl rfl)
theorem dX1_round_162 : decode cX1_round 162 = .ok (.aload_n 0, 1) := dk_42 (dk_at dksX1_round_6 21 rfl rfl)
theorem dX1_round_163 : decode cX1_round 163 = .ok (.invokevirtual 71, 3) := dk_182 0 71 (dk_at dksX1_round_7 0 rfl rfl)
theorem dX1_round_166 : decode cX1_round 166 = .ok (.if_icmp .ge 39, 3) := dk_162 0 39 (dk_at dksX1_round_7 3 rfl rfl)
theorem dX1_round_169 : decode cX1_round 169 = .ok (.iload 4, 2) := dk_21 4 (dk_at dksX1_round_7 6 rfl rfl)
theorem dX1_round_171 : decode cX1_round 171 = .ok (.aload_n 0, 1) := dk_42 (dk_at dksX1_round_7 8 rfl rfl)
theorem dX1_round_172 : decode cX1_round 172 = .ok (.getfield 45, 3) := dk_180 0 45 (dk_at dksX1_round_7 9 rfl rfl)
theorem dX1_round_175 : decode cX1_round 175 = .ok (.bipush 8, 2) := dk_16 8 (dk_at dksX1_round_7 12 rfl rfl)
theorem dX1_round_177 : decode cX1_round 177 = .ok (.iload_n 3, 1) := dk_29 (dk_at dksX1_round_7 14 rfl rfl)
theorem dX1_round_178 : decode cX1_round 178 = .ok (.imul, 1) := dk_104 (dk_at dksX1_round_7 15 rfl rfl)
theorem dX1_round_179 : decode cX1_round 179 = .ok (.iload 5, 2) := dk_21 5 (dk_at dksX1_round_7 16 rfl rfl)
theorem dX1_round_181 : decode cX1_round 181 = .ok (.iadd, 1) := dk_96 (dk_at dksX1_round_7 18 rfl rfl)
theorem dX1_round_182 : decode cX1_round 182 = .ok (.iaload, 1) := dk_46 (dk_at dksX1_round_7 19 rfl rfl)
theorem dX1_round_183 : decode cX1_round 183 = .ok (.aload_n 0, 1) := dk_42 (dk_at dksX1_round_7 20 rfl rfl)
theorem dX1_round_184 : decode cX1_round 184 = .ok (.getfield 10, 3) := dk_180 0 10 (dk_at dksX1_round_7 21 rfl rfl)
theorem dX1_round_187 : decode cX1_round 187 = .ok (.iload 5, 2) := dk_21 5 (dk_at dksX1_round_8 0 rfl rfl)
theorem dX1_round_189 : decode cX1_round 189 = .ok (.iload_n 2, 1) := dk_28 (dk_at dksX1_round_8 2 rfl rfl)
theorem dX1_round_190 : decode cX1_round 190 = .ok (.invokevirtual 261, 3) := dk_182 1 5 (dk_at dksX1_round_8 3 rfl rfl)
theorem dX1_round_193 : decode cX1_round 193 = .ok (.iadd, 1) := dk_96 (dk_at dksX1_round_8 6 rfl rfl)
theorem dX1_round_194 : decode cX1_round 194 = .ok (.invokestatic 232, 3) := dk_184 0 232 (dk_at dksX1_round_8 7 rfl rfl)
theorem dX1_round_197 : decode cX1_round 197 = .ok (.istore 4, 2) := dk_54 4 (dk_at dksX1_round_8 10 rfl rfl)
theorem dX1_round_199 : decode cX1_round 199 = .ok (.iinc 5 1, 3) := dk_132 5 1 (dk_at dksX1_round_8 12 rfl rfl)
theorem dX1_round_202 : decode cX1_round 202 = .ok (.goto (-42), 3) := dk_167 255 214 (dk_at dksX1_round_8 15 rfl rfl)
theorem dX1_round_205 : decode cX1_round 205 = .ok (.iload 4, 2) := dk_21 4 (dk_at dksX1_round_8 18 rfl rfl)
theorem dX1_round_207 : decode cX1_round 207 = .ok (.invokestatic 264, 3) := dk_184 1 8 (dk_at dksX1_round_8 20 rfl rfl)
theorem dX1_round_210 : decode cX1_round 210 = .ok (.ireturn, 1) := dk_172 (dk_at dksX1_round_8 23 rfl rfl)
abbrev cX1_fortAt : ByteArray := prog_1_method_9_code
def yX1_fortAt : MethodName := ⟨RX1, "fortAt", "(I)I"⟩
def dkwX1_fortAt_1 : List UInt8 := [184, 0, 73, 42, 180, 0, 10, 180, 0, 85, 27, 182, 0, 77, 192, 0, 88, 182, 0, 90, 172]
abbrev dktX1_fortAt_1 : List UInt8 := dkwX1_fortAt_1 ++ []
def dkwX1_fortAt_0 : List UInt8 := [27, 155, 0, 21, 27, 42, 180, 0, 10, 180, 0, 85, 182, 0, 62, 162, 0, 7, 4, 167, 0, 4, 3]
abbrev dktX1_fortAt_0 : List UInt8 := dkwX1_fortAt_0 ++ dktX1_fortAt_1
theorem dksX1_fortAt_0 : cX1_fortAt.data.toList.drop 0 = dktX1_fortAt_0 := by decide +kernel
theorem dksX1_fortAt_1 : cX1_fortAt.data.toList.drop 23 = dktX1_fortAt_1 := dk_seg dksX1_fortAt_0 23 rfl rfl
theorem dX1_fortAt_0 : decode cX1_fortAt 0 = .ok (.iload_n 1, 1) := dk_27 (dk_at dksX1_fortAt_0 0 rfl rfl)
theorem dX1_fortAt_1 : decode cX1_fortAt 1 = .ok (.ifCond .lt 21, 3) := dk_155 0 21 (dk_at dksX1_fortAt_0 1 rfl rfl)
theorem dX1_fortAt_4 : decode cX1_fortAt 4 = .ok (.iload_n 1, 1) := dk_27 (dk_at dksX1_fortAt_0 4 rfl rfl)
theorem dX1_fortAt_5 : decode cX1_fortAt 5 = .ok (.aload_n 0, 1) := dk_42 (dk_at dksX1_fortAt_0 5 rfl rfl)
theorem dX1_fortAt_6 : decode cX1_fortAt 6 = .ok (.getfield 10, 3) := dk_180 0 10 (dk_at dksX1_fortAt_0 6 rfl rfl)
theorem dX1_fortAt_9 : decode cX1_fortAt 9 = .ok (.getfield 85, 3) := dk_180 0 85 (dk_at dksX1_fortAt_0 9 rfl rfl)
theorem dX1_fortAt_12 : decode cX1_fortAt 12 = .ok (.invokevirtual 62, 3) := dk_182 0 62 (dk_at dksX1_fortAt_0 12 rfl rfl)
theorem dX1_fortAt_15 : decode cX1_fortAt 15 = .ok (.if_icmp .ge 7, 3) := dk_162 0 7 (dk_at dksX1_fortAt_0 15 rfl rfl)
theorem dX1_fortAt_18 : decode cX1_fortAt 18 = .ok (.iconst 1, 1) := dk_4 (dk_at dksX1_fortAt_0 18 rfl rfl)
theorem dX1_fortAt_19 : decode cX1_fortAt 19 = .ok (.goto 4, 3) := dk_167 0 4 (dk_at dksX1_fortAt_0 19 rfl rfl)
theorem dX1_fortAt_22 : decode cX1_fortAt 22 = .ok (.iconst 0, 1) := dk_3 (dk_at dksX1_fortAt_0 22 rfl rfl)
theorem dX1_fortAt_23 : decode cX1_fortAt 23 = .ok (.invokestatic 73, 3) := dk_184 0 73 (dk_at dksX1_fortAt_1 0 rfl rfl)
theorem dX1_fortAt_26 : decode cX1_fortAt 26 = .ok (.aload_n 0, 1) := dk_42 (dk_at dksX1_fortAt_1 3 rfl rfl)
theorem dX1_fortAt_27 : decode cX1_fortAt 27 = .ok (.getfield 10, 3) := dk_180 0 10 (dk_at dksX1_fortAt_1 4 rfl rfl)
theorem dX1_fortAt_30 : decode cX1_fortAt 30 = .ok (.getfield 85, 3) := dk_180 0 85 (dk_at dksX1_fortAt_1 7 rfl rfl)
theorem dX1_fortAt_33 : decode cX1_fortAt 33 = .ok (.iload_n 1, 1) := dk_27 (dk_at dksX1_fortAt_1 10 rfl rfl)
theorem dX1_fortAt_34 : decode cX1_fortAt 34 = .ok (.invokevirtual 77, 3) := dk_182 0 77 (dk_at dksX1_fortAt_1 11 rfl rfl)
theorem dX1_fortAt_37 : decode cX1_fortAt 37 = .ok (.checkcast 88, 3) := dk_192 0 88 (dk_at dksX1_fortAt_1 14 rfl rfl)
theorem dX1_fortAt_40 : decode cX1_fortAt 40 = .ok (.invokevirtual 90, 3) := dk_182 0 90 (dk_at dksX1_fortAt_1 17 rfl rfl)
theorem dX1_fortAt_43 : decode cX1_fortAt 43 = .ok (.ireturn, 1) := dk_172 (dk_at dksX1_fortAt_1 20 rfl rfl)
abbrev cX1_camps : ByteArray := prog_1_method_41_code
def yX1_camps : MethodName := ⟨RX1, "camps", "()I"⟩
def dkwX1_camps_1 : List UInt8 := [128, 60, 132, 2, 1, 167, 255, 231, 27, 172]
abbrev dktX1_camps_1 : List UInt8 := dkwX1_camps_1 ++ []
def dkwX1_camps_0 : List UInt8 := [3, 60, 3, 61, 28, 42, 182, 0, 83, 162, 0, 23, 27, 4, 42, 180, 0, 30, 180, 0, 165, 28, 46, 120]
abbrev dktX1_camps_0 : List UInt8 := dkwX1_camps_0 ++ dktX1_camps_1
theorem dksX1_camps_0 : cX1_camps.data.toList.drop 0 = dktX1_camps_0 := by decide +kernel
theorem dksX1_camps_1 : cX1_camps.data.toList.drop 24 = dktX1_camps_1 := dk_seg dksX1_camps_0 24 rfl rfl
theorem dX1_camps_0 : decode cX1_camps 0 = .ok (.iconst 0, 1) := dk_3 (dk_at dksX1_camps_0 0 rfl rfl)
theorem dX1_camps_1 : decode cX1_camps 1 = .ok (.istore_n 1, 1) := dk_60 (dk_at dksX1_camps_0 1 rfl rfl)
theorem dX1_camps_2 : decode cX1_camps 2 = .ok (.iconst 0, 1) := dk_3 (dk_at dksX1_camps_0 2 rfl rfl)
theorem dX1_camps_3 : decode cX1_camps 3 = .ok (.istore_n 2, 1) := dk_61 (dk_at dksX1_camps_0 3 rfl rfl)
theorem dX1_camps_4 : decode cX1_camps 4 = .ok (.iload_n 2, 1) := dk_28 (dk_at dksX1_camps_0 4 rfl rfl)
theorem dX1_camps_5 : decode cX1_camps 5 = .ok (.aload_n 0, 1) := dk_42 (dk_at dksX1_camps_0 5 rfl rfl)
theorem dX1_camps_6 : decode cX1_camps 6 = .ok (.invokevirtual 83, 3) := dk_182 0 83 (dk_at dksX1_camps_0 6 rfl rfl)
theorem dX1_camps_9 : decode cX1_camps 9 = .ok (.if_icmp .ge 23, 3) := dk_162 0 23 (dk_at dksX1_camps_0 9 rfl rfl)
theorem dX1_camps_12 : decode cX1_camps 12 = .ok (.iload_n 1, 1) := dk_27 (dk_at dksX1_camps_0 12 rfl rfl)
theorem dX1_camps_13 : decode cX1_camps 13 = .ok (.iconst 1, 1) := dk_4 (dk_at dksX1_camps_0 13 rfl rfl)
theorem dX1_camps_14 : decode cX1_camps 14 = .ok (.aload_n 0, 1) := dk_42 (dk_at dksX1_camps_0 14 rfl rfl)
theorem dX1_camps_15 : decode cX1_camps 15 = .ok (.getfield 30, 3) := dk_180 0 30 (dk_at dksX1_camps_0 15 rfl rfl)
theorem dX1_camps_18 : decode cX1_camps 18 = .ok (.getfield 165, 3) := dk_180 0 165 (dk_at dksX1_camps_0 18 rfl rfl)
theorem dX1_camps_21 : decode cX1_camps 21 = .ok (.iload_n 2, 1) := dk_28 (dk_at dksX1_camps_0 21 rfl rfl)
theorem dX1_camps_22 : decode cX1_camps 22 = .ok (.iaload, 1) := dk_46 (dk_at dksX1_camps_0 22 rfl rfl)
theorem dX1_camps_23 : decode cX1_camps 23 = .ok (.ishl, 1) := dk_120 (dk_at dksX1_camps_0 23 rfl rfl)
theorem dX1_camps_24 : decode cX1_camps 24 = .ok (.ior, 1) := dk_128 (dk_at dksX1_camps_1 0 rfl rfl)
theorem dX1_camps_25 : decode cX1_camps 25 = .ok (.istore_n 1, 1) := dk_60 (dk_at dksX1_camps_1 1 rfl rfl)
theorem dX1_camps_26 : decode cX1_camps 26 = .ok (.iinc 2 1, 3) := dk_132 2 1 (dk_at dksX1_camps_1 2 rfl rfl)
theorem dX1_camps_29 : decode cX1_camps 29 = .ok (.goto (-25), 3) := dk_167 255 231 (dk_at dksX1_camps_1 5 rfl rfl)
theorem dX1_camps_32 : decode cX1_camps 32 = .ok (.iload_n 1, 1) := dk_27 (dk_at dksX1_camps_1 8 rfl rfl)
theorem dX1_camps_33 : decode cX1_camps 33 = .ok (.ireturn, 1) := dk_172 (dk_at dksX1_camps_1 9 rfl rfl)
abbrev cX1_walks : ByteArray := prog_1_method_42_code
def yX1_walks : MethodName := ⟨RX1, "walks", "(III)V"⟩
def dkwX1_walks_4 : List UInt8 := [96, 184, 0, 232, 79, 132, 5, 1, 167, 255, 170, 177]
abbrev dktX1_walks_4 : List UInt8 := dkwX1_walks_4 ++ []
def dkwX1_walks_3 : List UInt8 := [180, 0, 45, 21, 6, 42, 180, 0, 45, 21, 6, 46, 21, 4, 42, 180, 0, 10, 28, 21, 5, 182, 1, 5]
abbrev dktX1_walks_3 : List UInt8 := dkwX1_walks_3 ++ dktX1_walks_4
def dkwX1_walks_2 : List UInt8 := [4, 126, 4, 160, 0, 6, 167, 0, 47, 16, 8, 27, 4, 21, 5, 120, 128, 104, 21, 5, 96, 54, 6, 42]
abbrev dktX1_walks_2 : List UInt8 := dkwX1_walks_2 ++ dktX1_walks_3
def dkwX1_walks_1 : List UInt8 := [162, 0, 83, 21, 4, 19, 1, 4, 162, 0, 75, 29, 21, 5, 122, 4, 126, 153, 0, 60, 27, 21, 5, 122]
abbrev dktX1_walks_1 : List UInt8 := dkwX1_walks_1 ++ dktX1_walks_2
def dkwX1_walks_0 : List UInt8 := [42, 180, 0, 45, 16, 8, 27, 104, 28, 96, 46, 54, 4, 3, 54, 5, 21, 5, 42, 182, 0, 71]
abbrev dktX1_walks_0 : List UInt8 := dkwX1_walks_0 ++ dktX1_walks_1
theorem dksX1_walks_0 : cX1_walks.data.toList.drop 0 = dktX1_walks_0 := by decide +kernel
theorem dksX1_walks_1 : cX1_walks.data.toList.drop 22 = dktX1_walks_1 := dk_seg dksX1_walks_0 22 rfl rfl
theorem dksX1_walks_2 : cX1_walks.data.toList.drop 46 = dktX1_walks_2 := dk_seg dksX1_walks_1 24 rfl rfl
theorem dksX1_walks_3 : cX1_walks.data.toList.drop 70 = dktX1_walks_3 := dk_seg dksX1_walks_2 24 rfl rfl
theorem dksX1_walks_4 : cX1_walks.data.toList.drop 94 = dktX1_walks_4 := dk_seg dksX1_walks_3 24 rfl rfl
theorem dX1_walks_0 : decode cX1_walks 0 = .ok (.aload_n 0, 1) := dk_42 (dk_at dksX1_walks_0 0 rfl rfl)
theorem dX1_walks_1 : decode cX1_walks 1 = .ok (.getfield 45, 3) := dk_180 0 45 (dk_at dksX1_walks_0 1 rfl rfl)
theorem dX1_walks_4 : decode cX1_walks 4 = .ok (.bipush 8, 2) := dk_16 8 (dk_at dksX1_walks_0 4 rfl rfl)
theorem dX1_walks_6 : decode cX1_walks 6 = .ok (.iload_n 1, 1) := dk_27 (dk_at dksX1_walks_0 6 rfl rfl)
theorem dX1_walks_7 : decode cX1_walks 7 = .ok (.imul, 1) := dk_104 (dk_at dksX1_walks_0 7 rfl rfl)
theorem dX1_walks_8 : decode cX1_walks 8 = .ok (.iload_n 2, 1) := dk_28 (dk_at dksX1_walks_0 8 rfl rfl)
theorem dX1_walks_9 : decode cX1_walks 9 = .ok (.iadd, 1) := dk_96 (dk_at dksX1_walks_0 9 rfl rfl)
theorem dX1_walks_10 : decode cX1_walks 10 = .ok (.iaload, 1) := dk_46 (dk_at dksX1_walks_0 10 rfl rfl)
theorem dX1_walks_11 : decode cX1_walks 11 = .ok (.istore 4, 2) := dk_54 4 (dk_at dksX1_walks_0 11 rfl rfl)
theorem dX1_walks_13 : decode cX1_walks 13 = .ok (.iconst 0, 1) := dk_3 (dk_at dksX1_walks_0 13 rfl rfl)
theorem dX1_walks_14 : decode cX1_walks 14 = .ok (.istore 5, 2) := dk_54 5 (dk_at dksX1_walks_0 14 rfl rfl)
theorem dX1_walks_16 : decode cX1_walks 16 = .ok (.iload 5, 2) := dk_21 5 (dk_at dksX1_walks_0 16 rfl rfl)
theorem dX1_walks_18 : decode cX1_walks 18 = .ok (.aload_n 0, 1) := dk_42 (dk_at dksX1_walks_0 18 rfl rfl)
theorem dX1_walks_19 : decode cX1_walks 19 = .ok (.invokevirtual 71, 3) := dk_182 0 71 (dk_at dksX1_walks_0 19 rfl rfl)
theorem dX1_walks_22 : decode cX1_walks 22 = .ok (.if_icmp .ge 83, 3) := dk_162 0 83 (dk_at dksX1_walks_1 0 rfl rfl)
theorem dX1_walks_25 : decode cX1_walks 25 = .ok (.iload 4, 2) := dk_21 4 (dk_at dksX1_walks_1 3 rfl rfl)
theorem dX1_walks_27 : decode cX1_walks 27 = .ok (.ldc_w 260, 3) := dk_19 1 4 (dk_at dksX1_walks_1 5 rfl rfl)
theorem dX1_walks_30 : decode cX1_walks 30 = .ok (.if_icmp .ge 75, 3) := dk_162 0 75 (dk_at dksX1_walks_1 8 rfl rfl)
theorem dX1_walks_33 : decode cX1_walks 33 = .ok (.iload_n 3, 1) := dk_29 (dk_at dksX1_walks_1 11 rfl rfl)
theorem dX1_walks_34 : decode cX1_walks 34 = .ok (.iload 5, 2) := dk_21 5 (dk_at dksX1_walks_1 12 rfl rfl)
theorem dX1_walks_36 : decode cX1_walks 36 = .ok (.ishr, 1) := dk_122 (dk_at dksX1_walks_1 14 rfl rfl)
theorem dX1_walks_37 : decode cX1_walks 37 = .ok (.iconst 1, 1) := dk_4 (dk_at dksX1_walks_1 15 rfl rfl)
theorem dX1_walks_38 : decode cX1_walks 38 = .ok (.iand, 1) := dk_126 (dk_at dksX1_walks_1 16 rfl rfl)
theorem dX1_walks_39 : decode cX1_walks 39 = .ok (.ifCond .eq 60, 3) := dk_153 0 60 (dk_at dksX1_walks_1 17 rfl rfl)
theorem dX1_walks_42 : decode cX1_walks 42 = .ok (.iload_n 1, 1) := dk_27 (dk_at dksX1_walks_1 20 rfl rfl)
theorem dX1_walks_43 : decode cX1_walks 43 = .ok (.iload 5, 2) := dk_21 5 (dk_at dksX1_walks_1 21 rfl rfl)
theorem dX1_walks_45 : decode cX1_walks 45 = .ok (.ishr, 1) := dk_122 (dk_at dksX1_walks_1 23 rfl rfl)
theorem dX1_walks_46 : decode cX1_walks 46 = .ok (.iconst 1, 1) := dk_4 (dk_at dksX1_walks_2 0 rfl rfl)
theorem dX1_walks_47 : decode cX1_walks 47 = .ok (.iand, 1) := dk_126 (dk_at dksX1_walks_2 1 rfl rfl)
theorem dX1_walks_48 : decode cX1_walks 48 = .ok (.iconst 1, 1) := dk_4 (dk_at dksX1_walks_2 2 rfl rfl)
theorem dX1_walks_49 : decode cX1_walks 49 = .ok (.if_icmp .ne 6, 3) := dk_160 0 6 (dk_at dksX1_walks_2 3 rfl rfl)
theorem dX1_walks_52 : decode cX1_walks 52 = .ok (.goto 47, 3) := dk_167 0 47 (dk_at dksX1_walks_2 6 rfl rfl)
theorem dX1_walks_55 : decode cX1_walks 55 = .ok (.bipush 8, 2) := dk_16 8 (dk_at dksX1_walks_2 9 rfl rfl)
theorem dX1_walks_57 : decode cX1_walks 57 = .ok (.iload_n 1, 1) := dk_27 (dk_at dksX1_walks_2 11 rfl rfl)
theorem dX1_walks_58 : decode cX1_walks 58 = .ok (.iconst 1, 1) := dk_4 (dk_at dksX1_walks_2 12 rfl rfl)
theorem dX1_walks_59 : decode cX1_walks 59 = .ok (.iload 5, 2) := dk_21 5 (dk_at dksX1_walks_2 13 rfl rfl)
theorem dX1_walks_61 : decode cX1_walks 61 = .ok (.ishl, 1) := dk_120 (dk_at dksX1_walks_2 15 rfl rfl)
theorem dX1_walks_62 : decode cX1_walks 62 = .ok (.ior, 1) := dk_128 (dk_at dksX1_walks_2 16 rfl rfl)
theorem dX1_walks_63 : decode cX1_walks 63 = .ok (.imul, 1) := dk_104 (dk_at dksX1_walks_2 17 rfl rfl)
theorem dX1_walks_64 : decode cX1_walks 64 = .ok (.iload 5, 2) := dk_21 5 (dk_at dksX1_walks_2 18 rfl rfl)
theorem dX1_walks_66 : decode cX1_walks 66 = .ok (.iadd, 1) := dk_96 (dk_at dksX1_walks_2 20 rfl rfl)
theorem dX1_walks_67 : decode cX1_walks 67 = .ok (.istore 6, 2) := dk_54 6 (dk_at dksX1_walks_2 21 rfl rfl)
theorem dX1_walks_69 : decode cX1_walks 69 = .ok (.aload_n 0, 1) := dk_42 (dk_at dksX1_walks_2 23 rfl rfl)
theorem dX1_walks_70 : decode cX1_walks 70 = .ok (.getfield 45, 3) := dk_180 0 45 (dk_at dksX1_walks_3 0 rfl rfl)
theorem dX1_walks_73 : decode cX1_walks 73 = .ok (.iload 6, 2) := dk_21 6 (dk_at dksX1_walks_3 3 rfl rfl)
theorem dX1_walks_75 : decode cX1_walks 75 = .ok (.aload_n 0, 1) := dk_42 (dk_at dksX1_walks_3 5 rfl rfl)
theorem dX1_walks_76 : decode cX1_walks 76 = .ok (.getfield 45, 3) := dk_180 0 45 (dk_at dksX1_walks_3 6 rfl rfl)
theorem dX1_walks_79 : decode cX1_walks 79 = .ok (.iload 6, 2) := dk_21 6 (dk_at dksX1_walks_3 9 rfl rfl)
theorem dX1_walks_81 : decode cX1_walks 81 = .ok (.iaload, 1) := dk_46 (dk_at dksX1_walks_3 11 rfl rfl)
theorem dX1_walks_82 : decode cX1_walks 82 = .ok (.iload 4, 2) := dk_21 4 (dk_at dksX1_walks_3 12 rfl rfl)
theorem dX1_walks_84 : decode cX1_walks 84 = .ok (.aload_n 0, 1) := dk_42 (dk_at dksX1_walks_3 14 rfl rfl)
theorem dX1_walks_85 : decode cX1_walks 85 = .ok (.getfield 10, 3) := dk_180 0 10 (dk_at dksX1_walks_3 15 rfl rfl)
theorem dX1_walks_88 : decode cX1_walks 88 = .ok (.iload_n 2, 1) := dk_28 (dk_at dksX1_walks_3 18 rfl rfl)
theorem dX1_walks_89 : decode cX1_walks 89 = .ok (.iload 5, 2) := dk_21 5 (dk_at dksX1_walks_3 19 rfl rfl)
theorem dX1_walks_91 : decode cX1_walks 91 = .ok (.invokevirtual 261, 3) := dk_182 1 5 (dk_at dksX1_walks_3 21 rfl rfl)
theorem dX1_walks_94 : decode cX1_walks 94 = .ok (.iadd, 1) := dk_96 (dk_at dksX1_walks_4 0 rfl rfl)
theorem dX1_walks_95 : decode cX1_walks 95 = .ok (.invokestatic 232, 3) := dk_184 0 232 (dk_at dksX1_walks_4 1 rfl rfl)
theorem dX1_walks_98 : decode cX1_walks 98 = .ok (.iastore, 1) := dk_79 (dk_at dksX1_walks_4 4 rfl rfl)
theorem dX1_walks_99 : decode cX1_walks 99 = .ok (.iinc 5 1, 3) := dk_132 5 1 (dk_at dksX1_walks_4 5 rfl rfl)
theorem dX1_walks_102 : decode cX1_walks 102 = .ok (.goto (-86), 3) := dk_167 255 170 (dk_at dksX1_walks_4 8 rfl rfl)
theorem dX1_walks_105 : decode cX1_walks 105 = .ok (.return_, 1) := dk_177 (dk_at dksX1_walks_4 11 rfl rfl)
abbrev cX1_first : ByteArray := prog_1_method_44_code
def yX1_first : MethodName := ⟨RX1, "first", "(I)I"⟩
def dkwX1_first_3 : List UInt8 := [161, 0, 6, 167, 0, 9, 21, 4, 61, 21, 5, 62, 132, 4, 1, 167, 255, 187, 28, 172]
abbrev dktX1_first_3 : List UInt8 := dkwX1_first_3 ++ []
def dkwX1_first_2 : List UInt8 := [192, 0, 88, 182, 0, 90, 42, 180, 0, 30, 180, 0, 165, 27, 46, 182, 1, 5, 54, 5, 21, 5, 29]
abbrev dktX1_first_2 : List UInt8 := dkwX1_first_2 ++ dktX1_first_3
def dkwX1_first_1 : List UInt8 := [182, 0, 62, 162, 0, 60, 42, 180, 0, 10, 42, 180, 0, 10, 180, 0, 85, 21, 4, 182, 0, 77]
abbrev dktX1_first_1 : List UInt8 := dkwX1_first_1 ++ dktX1_first_2
def dkwX1_first_0 : List UInt8 := [42, 27, 182, 0, 197, 2, 61, 19, 1, 4, 62, 3, 54, 4, 21, 4, 42, 180, 0, 10, 180, 0, 85]
abbrev dktX1_first_0 : List UInt8 := dkwX1_first_0 ++ dktX1_first_1
theorem dksX1_first_0 : cX1_first.data.toList.drop 0 = dktX1_first_0 := by decide +kernel
theorem dksX1_first_1 : cX1_first.data.toList.drop 23 = dktX1_first_1 := dk_seg dksX1_first_0 23 rfl rfl
theorem dksX1_first_2 : cX1_first.data.toList.drop 45 = dktX1_first_2 := dk_seg dksX1_first_1 22 rfl rfl
theorem dksX1_first_3 : cX1_first.data.toList.drop 68 = dktX1_first_3 := dk_seg dksX1_first_2 23 rfl rfl
theorem dX1_first_0 : decode cX1_first 0 = .ok (.aload_n 0, 1) := dk_42 (dk_at dksX1_first_0 0 rfl rfl)
theorem dX1_first_1 : decode cX1_first 1 = .ok (.iload_n 1, 1) := dk_27 (dk_at dksX1_first_0 1 rfl rfl)
theorem dX1_first_2 : decode cX1_first 2 = .ok (.invokevirtual 197, 3) := dk_182 0 197 (dk_at dksX1_first_0 2 rfl rfl)
theorem dX1_first_5 : decode cX1_first 5 = .ok (.iconst (-1), 1) := dk_2 (dk_at dksX1_first_0 5 rfl rfl)
theorem dX1_first_6 : decode cX1_first 6 = .ok (.istore_n 2, 1) := dk_61 (dk_at dksX1_first_0 6 rfl rfl)
theorem dX1_first_7 : decode cX1_first 7 = .ok (.ldc_w 260, 3) := dk_19 1 4 (dk_at dksX1_first_0 7 rfl rfl)
theorem dX1_first_10 : decode cX1_first 10 = .ok (.istore_n 3, 1) := dk_62 (dk_at dksX1_first_0 10 rfl rfl)
theorem dX1_first_11 : decode cX1_first 11 = .ok (.iconst 0, 1) := dk_3 (dk_at dksX1_first_0 11 rfl rfl)
theorem dX1_first_12 : decode cX1_first 12 = .ok (.istore 4, 2) := dk_54 4 (dk_at dksX1_first_0 12 rfl rfl)
theorem dX1_first_14 : decode cX1_first 14 = .ok (.iload 4, 2) := dk_21 4 (dk_at dksX1_first_0 14 rfl rfl)
theorem dX1_first_16 : decode cX1_first 16 = .ok (.aload_n 0, 1) := dk_42 (dk_at dksX1_first_0 16 rfl rfl)
theorem dX1_first_17 : decode cX1_first 17 = .ok (.getfield 10, 3) := dk_180 0 10 (dk_at dksX1_first_0 17 rfl rfl)
theorem dX1_first_20 : decode cX1_first 20 = .ok (.getfield 85, 3) := dk_180 0 85 (dk_at dksX1_first_0 20 rfl rfl)
theorem dX1_first_23 : decode cX1_first 23 = .ok (.invokevirtual 62, 3) := dk_182 0 62 (dk_at dksX1_first_1 0 rfl rfl)
theorem dX1_first_26 : decode cX1_first 26 = .ok (.if_icmp .ge 60, 3) := dk_162 0 60 (dk_at dksX1_first_1 3 rfl rfl)
theorem dX1_first_29 : decode cX1_first 29 = .ok (.aload_n 0, 1) := dk_42 (dk_at dksX1_first_1 6 rfl rfl)
theorem dX1_first_30 : decode cX1_first 30 = .ok (.getfield 10, 3) := dk_180 0 10 (dk_at dksX1_first_1 7 rfl rfl)
theorem dX1_first_33 : decode cX1_first 33 = .ok (.aload_n 0, 1) := dk_42 (dk_at dksX1_first_1 10 rfl rfl)
theorem dX1_first_34 : decode cX1_first 34 = .ok (.getfield 10, 3) := dk_180 0 10 (dk_at dksX1_first_1 11 rfl rfl)
theorem dX1_first_37 : decode cX1_first 37 = .ok (.getfield 85, 3) := dk_180 0 85 (dk_at dksX1_first_1 14 rfl rfl)
theorem dX1_first_40 : decode cX1_first 40 = .ok (.iload 4, 2) := dk_21 4 (dk_at dksX1_first_1 17 rfl rfl)
theorem dX1_first_42 : decode cX1_first 42 = .ok (.invokevirtual 77, 3) := dk_182 0 77 (dk_at dksX1_first_1 19 rfl rfl)
theorem dX1_first_45 : decode cX1_first 45 = .ok (.checkcast 88, 3) := dk_192 0 88 (dk_at dksX1_first_2 0 rfl rfl)
theorem dX1_first_48 : decode cX1_first 48 = .ok (.invokevirtual 90, 3) := dk_182 0 90 (dk_at dksX1_first_2 3 rfl rfl)
theorem dX1_first_51 : decode cX1_first 51 = .ok (.aload_n 0, 1) := dk_42 (dk_at dksX1_first_2 6 rfl rfl)
theorem dX1_first_52 : decode cX1_first 52 = .ok (.getfield 30, 3) := dk_180 0 30 (dk_at dksX1_first_2 7 rfl rfl)
theorem dX1_first_55 : decode cX1_first 55 = .ok (.getfield 165, 3) := dk_180 0 165 (dk_at dksX1_first_2 10 rfl rfl)
theorem dX1_first_58 : decode cX1_first 58 = .ok (.iload_n 1, 1) := dk_27 (dk_at dksX1_first_2 13 rfl rfl)
theorem dX1_first_59 : decode cX1_first 59 = .ok (.iaload, 1) := dk_46 (dk_at dksX1_first_2 14 rfl rfl)
theorem dX1_first_60 : decode cX1_first 60 = .ok (.invokevirtual 261, 3) := dk_182 1 5 (dk_at dksX1_first_2 15 rfl rfl)
theorem dX1_first_63 : decode cX1_first 63 = .ok (.istore 5, 2) := dk_54 5 (dk_at dksX1_first_2 18 rfl rfl)
theorem dX1_first_65 : decode cX1_first 65 = .ok (.iload 5, 2) := dk_21 5 (dk_at dksX1_first_2 20 rfl rfl)
theorem dX1_first_67 : decode cX1_first 67 = .ok (.iload_n 3, 1) := dk_29 (dk_at dksX1_first_2 22 rfl rfl)
theorem dX1_first_68 : decode cX1_first 68 = .ok (.if_icmp .lt 6, 3) := dk_161 0 6 (dk_at dksX1_first_3 0 rfl rfl)
theorem dX1_first_71 : decode cX1_first 71 = .ok (.goto 9, 3) := dk_167 0 9 (dk_at dksX1_first_3 3 rfl rfl)
theorem dX1_first_74 : decode cX1_first 74 = .ok (.iload 4, 2) := dk_21 4 (dk_at dksX1_first_3 6 rfl rfl)
theorem dX1_first_76 : decode cX1_first 76 = .ok (.istore_n 2, 1) := dk_61 (dk_at dksX1_first_3 8 rfl rfl)
theorem dX1_first_77 : decode cX1_first 77 = .ok (.iload 5, 2) := dk_21 5 (dk_at dksX1_first_3 9 rfl rfl)
theorem dX1_first_79 : decode cX1_first 79 = .ok (.istore_n 3, 1) := dk_62 (dk_at dksX1_first_3 11 rfl rfl)
theorem dX1_first_80 : decode cX1_first 80 = .ok (.iinc 4 1, 3) := dk_132 4 1 (dk_at dksX1_first_3 12 rfl rfl)
theorem dX1_first_83 : decode cX1_first 83 = .ok (.goto (-69), 3) := dk_167 255 187 (dk_at dksX1_first_3 15 rfl rfl)
theorem dX1_first_86 : decode cX1_first 86 = .ok (.iload_n 2, 1) := dk_28 (dk_at dksX1_first_3 18 rfl rfl)
theorem dX1_first_87 : decode cX1_first 87 = .ok (.ireturn, 1) := dk_172 (dk_at dksX1_first_3 19 rfl rfl)
abbrev cX1_meeting : ByteArray := prog_1_method_45_code
def yX1_meeting : MethodName := ⟨RX1, "meeting", "(III)I"⟩
def dkwX1_meeting_4 : List UInt8 := [29, 154, 0, 8, 21, 6, 167, 0, 8, 21, 7, 184, 1, 8, 172]
abbrev dktX1_meeting_4 : List UInt8 := dkwX1_meeting_4 ++ []
def dkwX1_meeting_3 : List UInt8 := [21, 9, 21, 7, 161, 0, 6, 167, 0, 11, 21, 8, 54, 6, 21, 9, 54, 7, 132, 8, 1, 167, 255, 199]
abbrev dktX1_meeting_3 : List UInt8 := dkwX1_meeting_3 ++ dktX1_meeting_4
def dkwX1_meeting_2 : List UInt8 := [21, 4, 21, 8, 182, 1, 5, 42, 180, 0, 10, 21, 5, 21, 8, 182, 1, 5, 184, 1, 21, 54, 9]
abbrev dktX1_meeting_2 : List UInt8 := dkwX1_meeting_2 ++ dktX1_meeting_3
def dkwX1_meeting_1 : List UInt8 := [54, 6, 19, 1, 4, 54, 7, 3, 54, 8, 21, 8, 42, 182, 0, 71, 162, 0, 54, 42, 180, 0, 10]
abbrev dktX1_meeting_1 : List UInt8 := dkwX1_meeting_1 ++ dktX1_meeting_2
def dkwX1_meeting_0 : List UInt8 := [42, 27, 182, 1, 11, 54, 4, 42, 28, 182, 1, 11, 54, 5, 29, 3, 4, 184, 0, 136, 184, 0, 73, 2]
abbrev dktX1_meeting_0 : List UInt8 := dkwX1_meeting_0 ++ dktX1_meeting_1
theorem dksX1_meeting_0 : cX1_meeting.data.toList.drop 0 = dktX1_meeting_0 := by decide +kernel
theorem dksX1_meeting_1 : cX1_meeting.data.toList.drop 24 = dktX1_meeting_1 := dk_seg dksX1_meeting_0 24 rfl rfl
theorem dksX1_meeting_2 : cX1_meeting.data.toList.drop 47 = dktX1_meeting_2 := dk_seg dksX1_meeting_1 23 rfl rfl
theorem dksX1_meeting_3 : cX1_meeting.data.toList.drop 70 = dktX1_meeting_3 := dk_seg dksX1_meeting_2 23 rfl rfl
theorem dksX1_meeting_4 : cX1_meeting.data.toList.drop 94 = dktX1_meeting_4 := dk_seg dksX1_meeting_3 24 rfl rfl
theorem dX1_meeting_0 : decode cX1_meeting 0 = .ok (.aload_n 0, 1) := dk_42 (dk_at dksX1_meeting_0 0 rfl rfl)
theorem dX1_meeting_1 : decode cX1_meeting 1 = .ok (.iload_n 1, 1) := dk_27 (dk_at dksX1_meeting_0 1 rfl rfl)
theorem dX1_meeting_2 : decode cX1_meeting 2 = .ok (.invokevirtual 267, 3) := dk_182 1 11 (dk_at dksX1_meeting_0 2 rfl rfl)
theorem dX1_meeting_5 : decode cX1_meeting 5 = .ok (.istore 4, 2) := dk_54 4 (dk_at dksX1_meeting_0 5 rfl rfl)
theorem dX1_meeting_7 : decode cX1_meeting 7 = .ok (.aload_n 0, 1) := dk_42 (dk_at dksX1_meeting_0 7 rfl rfl)
theorem dX1_meeting_8 : decode cX1_meeting 8 = .ok (.iload_n 2, 1) := dk_28 (dk_at dksX1_meeting_0 8 rfl rfl)
theorem dX1_meeting_9 : decode cX1_meeting 9 = .ok (.invokevirtual 267, 3) := dk_182 1 11 (dk_at dksX1_meeting_0 9 rfl rfl)
theorem dX1_meeting_12 : decode cX1_meeting 12 = .ok (.istore 5, 2) := dk_54 5 (dk_at dksX1_meeting_0 12 rfl rfl)
theorem dX1_meeting_14 : decode cX1_meeting 14 = .ok (.iload_n 3, 1) := dk_29 (dk_at dksX1_meeting_0 14 rfl rfl)
theorem dX1_meeting_15 : decode cX1_meeting 15 = .ok (.iconst 0, 1) := dk_3 (dk_at dksX1_meeting_0 15 rfl rfl)
theorem dX1_meeting_16 : decode cX1_meeting 16 = .ok (.iconst 1, 1) := dk_4 (dk_at dksX1_meeting_0 16 rfl rfl)
theorem dX1_meeting_17 : decode cX1_meeting 17 = .ok (.invokestatic 136, 3) := dk_184 0 136 (dk_at dksX1_meeting_0 17 rfl rfl)
theorem dX1_meeting_20 : decode cX1_meeting 20 = .ok (.invokestatic 73, 3) := dk_184 0 73 (dk_at dksX1_meeting_0 20 rfl rfl)
theorem dX1_meeting_23 : decode cX1_meeting 23 = .ok (.iconst (-1), 1) := dk_2 (dk_at dksX1_meeting_0 23 rfl rfl)
theorem dX1_meeting_24 : decode cX1_meeting 24 = .ok (.istore 6, 2) := dk_54 6 (dk_at dksX1_meeting_1 0 rfl rfl)
theorem dX1_meeting_26 : decode cX1_meeting 26 = .ok (.ldc_w 260, 3) := dk_19 1 4 (dk_at dksX1_meeting_1 2 rfl rfl)
theorem dX1_meeting_29 : decode cX1_meeting 29 = .ok (.istore 7, 2) := dk_54 7 (dk_at dksX1_meeting_1 5 rfl rfl)
theorem dX1_meeting_31 : decode cX1_meeting 31 = .ok (.iconst 0, 1) := dk_3 (dk_at dksX1_meeting_1 7 rfl rfl)
theorem dX1_meeting_32 : decode cX1_meeting 32 = .ok (.istore 8, 2) := dk_54 8 (dk_at dksX1_meeting_1 8 rfl rfl)
theorem dX1_meeting_34 : decode cX1_meeting 34 = .ok (.iload 8, 2) := dk_21 8 (dk_at dksX1_meeting_1 10 rfl rfl)
theorem dX1_meeting_36 : decode cX1_meeting 36 = .ok (.aload_n 0, 1) := dk_42 (dk_at dksX1_meeting_1 12 rfl rfl)
theorem dX1_meeting_37 : decode cX1_meeting 37 = .ok (.invokevirtual 71, 3) := dk_182 0 71 (dk_at dksX1_meeting_1 13 rfl rfl)
theorem dX1_meeting_40 : decode cX1_meeting 40 = .ok (.if_icmp .ge 54, 3) := dk_162 0 54 (dk_at dksX1_meeting_1 16 rfl rfl)
theorem dX1_meeting_43 : decode cX1_meeting 43 = .ok (.aload_n 0, 1) := dk_42 (dk_at dksX1_meeting_1 19 rfl rfl)
theorem dX1_meeting_44 : decode cX1_meeting 44 = .ok (.getfield 10, 3) := dk_180 0 10 (dk_at dksX1_meeting_1 20 rfl rfl)
theorem dX1_meeting_47 : decode cX1_meeting 47 = .ok (.iload 4, 2) := dk_21 4 (dk_at dksX1_meeting_2 0 rfl rfl)
theorem dX1_meeting_49 : decode cX1_meeting 49 = .ok (.iload 8, 2) := dk_21 8 (dk_at dksX1_meeting_2 2 rfl rfl)
theorem dX1_meeting_51 : decode cX1_meeting 51 = .ok (.invokevirtual 261, 3) := dk_182 1 5 (dk_at dksX1_meeting_2 4 rfl rfl)
theorem dX1_meeting_54 : decode cX1_meeting 54 = .ok (.aload_n 0, 1) := dk_42 (dk_at dksX1_meeting_2 7 rfl rfl)
theorem dX1_meeting_55 : decode cX1_meeting 55 = .ok (.getfield 10, 3) := dk_180 0 10 (dk_at dksX1_meeting_2 8 rfl rfl)
theorem dX1_meeting_58 : decode cX1_meeting 58 = .ok (.iload 5, 2) := dk_21 5 (dk_at dksX1_meeting_2 11 rfl rfl)
theorem dX1_meeting_60 : decode cX1_meeting 60 = .ok (.iload 8, 2) := dk_21 8 (dk_at dksX1_meeting_2 13 rfl rfl)
theorem dX1_meeting_62 : decode cX1_meeting 62 = .ok (.invokevirtual 261, 3) := dk_182 1 5 (dk_at dksX1_meeting_2 15 rfl rfl)
theorem dX1_meeting_65 : decode cX1_meeting 65 = .ok (.invokestatic 277, 3) := dk_184 1 21 (dk_at dksX1_meeting_2 18 rfl rfl)
theorem dX1_meeting_68 : decode cX1_meeting 68 = .ok (.istore 9, 2) := dk_54 9 (dk_at dksX1_meeting_2 21 rfl rfl)
theorem dX1_meeting_70 : decode cX1_meeting 70 = .ok (.iload 9, 2) := dk_21 9 (dk_at dksX1_meeting_3 0 rfl rfl)
theorem dX1_meeting_72 : decode cX1_meeting 72 = .ok (.iload 7, 2) := dk_21 7 (dk_at dksX1_meeting_3 2 rfl rfl)
theorem dX1_meeting_74 : decode cX1_meeting 74 = .ok (.if_icmp .lt 6, 3) := dk_161 0 6 (dk_at dksX1_meeting_3 4 rfl rfl)
theorem dX1_meeting_77 : decode cX1_meeting 77 = .ok (.goto 11, 3) := dk_167 0 11 (dk_at dksX1_meeting_3 7 rfl rfl)
theorem dX1_meeting_80 : decode cX1_meeting 80 = .ok (.iload 8, 2) := dk_21 8 (dk_at dksX1_meeting_3 10 rfl rfl)
theorem dX1_meeting_82 : decode cX1_meeting 82 = .ok (.istore 6, 2) := dk_54 6 (dk_at dksX1_meeting_3 12 rfl rfl)
theorem dX1_meeting_84 : decode cX1_meeting 84 = .ok (.iload 9, 2) := dk_21 9 (dk_at dksX1_meeting_3 14 rfl rfl)
theorem dX1_meeting_86 : decode cX1_meeting 86 = .ok (.istore 7, 2) := dk_54 7 (dk_at dksX1_meeting_3 16 rfl rfl)
theorem dX1_meeting_88 : decode cX1_meeting 88 = .ok (.iinc 8 1, 3) := dk_132 8 1 (dk_at dksX1_meeting_3 18 rfl rfl)
theorem dX1_meeting_91 : decode cX1_meeting 91 = .ok (.goto (-57), 3) := dk_167 255 199 (dk_at dksX1_meeting_3 21 rfl rfl)
theorem dX1_meeting_94 : decode cX1_meeting 94 = .ok (.iload_n 3, 1) := dk_29 (dk_at dksX1_meeting_4 0 rfl rfl)
theorem dX1_meeting_95 : decode cX1_meeting 95 = .ok (.ifCond .ne 8, 3) := dk_154 0 8 (dk_at dksX1_meeting_4 1 rfl rfl)
theorem dX1_meeting_98 : decode cX1_meeting 98 = .ok (.iload 6, 2) := dk_21 6 (dk_at dksX1_meeting_4 4 rfl rfl)
theorem dX1_meeting_100 : decode cX1_meeting 100 = .ok (.goto 8, 3) := dk_167 0 8 (dk_at dksX1_meeting_4 6 rfl rfl)
theorem dX1_meeting_103 : decode cX1_meeting 103 = .ok (.iload 7, 2) := dk_21 7 (dk_at dksX1_meeting_4 9 rfl rfl)
theorem dX1_meeting_105 : decode cX1_meeting 105 = .ok (.invokestatic 264, 3) := dk_184 1 8 (dk_at dksX1_meeting_4 11 rfl rfl)
theorem dX1_meeting_108 : decode cX1_meeting 108 = .ok (.ireturn, 1) := dk_172 (dk_at dksX1_meeting_4 14 rfl rfl)
abbrev cX1_where : ByteArray := prog_1_method_47_code
def yX1_where : MethodName := ⟨RX1, "where", "(III)I"⟩
def dkwX1_where_4 : List UInt8 := [21, 4, 167, 0, 5, 21, 5, 172]
abbrev dktX1_where_4 : List UInt8 := dkwX1_where_4 ++ []
def dkwX1_where_3 : List UInt8 := [161, 0, 6, 167, 0, 11, 21, 6, 54, 4, 21, 7, 54, 5, 132, 6, 1, 167, 255, 201, 29, 154, 0, 8]
abbrev dktX1_where_3 : List UInt8 := dkwX1_where_3 ++ dktX1_where_4
def dkwX1_where_2 : List UInt8 := [180, 0, 30, 180, 0, 203, 27, 46, 28, 182, 1, 24, 54, 7, 21, 4, 2, 159, 0, 13, 21, 7, 21, 5]
abbrev dktX1_where_2 : List UInt8 := dkwX1_where_2 ++ dktX1_where_3
def dkwX1_where_1 : List UInt8 := [2, 54, 4, 3, 54, 5, 3, 54, 6, 21, 6, 42, 182, 0, 71, 162, 0, 52, 42, 27, 21, 6, 42]
abbrev dktX1_where_1 : List UInt8 := dkwX1_where_1 ++ dktX1_where_2
def dkwX1_where_0 : List UInt8 := [42, 27, 182, 0, 197, 29, 3, 4, 184, 0, 136, 184, 0, 73, 28, 4, 16, 20, 184, 0, 136, 184, 0, 100]
abbrev dktX1_where_0 : List UInt8 := dkwX1_where_0 ++ dktX1_where_1
theorem dksX1_where_0 : cX1_where.data.toList.drop 0 = dktX1_where_0 := by decide +kernel
theorem dksX1_where_1 : cX1_where.data.toList.drop 24 = dktX1_where_1 := dk_seg dksX1_where_0 24 rfl rfl
theorem dksX1_where_2 : cX1_where.data.toList.drop 47 = dktX1_where_2 := dk_seg dksX1_where_1 23 rfl rfl
theorem dksX1_where_3 : cX1_where.data.toList.drop 71 = dktX1_where_3 := dk_seg dksX1_where_2 24 rfl rfl
theorem dksX1_where_4 : cX1_where.data.toList.drop 95 = dktX1_where_4 := dk_seg dksX1_where_3 24 rfl rfl
theorem dX1_where_0 : decode cX1_where 0 = .ok (.aload_n 0, 1) := dk_42 (dk_at dksX1_where_0 0 rfl rfl)
theorem dX1_where_1 : decode cX1_where 1 = .ok (.iload_n 1, 1) := dk_27 (dk_at dksX1_where_0 1 rfl rfl)
theorem dX1_where_2 : decode cX1_where 2 = .ok (.invokevirtual 197, 3) := dk_182 0 197 (dk_at dksX1_where_0 2 rfl rfl)
theorem dX1_where_5 : decode cX1_where 5 = .ok (.iload_n 3, 1) := dk_29 (dk_at dksX1_where_0 5 rfl rfl)
theorem dX1_where_6 : decode cX1_where 6 = .ok (.iconst 0, 1) := dk_3 (dk_at dksX1_where_0 6 rfl rfl)
theorem dX1_where_7 : decode cX1_where 7 = .ok (.iconst 1, 1) := dk_4 (dk_at dksX1_where_0 7 rfl rfl)
theorem dX1_where_8 : decode cX1_where 8 = .ok (.invokestatic 136, 3) := dk_184 0 136 (dk_at dksX1_where_0 8 rfl rfl)
theorem dX1_where_11 : decode cX1_where 11 = .ok (.invokestatic 73, 3) := dk_184 0 73 (dk_at dksX1_where_0 11 rfl rfl)
theorem dX1_where_14 : decode cX1_where 14 = .ok (.iload_n 2, 1) := dk_28 (dk_at dksX1_where_0 14 rfl rfl)
theorem dX1_where_15 : decode cX1_where 15 = .ok (.iconst 1, 1) := dk_4 (dk_at dksX1_where_0 15 rfl rfl)
theorem dX1_where_16 : decode cX1_where 16 = .ok (.bipush 20, 2) := dk_16 20 (dk_at dksX1_where_0 16 rfl rfl)
theorem dX1_where_18 : decode cX1_where 18 = .ok (.invokestatic 136, 3) := dk_184 0 136 (dk_at dksX1_where_0 18 rfl rfl)
theorem dX1_where_21 : decode cX1_where 21 = .ok (.invokestatic 100, 3) := dk_184 0 100 (dk_at dksX1_where_0 21 rfl rfl)
theorem dX1_where_24 : decode cX1_where 24 = .ok (.iconst (-1), 1) := dk_2 (dk_at dksX1_where_1 0 rfl rfl)
theorem dX1_where_25 : decode cX1_where 25 = .ok (.istore 4, 2) := dk_54 4 (dk_at dksX1_where_1 1 rfl rfl)
theorem dX1_where_27 : decode cX1_where 27 = .ok (.iconst 0, 1) := dk_3 (dk_at dksX1_where_1 3 rfl rfl)
theorem dX1_where_28 : decode cX1_where 28 = .ok (.istore 5, 2) := dk_54 5 (dk_at dksX1_where_1 4 rfl rfl)
theorem dX1_where_30 : decode cX1_where 30 = .ok (.iconst 0, 1) := dk_3 (dk_at dksX1_where_1 6 rfl rfl)
theorem dX1_where_31 : decode cX1_where 31 = .ok (.istore 6, 2) := dk_54 6 (dk_at dksX1_where_1 7 rfl rfl)
theorem dX1_where_33 : decode cX1_where 33 = .ok (.iload 6, 2) := dk_21 6 (dk_at dksX1_where_1 9 rfl rfl)
theorem dX1_where_35 : decode cX1_where 35 = .ok (.aload_n 0, 1) := dk_42 (dk_at dksX1_where_1 11 rfl rfl)
theorem dX1_where_36 : decode cX1_where 36 = .ok (.invokevirtual 71, 3) := dk_182 0 71 (dk_at dksX1_where_1 12 rfl rfl)
theorem dX1_where_39 : decode cX1_where 39 = .ok (.if_icmp .ge 52, 3) := dk_162 0 52 (dk_at dksX1_where_1 15 rfl rfl)
theorem dX1_where_42 : decode cX1_where 42 = .ok (.aload_n 0, 1) := dk_42 (dk_at dksX1_where_1 18 rfl rfl)
theorem dX1_where_43 : decode cX1_where 43 = .ok (.iload_n 1, 1) := dk_27 (dk_at dksX1_where_1 19 rfl rfl)
theorem dX1_where_44 : decode cX1_where 44 = .ok (.iload 6, 2) := dk_21 6 (dk_at dksX1_where_1 20 rfl rfl)
theorem dX1_where_46 : decode cX1_where 46 = .ok (.aload_n 0, 1) := dk_42 (dk_at dksX1_where_1 22 rfl rfl)
theorem dX1_where_47 : decode cX1_where 47 = .ok (.getfield 30, 3) := dk_180 0 30 (dk_at dksX1_where_2 0 rfl rfl)
theorem dX1_where_50 : decode cX1_where 50 = .ok (.getfield 203, 3) := dk_180 0 203 (dk_at dksX1_where_2 3 rfl rfl)
theorem dX1_where_53 : decode cX1_where 53 = .ok (.iload_n 1, 1) := dk_27 (dk_at dksX1_where_2 6 rfl rfl)
theorem dX1_where_54 : decode cX1_where 54 = .ok (.iaload, 1) := dk_46 (dk_at dksX1_where_2 7 rfl rfl)
theorem dX1_where_55 : decode cX1_where 55 = .ok (.iload_n 2, 1) := dk_28 (dk_at dksX1_where_2 8 rfl rfl)
theorem dX1_where_56 : decode cX1_where 56 = .ok (.invokevirtual 280, 3) := dk_182 1 24 (dk_at dksX1_where_2 9 rfl rfl)
theorem dX1_where_59 : decode cX1_where 59 = .ok (.istore 7, 2) := dk_54 7 (dk_at dksX1_where_2 12 rfl rfl)
theorem dX1_where_61 : decode cX1_where 61 = .ok (.iload 4, 2) := dk_21 4 (dk_at dksX1_where_2 14 rfl rfl)
theorem dX1_where_63 : decode cX1_where 63 = .ok (.iconst (-1), 1) := dk_2 (dk_at dksX1_where_2 16 rfl rfl)
theorem dX1_where_64 : decode cX1_where 64 = .ok (.if_icmp .eq 13, 3) := dk_159 0 13 (dk_at dksX1_where_2 17 rfl rfl)
theorem dX1_where_67 : decode cX1_where 67 = .ok (.iload 7, 2) := dk_21 7 (dk_at dksX1_where_2 20 rfl rfl)
theorem dX1_where_69 : decode cX1_where 69 = .ok (.iload 5, 2) := dk_21 5 (dk_at dksX1_where_2 22 rfl rfl)
theorem dX1_where_71 : decode cX1_where 71 = .ok (.if_icmp .lt 6, 3) := dk_161 0 6 (dk_at dksX1_where_3 0 rfl rfl)
theorem dX1_where_74 : decode cX1_where 74 = .ok (.goto 11, 3) := dk_167 0 11 (dk_at dksX1_where_3 3 rfl rfl)
theorem dX1_where_77 : decode cX1_where 77 = .ok (.iload 6, 2) := dk_21 6 (dk_at dksX1_where_3 6 rfl rfl)
theorem dX1_where_79 : decode cX1_where 79 = .ok (.istore 4, 2) := dk_54 4 (dk_at dksX1_where_3 8 rfl rfl)
theorem dX1_where_81 : decode cX1_where 81 = .ok (.iload 7, 2) := dk_21 7 (dk_at dksX1_where_3 10 rfl rfl)
theorem dX1_where_83 : decode cX1_where 83 = .ok (.istore 5, 2) := dk_54 5 (dk_at dksX1_where_3 12 rfl rfl)
theorem dX1_where_85 : decode cX1_where 85 = .ok (.iinc 6 1, 3) := dk_132 6 1 (dk_at dksX1_where_3 14 rfl rfl)
theorem dX1_where_88 : decode cX1_where 88 = .ok (.goto (-55), 3) := dk_167 255 201 (dk_at dksX1_where_3 17 rfl rfl)
theorem dX1_where_91 : decode cX1_where 91 = .ok (.iload_n 3, 1) := dk_29 (dk_at dksX1_where_3 20 rfl rfl)
theorem dX1_where_92 : decode cX1_where 92 = .ok (.ifCond .ne 8, 3) := dk_154 0 8 (dk_at dksX1_where_3 21 rfl rfl)
theorem dX1_where_95 : decode cX1_where 95 = .ok (.iload 4, 2) := dk_21 4 (dk_at dksX1_where_4 0 rfl rfl)
theorem dX1_where_97 : decode cX1_where 97 = .ok (.goto 5, 3) := dk_167 0 5 (dk_at dksX1_where_4 2 rfl rfl)
theorem dX1_where_100 : decode cX1_where 100 = .ok (.iload 5, 2) := dk_21 5 (dk_at dksX1_where_4 5 rfl rfl)
theorem dX1_where_102 : decode cX1_where 102 = .ok (.ireturn, 1) := dk_172 (dk_at dksX1_where_4 7 rfl rfl)
abbrev cX1_owesBy : ByteArray := prog_1_method_46_code
def yX1_owesBy : MethodName := ⟨RX1, "owesBy", "(IIII)I"⟩
def dkwX1_owesBy_2 : List UInt8 := [172]
abbrev dktX1_owesBy_2 : List UInt8 := dkwX1_owesBy_2 ++ []
def dkwX1_owesBy_1 : List UInt8 := [180, 0, 34, 180, 0, 203, 27, 29, 79, 42, 21, 4, 182, 0, 245, 42, 180, 0, 34, 180, 0, 209, 27, 46]
abbrev dktX1_owesBy_1 : List UInt8 := dkwX1_owesBy_1 ++ dktX1_owesBy_2
def dkwX1_owesBy_0 : List UInt8 := [42, 180, 0, 34, 42, 180, 0, 30, 182, 0, 241, 42, 180, 0, 34, 180, 0, 165, 27, 28, 79, 42]
abbrev dktX1_owesBy_0 : List UInt8 := dkwX1_owesBy_0 ++ dktX1_owesBy_1
theorem dksX1_owesBy_0 : cX1_owesBy.data.toList.drop 0 = dktX1_owesBy_0 := by decide +kernel
theorem dksX1_owesBy_1 : cX1_owesBy.data.toList.drop 22 = dktX1_owesBy_1 := dk_seg dksX1_owesBy_0 22 rfl rfl
theorem dksX1_owesBy_2 : cX1_owesBy.data.toList.drop 46 = dktX1_owesBy_2 := dk_seg dksX1_owesBy_1 24 rfl rfl
theorem dX1_owesBy_0 : decode cX1_owesBy 0 = .ok (.aload_n 0, 1) := dk_42 (dk_at dksX1_owesBy_0 0 rfl rfl)
theorem dX1_owesBy_1 : decode cX1_owesBy 1 = .ok (.getfield 34, 3) := dk_180 0 34 (dk_at dksX1_owesBy_0 1 rfl rfl)
theorem dX1_owesBy_4 : decode cX1_owesBy 4 = .ok (.aload_n 0, 1) := dk_42 (dk_at dksX1_owesBy_0 4 rfl rfl)
theorem dX1_owesBy_5 : decode cX1_owesBy 5 = .ok (.getfield 30, 3) := dk_180 0 30 (dk_at dksX1_owesBy_0 5 rfl rfl)
theorem dX1_owesBy_8 : decode cX1_owesBy 8 = .ok (.invokevirtual 241, 3) := dk_182 0 241 (dk_at dksX1_owesBy_0 8 rfl rfl)
theorem dX1_owesBy_11 : decode cX1_owesBy 11 = .ok (.aload_n 0, 1) := dk_42 (dk_at dksX1_owesBy_0 11 rfl rfl)
theorem dX1_owesBy_12 : decode cX1_owesBy 12 = .ok (.getfield 34, 3) := dk_180 0 34 (dk_at dksX1_owesBy_0 12 rfl rfl)
theorem dX1_owesBy_15 : decode cX1_owesBy 15 = .ok (.getfield 165, 3) := dk_180 0 165 (dk_at dksX1_owesBy_0 15 rfl rfl)
theorem dX1_owesBy_18 : decode cX1_owesBy 18 = .ok (.iload_n 1, 1) := dk_27 (dk_at dksX1_owesBy_0 18 rfl rfl)
theorem dX1_owesBy_19 : decode cX1_owesBy 19 = .ok (.iload_n 2, 1) := dk_28 (dk_at dksX1_owesBy_0 19 rfl rfl)
theorem dX1_owesBy_20 : decode cX1_owesBy 20 = .ok (.iastore, 1) := dk_79 (dk_at dksX1_owesBy_0 20 rfl rfl)
theorem dX1_owesBy_21 : decode cX1_owesBy 21 = .ok (.aload_n 0, 1) := dk_42 (dk_at dksX1_owesBy_0 21 rfl rfl)
theorem dX1_owesBy_22 : decode cX1_owesBy 22 = .ok (.getfield 34, 3) := dk_180 0 34 (dk_at dksX1_owesBy_1 0 rfl rfl)
theorem dX1_owesBy_25 : decode cX1_owesBy 25 = .ok (.getfield 203, 3) := dk_180 0 203 (dk_at dksX1_owesBy_1 3 rfl rfl)
theorem dX1_owesBy_28 : decode cX1_owesBy 28 = .ok (.iload_n 1, 1) := dk_27 (dk_at dksX1_owesBy_1 6 rfl rfl)
theorem dX1_owesBy_29 : decode cX1_owesBy 29 = .ok (.iload_n 3, 1) := dk_29 (dk_at dksX1_owesBy_1 7 rfl rfl)
theorem dX1_owesBy_30 : decode cX1_owesBy 30 = .ok (.iastore, 1) := dk_79 (dk_at dksX1_owesBy_1 8 rfl rfl)
theorem dX1_owesBy_31 : decode cX1_owesBy 31 = .ok (.aload_n 0, 1) := dk_42 (dk_at dksX1_owesBy_1 9 rfl rfl)
theorem dX1_owesBy_32 : decode cX1_owesBy 32 = .ok (.iload 4, 2) := dk_21 4 (dk_at dksX1_owesBy_1 10 rfl rfl)
theorem dX1_owesBy_34 : decode cX1_owesBy 34 = .ok (.invokevirtual 245, 3) := dk_182 0 245 (dk_at dksX1_owesBy_1 12 rfl rfl)
theorem dX1_owesBy_37 : decode cX1_owesBy 37 = .ok (.aload_n 0, 1) := dk_42 (dk_at dksX1_owesBy_1 15 rfl rfl)
theorem dX1_owesBy_38 : decode cX1_owesBy 38 = .ok (.getfield 34, 3) := dk_180 0 34 (dk_at dksX1_owesBy_1 16 rfl rfl)
theorem dX1_owesBy_41 : decode cX1_owesBy 41 = .ok (.getfield 209, 3) := dk_180 0 209 (dk_at dksX1_owesBy_1 19 rfl rfl)
theorem dX1_owesBy_44 : decode cX1_owesBy 44 = .ok (.iload_n 1, 1) := dk_27 (dk_at dksX1_owesBy_1 22 rfl rfl)
theorem dX1_owesBy_45 : decode cX1_owesBy 45 = .ok (.iaload, 1) := dk_46 (dk_at dksX1_owesBy_1 23 rfl rfl)
theorem dX1_owesBy_46 : decode cX1_owesBy 46 = .ok (.ireturn, 1) := dk_172 (dk_at dksX1_owesBy_2 0 rfl rfl)
abbrev cX1_counted : ByteArray := prog_1_method_48_code
def yX1_counted : MethodName := ⟨RX1, "counted", "(II)I"⟩
def dkwX1_counted_2 : List UInt8 := [167, 255, 228, 2, 172]
abbrev dktX1_counted_2 : List UInt8 := dkwX1_counted_2 ++ []
def dkwX1_counted_1 : List UInt8 := [42, 180, 0, 30, 180, 0, 165, 27, 46, 29, 28, 182, 1, 24, 154, 0, 5, 29, 172, 132, 3, 255]
abbrev dktX1_counted_1 : List UInt8 := dkwX1_counted_1 ++ dktX1_counted_2
def dkwX1_counted_0 : List UInt8 := [42, 27, 182, 0, 197, 28, 4, 16, 20, 184, 0, 136, 184, 0, 100, 16, 30, 62, 29, 155, 0, 30, 42, 27]
abbrev dktX1_counted_0 : List UInt8 := dkwX1_counted_0 ++ dktX1_counted_1
theorem dksX1_counted_0 : cX1_counted.data.toList.drop 0 = dktX1_counted_0 := by decide +kernel
theorem dksX1_counted_1 : cX1_counted.data.toList.drop 24 = dktX1_counted_1 := dk_seg dksX1_counted_0 24 rfl rfl
theorem dksX1_counted_2 : cX1_counted.data.toList.drop 46 = dktX1_counted_2 := dk_seg dksX1_counted_1 22 rfl rfl
theorem dX1_counted_0 : decode cX1_counted 0 = .ok (.aload_n 0, 1) := dk_42 (dk_at dksX1_counted_0 0 rfl rfl)
theorem dX1_counted_1 : decode cX1_counted 1 = .ok (.iload_n 1, 1) := dk_27 (dk_at dksX1_counted_0 1 rfl rfl)
theorem dX1_counted_2 : decode cX1_counted 2 = .ok (.invokevirtual 197, 3) := dk_182 0 197 (dk_at dksX1_counted_0 2 rfl rfl)
theorem dX1_counted_5 : decode cX1_counted 5 = .ok (.iload_n 2, 1) := dk_28 (dk_at dksX1_counted_0 5 rfl rfl)
theorem dX1_counted_6 : decode cX1_counted 6 = .ok (.iconst 1, 1) := dk_4 (dk_at dksX1_counted_0 6 rfl rfl)
theorem dX1_counted_7 : decode cX1_counted 7 = .ok (.bipush 20, 2) := dk_16 20 (dk_at dksX1_counted_0 7 rfl rfl)
theorem dX1_counted_9 : decode cX1_counted 9 = .ok (.invokestatic 136, 3) := dk_184 0 136 (dk_at dksX1_counted_0 9 rfl rfl)
theorem dX1_counted_12 : decode cX1_counted 12 = .ok (.invokestatic 100, 3) := dk_184 0 100 (dk_at dksX1_counted_0 12 rfl rfl)
theorem dX1_counted_15 : decode cX1_counted 15 = .ok (.bipush 30, 2) := dk_16 30 (dk_at dksX1_counted_0 15 rfl rfl)
theorem dX1_counted_17 : decode cX1_counted 17 = .ok (.istore_n 3, 1) := dk_62 (dk_at dksX1_counted_0 17 rfl rfl)
theorem dX1_counted_18 : decode cX1_counted 18 = .ok (.iload_n 3, 1) := dk_29 (dk_at dksX1_counted_0 18 rfl rfl)
theorem dX1_counted_19 : decode cX1_counted 19 = .ok (.ifCond .lt 30, 3) := dk_155 0 30 (dk_at dksX1_counted_0 19 rfl rfl)
theorem dX1_counted_22 : decode cX1_counted 22 = .ok (.aload_n 0, 1) := dk_42 (dk_at dksX1_counted_0 22 rfl rfl)
theorem dX1_counted_23 : decode cX1_counted 23 = .ok (.iload_n 1, 1) := dk_27 (dk_at dksX1_counted_0 23 rfl rfl)
theorem dX1_counted_24 : decode cX1_counted 24 = .ok (.aload_n 0, 1) := dk_42 (dk_at dksX1_counted_1 0 rfl rfl)
theorem dX1_counted_25 : decode cX1_counted 25 = .ok (.getfield 30, 3) := dk_180 0 30 (dk_at dksX1_counted_1 1 rfl rfl)
theorem dX1_counted_28 : decode cX1_counted 28 = .ok (.getfield 165, 3) := dk_180 0 165 (dk_at dksX1_counted_1 4 rfl rfl)
theorem dX1_counted_31 : decode cX1_counted 31 = .ok (.iload_n 1, 1) := dk_27 (dk_at dksX1_counted_1 7 rfl rfl)
theorem dX1_counted_32 : decode cX1_counted 32 = .ok (.iaload, 1) := dk_46 (dk_at dksX1_counted_1 8 rfl rfl)
theorem dX1_counted_33 : decode cX1_counted 33 = .ok (.iload_n 3, 1) := dk_29 (dk_at dksX1_counted_1 9 rfl rfl)
theorem dX1_counted_34 : decode cX1_counted 34 = .ok (.iload_n 2, 1) := dk_28 (dk_at dksX1_counted_1 10 rfl rfl)
theorem dX1_counted_35 : decode cX1_counted 35 = .ok (.invokevirtual 280, 3) := dk_182 1 24 (dk_at dksX1_counted_1 11 rfl rfl)
theorem dX1_counted_38 : decode cX1_counted 38 = .ok (.ifCond .ne 5, 3) := dk_154 0 5 (dk_at dksX1_counted_1 14 rfl rfl)
theorem dX1_counted_41 : decode cX1_counted 41 = .ok (.iload_n 3, 1) := dk_29 (dk_at dksX1_counted_1 17 rfl rfl)
theorem dX1_counted_42 : decode cX1_counted 42 = .ok (.ireturn, 1) := dk_172 (dk_at dksX1_counted_1 18 rfl rfl)
theorem dX1_counted_43 : decode cX1_counted 43 = .ok (.iinc 3 (-1), 3) := dk_132 3 255 (dk_at dksX1_counted_1 19 rfl rfl)
theorem dX1_counted_46 : decode cX1_counted 46 = .ok (.goto (-28), 3) := dk_167 255 228 (dk_at dksX1_counted_2 0 rfl rfl)
theorem dX1_counted_49 : decode cX1_counted 49 = .ok (.iconst (-1), 1) := dk_2 (dk_at dksX1_counted_2 3 rfl rfl)
theorem dX1_counted_50 : decode cX1_counted 50 = .ok (.ireturn, 1) := dk_172 (dk_at dksX1_counted_2 4 rfl rfl)
abbrev cX1_spy : ByteArray := prog_1_method_49_code
def yX1_spy : MethodName := ⟨RX1, "spy", "(III)I"⟩
def dkwX1_spy_4 : List UInt8 := [180, 0, 19, 89, 180, 0, 129, 4, 96, 181, 0, 129, 42, 180, 0, 19, 180, 0, 129, 172]
abbrev dktX1_spy_4 : List UInt8 := dkwX1_spy_4 ++ []
def dkwX1_spy_3 : List UInt8 := [180, 0, 129, 28, 79, 42, 180, 0, 19, 180, 1, 34, 42, 180, 0, 19, 180, 0, 129, 29, 79, 42]
abbrev dktX1_spy_3 : List UInt8 := dkwX1_spy_3 ++ dktX1_spy_4
def dkwX1_spy_2 : List UInt8 := [180, 1, 28, 42, 180, 0, 19, 180, 0, 129, 27, 79, 42, 180, 0, 19, 180, 1, 31, 42, 180, 0, 19]
abbrev dktX1_spy_2 : List UInt8 := dkwX1_spy_2 ++ dktX1_spy_3
def dkwX1_spy_1 : List UInt8 := [153, 0, 14, 29, 3, 17, 39, 15, 184, 0, 136, 154, 0, 9, 42, 5, 182, 0, 222, 172, 42, 180, 0, 19]
abbrev dktX1_spy_1 : List UInt8 := dkwX1_spy_1 ++ dktX1_spy_2
def dkwX1_spy_0 : List UInt8 := [42, 27, 182, 0, 197, 42, 180, 0, 19, 180, 0, 129, 16, 8, 159, 0, 24, 28, 3, 16, 20, 184, 0, 136]
abbrev dktX1_spy_0 : List UInt8 := dkwX1_spy_0 ++ dktX1_spy_1
theorem dksX1_spy_0 : cX1_spy.data.toList.drop 0 = dktX1_spy_0 := by decide +kernel
theorem dksX1_spy_1 : cX1_spy.data.toList.drop 24 = dktX1_spy_1 := dk_seg dksX1_spy_0 24 rfl rfl
theorem dksX1_spy_2 : cX1_spy.data.toList.drop 48 = dktX1_spy_2 := dk_seg dksX1_spy_1 24 rfl rfl
theorem dksX1_spy_3 : cX1_spy.data.toList.drop 71 = dktX1_spy_3 := dk_seg dksX1_spy_2 23 rfl rfl
theorem dksX1_spy_4 : cX1_spy.data.toList.drop 93 = dktX1_spy_4 := dk_seg dksX1_spy_3 22 rfl rfl
theorem dX1_spy_0 : decode cX1_spy 0 = .ok (.aload_n 0, 1) := dk_42 (dk_at dksX1_spy_0 0 rfl rfl)
theorem dX1_spy_1 : decode cX1_spy 1 = .ok (.iload_n 1, 1) := dk_27 (dk_at dksX1_spy_0 1 rfl rfl)
theorem dX1_spy_2 : decode cX1_spy 2 = .ok (.invokevirtual 197, 3) := dk_182 0 197 (dk_at dksX1_spy_0 2 rfl rfl)
theorem dX1_spy_5 : decode cX1_spy 5 = .ok (.aload_n 0, 1) := dk_42 (dk_at dksX1_spy_0 5 rfl rfl)
theorem dX1_spy_6 : decode cX1_spy 6 = .ok (.getfield 19, 3) := dk_180 0 19 (dk_at dksX1_spy_0 6 rfl rfl)
theorem dX1_spy_9 : decode cX1_spy 9 = .ok (.getfield 129, 3) := dk_180 0 129 (dk_at dksX1_spy_0 9 rfl rfl)
theorem dX1_spy_12 : decode cX1_spy 12 = .ok (.bipush 8, 2) := dk_16 8 (dk_at dksX1_spy_0 12 rfl rfl)
theorem dX1_spy_14 : decode cX1_spy 14 = .ok (.if_icmp .eq 24, 3) := dk_159 0 24 (dk_at dksX1_spy_0 14 rfl rfl)
theorem dX1_spy_17 : decode cX1_spy 17 = .ok (.iload_n 2, 1) := dk_28 (dk_at dksX1_spy_0 17 rfl rfl)
theorem dX1_spy_18 : decode cX1_spy 18 = .ok (.iconst 0, 1) := dk_3 (dk_at dksX1_spy_0 18 rfl rfl)
theorem dX1_spy_19 : decode cX1_spy 19 = .ok (.bipush 20, 2) := dk_16 20 (dk_at dksX1_spy_0 19 rfl rfl)
theorem dX1_spy_21 : decode cX1_spy 21 = .ok (.invokestatic 136, 3) := dk_184 0 136 (dk_at dksX1_spy_0 21 rfl rfl)
theorem dX1_spy_24 : decode cX1_spy 24 = .ok (.ifCond .eq 14, 3) := dk_153 0 14 (dk_at dksX1_spy_1 0 rfl rfl)
theorem dX1_spy_27 : decode cX1_spy 27 = .ok (.iload_n 3, 1) := dk_29 (dk_at dksX1_spy_1 3 rfl rfl)
theorem dX1_spy_28 : decode cX1_spy 28 = .ok (.iconst 0, 1) := dk_3 (dk_at dksX1_spy_1 4 rfl rfl)
theorem dX1_spy_29 : decode cX1_spy 29 = .ok (.sipush 9999, 3) := dk_17 39 15 (dk_at dksX1_spy_1 5 rfl rfl)
theorem dX1_spy_32 : decode cX1_spy 32 = .ok (.invokestatic 136, 3) := dk_184 0 136 (dk_at dksX1_spy_1 8 rfl rfl)
theorem dX1_spy_35 : decode cX1_spy 35 = .ok (.ifCond .ne 9, 3) := dk_154 0 9 (dk_at dksX1_spy_1 11 rfl rfl)
theorem dX1_spy_38 : decode cX1_spy 38 = .ok (.aload_n 0, 1) := dk_42 (dk_at dksX1_spy_1 14 rfl rfl)
theorem dX1_spy_39 : decode cX1_spy 39 = .ok (.iconst 2, 1) := dk_5 (dk_at dksX1_spy_1 15 rfl rfl)
theorem dX1_spy_40 : decode cX1_spy 40 = .ok (.invokevirtual 222, 3) := dk_182 0 222 (dk_at dksX1_spy_1 16 rfl rfl)
theorem dX1_spy_43 : decode cX1_spy 43 = .ok (.ireturn, 1) := dk_172 (dk_at dksX1_spy_1 19 rfl rfl)
theorem dX1_spy_44 : decode cX1_spy 44 = .ok (.aload_n 0, 1) := dk_42 (dk_at dksX1_spy_1 20 rfl rfl)
theorem dX1_spy_45 : decode cX1_spy 45 = .ok (.getfield 19, 3) := dk_180 0 19 (dk_at dksX1_spy_1 21 rfl rfl)
theorem dX1_spy_48 : decode cX1_spy 48 = .ok (.getfield 284, 3) := dk_180 1 28 (dk_at dksX1_spy_2 0 rfl rfl)
theorem dX1_spy_51 : decode cX1_spy 51 = .ok (.aload_n 0, 1) := dk_42 (dk_at dksX1_spy_2 3 rfl rfl)
theorem dX1_spy_52 : decode cX1_spy 52 = .ok (.getfield 19, 3) := dk_180 0 19 (dk_at dksX1_spy_2 4 rfl rfl)
theorem dX1_spy_55 : decode cX1_spy 55 = .ok (.getfield 129, 3) := dk_180 0 129 (dk_at dksX1_spy_2 7 rfl rfl)
theorem dX1_spy_58 : decode cX1_spy 58 = .ok (.iload_n 1, 1) := dk_27 (dk_at dksX1_spy_2 10 rfl rfl)
theorem dX1_spy_59 : decode cX1_spy 59 = .ok (.iastore, 1) := dk_79 (dk_at dksX1_spy_2 11 rfl rfl)
theorem dX1_spy_60 : decode cX1_spy 60 = .ok (.aload_n 0, 1) := dk_42 (dk_at dksX1_spy_2 12 rfl rfl)
theorem dX1_spy_61 : decode cX1_spy 61 = .ok (.getfield 19, 3) := dk_180 0 19 (dk_at dksX1_spy_2 13 rfl rfl)
theorem dX1_spy_64 : decode cX1_spy 64 = .ok (.getfield 287, 3) := dk_180 1 31 (dk_at dksX1_spy_2 16 rfl rfl)
theorem dX1_spy_67 : decode cX1_spy 67 = .ok (.aload_n 0, 1) := dk_42 (dk_at dksX1_spy_2 19 rfl rfl)
theorem dX1_spy_68 : decode cX1_spy 68 = .ok (.getfield 19, 3) := dk_180 0 19 (dk_at dksX1_spy_2 20 rfl rfl)
theorem dX1_spy_71 : decode cX1_spy 71 = .ok (.getfield 129, 3) := dk_180 0 129 (dk_at dksX1_spy_3 0 rfl rfl)
theorem dX1_spy_74 : decode cX1_spy 74 = .ok (.iload_n 2, 1) := dk_28 (dk_at dksX1_spy_3 3 rfl rfl)
theorem dX1_spy_75 : decode cX1_spy 75 = .ok (.iastore, 1) := dk_79 (dk_at dksX1_spy_3 4 rfl rfl)
theorem dX1_spy_76 : decode cX1_spy 76 = .ok (.aload_n 0, 1) := dk_42 (dk_at dksX1_spy_3 5 rfl rfl)
theorem dX1_spy_77 : decode cX1_spy 77 = .ok (.getfield 19, 3) := dk_180 0 19 (dk_at dksX1_spy_3 6 rfl rfl)
theorem dX1_spy_80 : decode cX1_spy 80 = .ok (.getfield 290, 3) := dk_180 1 34 (dk_at dksX1_spy_3 9 rfl rfl)
theorem dX1_spy_83 : decode cX1_spy 83 = .ok (.aload_n 0, 1) := dk_42 (dk_at dksX1_spy_3 12 rfl rfl)
theorem dX1_spy_84 : decode cX1_spy 84 = .ok (.getfield 19, 3) := dk_180 0 19 (dk_at dksX1_spy_3 13 rfl rfl)
theorem dX1_spy_87 : decode cX1_spy 87 = .ok (.getfield 129, 3) := dk_180 0 129 (dk_at dksX1_spy_3 16 rfl rfl)
theorem dX1_spy_90 : decode cX1_spy 90 = .ok (.iload_n 3, 1) := dk_29 (dk_at dksX1_spy_3 19 rfl rfl)
theorem dX1_spy_91 : decode cX1_spy 91 = .ok (.iastore, 1) := dk_79 (dk_at dksX1_spy_3 20 rfl rfl)
theorem dX1_spy_92 : decode cX1_spy 92 = .ok (.aload_n 0, 1) := dk_42 (dk_at dksX1_spy_3 21 rfl rfl)
theorem dX1_spy_93 : decode cX1_spy 93 = .ok (.getfield 19, 3) := dk_180 0 19 (dk_at dksX1_spy_4 0 rfl rfl)
theorem dX1_spy_96 : decode cX1_spy 96 = .ok (.dup, 1) := dk_89 (dk_at dksX1_spy_4 3 rfl rfl)
theorem dX1_spy_97 : decode cX1_spy 97 = .ok (.getfield 129, 3) := dk_180 0 129 (dk_at dksX1_spy_4 4 rfl rfl)
theorem dX1_spy_100 : decode cX1_spy 100 = .ok (.iconst 1, 1) := dk_4 (dk_at dksX1_spy_4 7 rfl rfl)
theorem dX1_spy_101 : decode cX1_spy 101 = .ok (.iadd, 1) := dk_96 (dk_at dksX1_spy_4 8 rfl rfl)
theorem dX1_spy_102 : decode cX1_spy 102 = .ok (.putfield 129, 3) := dk_181 0 129 (dk_at dksX1_spy_4 9 rfl rfl)
theorem dX1_spy_105 : decode cX1_spy 105 = .ok (.aload_n 0, 1) := dk_42 (dk_at dksX1_spy_4 12 rfl rfl)
theorem dX1_spy_106 : decode cX1_spy 106 = .ok (.getfield 19, 3) := dk_180 0 19 (dk_at dksX1_spy_4 13 rfl rfl)
theorem dX1_spy_109 : decode cX1_spy 109 = .ok (.getfield 129, 3) := dk_180 0 129 (dk_at dksX1_spy_4 16 rfl rfl)
theorem dX1_spy_112 : decode cX1_spy 112 = .ok (.ireturn, 1) := dk_172 (dk_at dksX1_spy_4 19 rfl rfl)
abbrev cX1_hidden : ByteArray := prog_1_method_53_code
def yX1_hidden : MethodName := ⟨RX1, "hidden", "(I)I"⟩
def dkwX1_hidden_4 : List UInt8 := [16, 30, 112, 96, 4, 96, 62, 132, 4, 1, 167, 255, 200, 27, 154, 0, 7, 28, 167, 0, 4, 29, 172]
abbrev dktX1_hidden_4 : List UInt8 := dkwX1_hidden_4 ++ []
def dkwX1_hidden_3 : List UInt8 := [154, 0, 6, 167, 0, 28, 132, 2, 1, 29, 2, 160, 0, 20, 21, 4, 16, 30, 108, 16, 100, 104, 21, 4]
abbrev dktX1_hidden_3 : List UInt8 := dkwX1_hidden_3 ++ dktX1_hidden_4
def dkwX1_hidden_2 : List UInt8 := [21, 4, 42, 182, 1, 41, 162, 0, 53, 42, 21, 4, 182, 1, 44, 153, 0, 38, 42, 182, 1, 37]
abbrev dktX1_hidden_2 : List UInt8 := dkwX1_hidden_2 ++ dktX1_hidden_3
def dkwX1_hidden_1 : List UInt8 := [182, 0, 241, 42, 182, 1, 37, 153, 0, 7, 4, 167, 0, 4, 3, 172, 3, 61, 2, 62, 3, 54, 4]
abbrev dktX1_hidden_1 : List UInt8 := dkwX1_hidden_1 ++ dktX1_hidden_2
def dkwX1_hidden_0 : List UInt8 := [27, 3, 5, 184, 0, 136, 184, 0, 73, 27, 5, 160, 0, 27, 42, 180, 0, 34, 42, 180, 0, 30]
abbrev dktX1_hidden_0 : List UInt8 := dkwX1_hidden_0 ++ dktX1_hidden_1
theorem dksX1_hidden_0 : cX1_hidden.data.toList.drop 0 = dktX1_hidden_0 := by decide +kernel
theorem dksX1_hidden_1 : cX1_hidden.data.toList.drop 22 = dktX1_hidden_1 := dk_seg dksX1_hidden_0 22 rfl rfl
theorem dksX1_hidden_2 : cX1_hidden.data.toList.drop 45 = dktX1_hidden_2 := dk_seg dksX1_hidden_1 23 rfl rfl
theorem dksX1_hidden_3 : cX1_hidden.data.toList.drop 67 = dktX1_hidden_3 := dk_seg dksX1_hidden_2 22 rfl rfl
theorem dksX1_hidden_4 : cX1_hidden.data.toList.drop 91 = dktX1_hidden_4 := dk_seg dksX1_hidden_3 24 rfl rfl
theorem dX1_hidden_0 : decode cX1_hidden 0 = .ok (.iload_n 1, 1) := dk_27 (dk_at dksX1_hidden_0 0 rfl rfl)
theorem dX1_hidden_1 : decode cX1_hidden 1 = .ok (.iconst 0, 1) := dk_3 (dk_at dksX1_hidden_0 1 rfl rfl)
theorem dX1_hidden_2 : decode cX1_hidden 2 = .ok (.iconst 2, 1) := dk_5 (dk_at dksX1_hidden_0 2 rfl rfl)
theorem dX1_hidden_3 : decode cX1_hidden 3 = .ok (.invokestatic 136, 3) := dk_184 0 136 (dk_at dksX1_hidden_0 3 rfl rfl)
theorem dX1_hidden_6 : decode cX1_hidden 6 = .ok (.invokestatic 73, 3) := dk_184 0 73 (dk_at dksX1_hidden_0 6 rfl rfl)
theorem dX1_hidden_9 : decode cX1_hidden 9 = .ok (.iload_n 1, 1) := dk_27 (dk_at dksX1_hidden_0 9 rfl rfl)
theorem dX1_hidden_10 : decode cX1_hidden 10 = .ok (.iconst 2, 1) := dk_5 (dk_at dksX1_hidden_0 10 rfl rfl)
theorem dX1_hidden_11 : decode cX1_hidden 11 = .ok (.if_icmp .ne 27, 3) := dk_160 0 27 (dk_at dksX1_hidden_0 11 rfl rfl)
theorem dX1_hidden_14 : decode cX1_hidden 14 = .ok (.aload_n 0, 1) := dk_42 (dk_at dksX1_hidden_0 14 rfl rfl)
theorem dX1_hidden_15 : decode cX1_hidden 15 = .ok (.getfield 34, 3) := dk_180 0 34 (dk_at dksX1_hidden_0 15 rfl rfl)
theorem dX1_hidden_18 : decode cX1_hidden 18 = .ok (.aload_n 0, 1) := dk_42 (dk_at dksX1_hidden_0 18 rfl rfl)
theorem dX1_hidden_19 : decode cX1_hidden 19 = .ok (.getfield 30, 3) := dk_180 0 30 (dk_at dksX1_hidden_0 19 rfl rfl)
theorem dX1_hidden_22 : decode cX1_hidden 22 = .ok (.invokevirtual 241, 3) := dk_182 0 241 (dk_at dksX1_hidden_1 0 rfl rfl)
theorem dX1_hidden_25 : decode cX1_hidden 25 = .ok (.aload_n 0, 1) := dk_42 (dk_at dksX1_hidden_1 3 rfl rfl)
theorem dX1_hidden_26 : decode cX1_hidden 26 = .ok (.invokevirtual 293, 3) := dk_182 1 37 (dk_at dksX1_hidden_1 4 rfl rfl)
theorem dX1_hidden_29 : decode cX1_hidden 29 = .ok (.ifCond .eq 7, 3) := dk_153 0 7 (dk_at dksX1_hidden_1 7 rfl rfl)
theorem dX1_hidden_32 : decode cX1_hidden 32 = .ok (.iconst 1, 1) := dk_4 (dk_at dksX1_hidden_1 10 rfl rfl)
theorem dX1_hidden_33 : decode cX1_hidden 33 = .ok (.goto 4, 3) := dk_167 0 4 (dk_at dksX1_hidden_1 11 rfl rfl)
theorem dX1_hidden_36 : decode cX1_hidden 36 = .ok (.iconst 0, 1) := dk_3 (dk_at dksX1_hidden_1 14 rfl rfl)
theorem dX1_hidden_37 : decode cX1_hidden 37 = .ok (.ireturn, 1) := dk_172 (dk_at dksX1_hidden_1 15 rfl rfl)
theorem dX1_hidden_38 : decode cX1_hidden 38 = .ok (.iconst 0, 1) := dk_3 (dk_at dksX1_hidden_1 16 rfl rfl)
theorem dX1_hidden_39 : decode cX1_hidden 39 = .ok (.istore_n 2, 1) := dk_61 (dk_at dksX1_hidden_1 17 rfl rfl)
theorem dX1_hidden_40 : decode cX1_hidden 40 = .ok (.iconst (-1), 1) := dk_2 (dk_at dksX1_hidden_1 18 rfl rfl)
theorem dX1_hidden_41 : decode cX1_hidden 41 = .ok (.istore_n 3, 1) := dk_62 (dk_at dksX1_hidden_1 19 rfl rfl)
theorem dX1_hidden_42 : decode cX1_hidden 42 = .ok (.iconst 0, 1) := dk_3 (dk_at dksX1_hidden_1 20 rfl rfl)
theorem dX1_hidden_43 : decode cX1_hidden 43 = .ok (.istore 4, 2) := dk_54 4 (dk_at dksX1_hidden_1 21 rfl rfl)
theorem dX1_hidden_45 : decode cX1_hidden 45 = .ok (.iload 4, 2) := dk_21 4 (dk_at dksX1_hidden_2 0 rfl rfl)
theorem dX1_hidden_47 : decode cX1_hidden 47 = .ok (.aload_n 0, 1) := dk_42 (dk_at dksX1_hidden_2 2 rfl rfl)
theorem dX1_hidden_48 : decode cX1_hidden 48 = .ok (.invokevirtual 297, 3) := dk_182 1 41 (dk_at dksX1_hidden_2 3 rfl rfl)
theorem dX1_hidden_51 : decode cX1_hidden 51 = .ok (.if_icmp .ge 53, 3) := dk_162 0 53 (dk_at dksX1_hidden_2 6 rfl rfl)
theorem dX1_hidden_54 : decode cX1_hidden 54 = .ok (.aload_n 0, 1) := dk_42 (dk_at dksX1_hidden_2 9 rfl rfl)
theorem dX1_hidden_55 : decode cX1_hidden 55 = .ok (.iload 4, 2) := dk_21 4 (dk_at dksX1_hidden_2 10 rfl rfl)
theorem dX1_hidden_57 : decode cX1_hidden 57 = .ok (.invokevirtual 300, 3) := dk_182 1 44 (dk_at dksX1_hidden_2 12 rfl rfl)
theorem dX1_hidden_60 : decode cX1_hidden 60 = .ok (.ifCond .eq 38, 3) := dk_153 0 38 (dk_at dksX1_hidden_2 15 rfl rfl)
theorem dX1_hidden_63 : decode cX1_hidden 63 = .ok (.aload_n 0, 1) := dk_42 (dk_at dksX1_hidden_2 18 rfl rfl)
theorem dX1_hidden_64 : decode cX1_hidden 64 = .ok (.invokevirtual 293, 3) := dk_182 1 37 (dk_at dksX1_hidden_2 19 rfl rfl)
theorem dX1_hidden_67 : decode cX1_hidden 67 = .ok (.ifCond .ne 6, 3) := dk_154 0 6 (dk_at dksX1_hidden_3 0 rfl rfl)
theorem dX1_hidden_70 : decode cX1_hidden 70 = .ok (.goto 28, 3) := dk_167 0 28 (dk_at dksX1_hidden_3 3 rfl rfl)
theorem dX1_hidden_73 : decode cX1_hidden 73 = .ok (.iinc 2 1, 3) := dk_132 2 1 (dk_at dksX1_hidden_3 6 rfl rfl)
theorem dX1_hidden_76 : decode cX1_hidden 76 = .ok (.iload_n 3, 1) := dk_29 (dk_at dksX1_hidden_3 9 rfl rfl)
theorem dX1_hidden_77 : decode cX1_hidden 77 = .ok (.iconst (-1), 1) := dk_2 (dk_at dksX1_hidden_3 10 rfl rfl)
theorem dX1_hidden_78 : decode cX1_hidden 78 = .ok (.if_icmp .ne 20, 3) := dk_160 0 20 (dk_at dksX1_hidden_3 11 rfl rfl)
theorem dX1_hidden_81 : decode cX1_hidden 81 = .ok (.iload 4, 2) := dk_21 4 (dk_at dksX1_hidden_3 14 rfl rfl)
theorem dX1_hidden_83 : decode cX1_hidden 83 = .ok (.bipush 30, 2) := dk_16 30 (dk_at dksX1_hidden_3 16 rfl rfl)
theorem dX1_hidden_85 : decode cX1_hidden 85 = .ok (.idiv, 1) := dk_108 (dk_at dksX1_hidden_3 18 rfl rfl)
theorem dX1_hidden_86 : decode cX1_hidden 86 = .ok (.bipush 100, 2) := dk_16 100 (dk_at dksX1_hidden_3 19 rfl rfl)
theorem dX1_hidden_88 : decode cX1_hidden 88 = .ok (.imul, 1) := dk_104 (dk_at dksX1_hidden_3 21 rfl rfl)
theorem dX1_hidden_89 : decode cX1_hidden 89 = .ok (.iload 4, 2) := dk_21 4 (dk_at dksX1_hidden_3 22 rfl rfl)
theorem dX1_hidden_91 : decode cX1_hidden 91 = .ok (.bipush 30, 2) := dk_16 30 (dk_at dksX1_hidden_4 0 rfl rfl)
theorem dX1_hidden_93 : decode cX1_hidden 93 = .ok (.irem, 1) := dk_112 (dk_at dksX1_hidden_4 2 rfl rfl)
theorem dX1_hidden_94 : decode cX1_hidden 94 = .ok (.iadd, 1) := dk_96 (dk_at dksX1_hidden_4 3 rfl rfl)
theorem dX1_hidden_95 : decode cX1_hidden 95 = .ok (.iconst 1, 1) := dk_4 (dk_at dksX1_hidden_4 4 rfl rfl)
theorem dX1_hidden_96 : decode cX1_hidden 96 = .ok (.iadd, 1) := dk_96 (dk_at dksX1_hidden_4 5 rfl rfl)
theorem dX1_hidden_97 : decode cX1_hidden 97 = .ok (.istore_n 3, 1) := dk_62 (dk_at dksX1_hidden_4 6 rfl rfl)
theorem dX1_hidden_98 : decode cX1_hidden 98 = .ok (.iinc 4 1, 3) := dk_132 4 1 (dk_at dksX1_hidden_4 7 rfl rfl)
theorem dX1_hidden_101 : decode cX1_hidden 101 = .ok (.goto (-56), 3) := dk_167 255 200 (dk_at dksX1_hidden_4 10 rfl rfl)
theorem dX1_hidden_104 : decode cX1_hidden 104 = .ok (.iload_n 1, 1) := dk_27 (dk_at dksX1_hidden_4 13 rfl rfl)
theorem dX1_hidden_105 : decode cX1_hidden 105 = .ok (.ifCond .ne 7, 3) := dk_154 0 7 (dk_at dksX1_hidden_4 14 rfl rfl)
theorem dX1_hidden_108 : decode cX1_hidden 108 = .ok (.iload_n 2, 1) := dk_28 (dk_at dksX1_hidden_4 17 rfl rfl)
theorem dX1_hidden_109 : decode cX1_hidden 109 = .ok (.goto 4, 3) := dk_167 0 4 (dk_at dksX1_hidden_4 18 rfl rfl)
theorem dX1_hidden_112 : decode cX1_hidden 112 = .ok (.iload_n 3, 1) := dk_29 (dk_at dksX1_hidden_4 21 rfl rfl)
theorem dX1_hidden_113 : decode cX1_hidden 113 = .ok (.ireturn, 1) := dk_172 (dk_at dksX1_hidden_4 22 rfl rfl)
abbrev cX1_isSpied : ByteArray := prog_1_method_50_code
def yX1_isSpied : MethodName := ⟨RX1, "isSpied", "()Z"⟩
def dkwX1_isSpied_3 : List UInt8 := [167, 255, 198, 42, 180, 0, 34, 42, 180, 0, 10, 182, 0, 229, 132, 1, 1, 167, 255, 173, 4, 172]
abbrev dktX1_isSpied_3 : List UInt8 := dkwX1_isSpied_3 ++ []
def dkwX1_isSpied_2 : List UInt8 := [180, 1, 28, 28, 46, 46, 42, 180, 0, 19, 180, 1, 34, 28, 46, 159, 0, 5, 3, 172, 132, 2, 1]
abbrev dktX1_isSpied_2 : List UInt8 := dkwX1_isSpied_2 ++ dktX1_isSpied_3
def dkwX1_isSpied_1 : List UInt8 := [180, 0, 19, 180, 1, 31, 28, 46, 27, 160, 0, 34, 42, 180, 0, 34, 180, 0, 206, 42, 180, 0, 19]
abbrev dktX1_isSpied_1 : List UInt8 := dkwX1_isSpied_1 ++ dktX1_isSpied_2
def dkwX1_isSpied_0 : List UInt8 := [3, 60, 27, 16, 20, 163, 0, 83, 3, 61, 28, 42, 180, 0, 19, 180, 0, 129, 162, 0, 53, 42]
abbrev dktX1_isSpied_0 : List UInt8 := dkwX1_isSpied_0 ++ dktX1_isSpied_1
theorem dksX1_isSpied_0 : cX1_isSpied.data.toList.drop 0 = dktX1_isSpied_0 := by decide +kernel
theorem dksX1_isSpied_1 : cX1_isSpied.data.toList.drop 22 = dktX1_isSpied_1 := dk_seg dksX1_isSpied_0 22 rfl rfl
theorem dksX1_isSpied_2 : cX1_isSpied.data.toList.drop 45 = dktX1_isSpied_2 := dk_seg dksX1_isSpied_1 23 rfl rfl
theorem dksX1_isSpied_3 : cX1_isSpied.data.toList.drop 68 = dktX1_isSpied_3 := dk_seg dksX1_isSpied_2 23 rfl rfl
theorem dX1_isSpied_0 : decode cX1_isSpied 0 = .ok (.iconst 0, 1) := dk_3 (dk_at dksX1_isSpied_0 0 rfl rfl)
theorem dX1_isSpied_1 : decode cX1_isSpied 1 = .ok (.istore_n 1, 1) := dk_60 (dk_at dksX1_isSpied_0 1 rfl rfl)
theorem dX1_isSpied_2 : decode cX1_isSpied 2 = .ok (.iload_n 1, 1) := dk_27 (dk_at dksX1_isSpied_0 2 rfl rfl)
theorem dX1_isSpied_3 : decode cX1_isSpied 3 = .ok (.bipush 20, 2) := dk_16 20 (dk_at dksX1_isSpied_0 3 rfl rfl)
theorem dX1_isSpied_5 : decode cX1_isSpied 5 = .ok (.if_icmp .gt 83, 3) := dk_163 0 83 (dk_at dksX1_isSpied_0 5 rfl rfl)
theorem dX1_isSpied_8 : decode cX1_isSpied 8 = .ok (.iconst 0, 1) := dk_3 (dk_at dksX1_isSpied_0 8 rfl rfl)
theorem dX1_isSpied_9 : decode cX1_isSpied 9 = .ok (.istore_n 2, 1) := dk_61 (dk_at dksX1_isSpied_0 9 rfl rfl)
theorem dX1_isSpied_10 : decode cX1_isSpied 10 = .ok (.iload_n 2, 1) := dk_28 (dk_at dksX1_isSpied_0 10 rfl rfl)
theorem dX1_isSpied_11 : decode cX1_isSpied 11 = .ok (.aload_n 0, 1) := dk_42 (dk_at dksX1_isSpied_0 11 rfl rfl)
theorem dX1_isSpied_12 : decode cX1_isSpied 12 = .ok (.getfield 19, 3) := dk_180 0 19 (dk_at dksX1_isSpied_0 12 rfl rfl)
theorem dX1_isSpied_15 : decode cX1_isSpied 15 = .ok (.getfield 129, 3) := dk_180 0 129 (dk_at dksX1_isSpied_0 15 rfl rfl)
theorem dX1_isSpied_18 : decode cX1_isSpied 18 = .ok (.if_icmp .ge 53, 3) := dk_162 0 53 (dk_at dksX1_isSpied_0 18 rfl rfl)
theorem dX1_isSpied_21 : decode cX1_isSpied 21 = .ok (.aload_n 0, 1) := dk_42 (dk_at dksX1_isSpied_0 21 rfl rfl)
theorem dX1_isSpied_22 : decode cX1_isSpied 22 = .ok (.getfield 19, 3) := dk_180 0 19 (dk_at dksX1_isSpied_1 0 rfl rfl)
theorem dX1_isSpied_25 : decode cX1_isSpied 25 = .ok (.getfield 287, 3) := dk_180 1 31 (dk_at dksX1_isSpied_1 3 rfl rfl)
theorem dX1_isSpied_28 : decode cX1_isSpied 28 = .ok (.iload_n 2, 1) := dk_28 (dk_at dksX1_isSpied_1 6 rfl rfl)
theorem dX1_isSpied_29 : decode cX1_isSpied 29 = .ok (.iaload, 1) := dk_46 (dk_at dksX1_isSpied_1 7 rfl rfl)
theorem dX1_isSpied_30 : decode cX1_isSpied 30 = .ok (.iload_n 1, 1) := dk_27 (dk_at dksX1_isSpied_1 8 rfl rfl)
theorem dX1_isSpied_31 : decode cX1_isSpied 31 = .ok (.if_icmp .ne 34, 3) := dk_160 0 34 (dk_at dksX1_isSpied_1 9 rfl rfl)
theorem dX1_isSpied_34 : decode cX1_isSpied 34 = .ok (.aload_n 0, 1) := dk_42 (dk_at dksX1_isSpied_1 12 rfl rfl)
theorem dX1_isSpied_35 : decode cX1_isSpied 35 = .ok (.getfield 34, 3) := dk_180 0 34 (dk_at dksX1_isSpied_1 13 rfl rfl)
theorem dX1_isSpied_38 : decode cX1_isSpied 38 = .ok (.getfield 206, 3) := dk_180 0 206 (dk_at dksX1_isSpied_1 16 rfl rfl)
theorem dX1_isSpied_41 : decode cX1_isSpied 41 = .ok (.aload_n 0, 1) := dk_42 (dk_at dksX1_isSpied_1 19 rfl rfl)
theorem dX1_isSpied_42 : decode cX1_isSpied 42 = .ok (.getfield 19, 3) := dk_180 0 19 (dk_at dksX1_isSpied_1 20 rfl rfl)
theorem dX1_isSpied_45 : decode cX1_isSpied 45 = .ok (.getfield 284, 3) := dk_180 1 28 (dk_at dksX1_isSpied_2 0 rfl rfl)
theorem dX1_isSpied_48 : decode cX1_isSpied 48 = .ok (.iload_n 2, 1) := dk_28 (dk_at dksX1_isSpied_2 3 rfl rfl)
theorem dX1_isSpied_49 : decode cX1_isSpied 49 = .ok (.iaload, 1) := dk_46 (dk_at dksX1_isSpied_2 4 rfl rfl)
theorem dX1_isSpied_50 : decode cX1_isSpied 50 = .ok (.iaload, 1) := dk_46 (dk_at dksX1_isSpied_2 5 rfl rfl)
theorem dX1_isSpied_51 : decode cX1_isSpied 51 = .ok (.aload_n 0, 1) := dk_42 (dk_at dksX1_isSpied_2 6 rfl rfl)
theorem dX1_isSpied_52 : decode cX1_isSpied 52 = .ok (.getfield 19, 3) := dk_180 0 19 (dk_at dksX1_isSpied_2 7 rfl rfl)
theorem dX1_isSpied_55 : decode cX1_isSpied 55 = .ok (.getfield 290, 3) := dk_180 1 34 (dk_at dksX1_isSpied_2 10 rfl rfl)
theorem dX1_isSpied_58 : decode cX1_isSpied 58 = .ok (.iload_n 2, 1) := dk_28 (dk_at dksX1_isSpied_2 13 rfl rfl)
theorem dX1_isSpied_59 : decode cX1_isSpied 59 = .ok (.iaload, 1) := dk_46 (dk_at dksX1_isSpied_2 14 rfl rfl)
theorem dX1_isSpied_60 : decode cX1_isSpied 60 = .ok (.if_icmp .eq 5, 3) := dk_159 0 5 (dk_at dksX1_isSpied_2 15 rfl rfl)
theorem dX1_isSpied_63 : decode cX1_isSpied 63 = .ok (.iconst 0, 1) := dk_3 (dk_at dksX1_isSpied_2 18 rfl rfl)
theorem dX1_isSpied_64 : decode cX1_isSpied 64 = .ok (.ireturn, 1) := dk_172 (dk_at dksX1_isSpied_2 19 rfl rfl)
theorem dX1_isSpied_65 : decode cX1_isSpied 65 = .ok (.iinc 2 1, 3) := dk_132 2 1 (dk_at dksX1_isSpied_2 20 rfl rfl)
theorem dX1_isSpied_68 : decode cX1_isSpied 68 = .ok (.goto (-58), 3) := dk_167 255 198 (dk_at dksX1_isSpied_3 0 rfl rfl)
theorem dX1_isSpied_71 : decode cX1_isSpied 71 = .ok (.aload_n 0, 1) := dk_42 (dk_at dksX1_isSpied_3 3 rfl rfl)
theorem dX1_isSpied_72 : decode cX1_isSpied 72 = .ok (.getfield 34, 3) := dk_180 0 34 (dk_at dksX1_isSpied_3 4 rfl rfl)
theorem dX1_isSpied_75 : decode cX1_isSpied 75 = .ok (.aload_n 0, 1) := dk_42 (dk_at dksX1_isSpied_3 7 rfl rfl)
theorem dX1_isSpied_76 : decode cX1_isSpied 76 = .ok (.getfield 10, 3) := dk_180 0 10 (dk_at dksX1_isSpied_3 8 rfl rfl)
theorem dX1_isSpied_79 : decode cX1_isSpied 79 = .ok (.invokevirtual 229, 3) := dk_182 0 229 (dk_at dksX1_isSpied_3 11 rfl rfl)
theorem dX1_isSpied_82 : decode cX1_isSpied 82 = .ok (.iinc 1 1, 3) := dk_132 1 1 (dk_at dksX1_isSpied_3 14 rfl rfl)
theorem dX1_isSpied_85 : decode cX1_isSpied 85 = .ok (.goto (-83), 3) := dk_167 255 173 (dk_at dksX1_isSpied_3 17 rfl rfl)
theorem dX1_isSpied_88 : decode cX1_isSpied 88 = .ok (.iconst 1, 1) := dk_4 (dk_at dksX1_isSpied_3 20 rfl rfl)
theorem dX1_isSpied_89 : decode cX1_isSpied 89 = .ok (.ireturn, 1) := dk_172 (dk_at dksX1_isSpied_3 21 rfl rfl)
abbrev cX1_guesses : ByteArray := prog_1_method_52_code
def yX1_guesses : MethodName := ⟨RX1, "guesses", "()I"⟩
def dkwX1_guesses_0 : List UInt8 := [42, 182, 0, 83, 16, 30, 104, 172]
abbrev dktX1_guesses_0 : List UInt8 := dkwX1_guesses_0 ++ []
theorem dksX1_guesses_0 : cX1_guesses.data.toList.drop 0 = dktX1_guesses_0 := by decide +kernel
theorem dX1_guesses_0 : decode cX1_guesses 0 = .ok (.aload_n 0, 1) := dk_42 (dk_at dksX1_guesses_0 0 rfl rfl)
theorem dX1_guesses_1 : decode cX1_guesses 1 = .ok (.invokevirtual 83, 3) := dk_182 0 83 (dk_at dksX1_guesses_0 1 rfl rfl)
theorem dX1_guesses_4 : decode cX1_guesses 4 = .ok (.bipush 30, 2) := dk_16 30 (dk_at dksX1_guesses_0 4 rfl rfl)
theorem dX1_guesses_6 : decode cX1_guesses 6 = .ok (.imul, 1) := dk_104 (dk_at dksX1_guesses_0 6 rfl rfl)
theorem dX1_guesses_7 : decode cX1_guesses 7 = .ok (.ireturn, 1) := dk_172 (dk_at dksX1_guesses_0 7 rfl rfl)
abbrev cX1_isGuess : ByteArray := prog_1_method_51_code
def yX1_isGuess : MethodName := ⟨RX1, "isGuess", "(I)Z"⟩
def dkwX1_isGuess_2 : List UInt8 := [4, 96, 79, 4, 172]
abbrev dktX1_isGuess_2 : List UInt8 := dkwX1_isGuess_2 ++ []
def dkwX1_isGuess_1 : List UInt8 := [172, 42, 180, 0, 34, 42, 180, 0, 30, 182, 0, 241, 42, 180, 0, 34, 180, 0, 200, 28, 27, 16, 30, 112]
abbrev dktX1_isGuess_1 : List UInt8 := dkwX1_isGuess_1 ++ dktX1_isGuess_2
def dkwX1_isGuess_0 : List UInt8 := [27, 16, 30, 108, 61, 42, 180, 0, 30, 180, 0, 200, 28, 46, 27, 16, 30, 112, 4, 96, 160, 0, 5, 3]
abbrev dktX1_isGuess_0 : List UInt8 := dkwX1_isGuess_0 ++ dktX1_isGuess_1
theorem dksX1_isGuess_0 : cX1_isGuess.data.toList.drop 0 = dktX1_isGuess_0 := by decide +kernel
theorem dksX1_isGuess_1 : cX1_isGuess.data.toList.drop 24 = dktX1_isGuess_1 := dk_seg dksX1_isGuess_0 24 rfl rfl
theorem dksX1_isGuess_2 : cX1_isGuess.data.toList.drop 48 = dktX1_isGuess_2 := dk_seg dksX1_isGuess_1 24 rfl rfl
theorem dX1_isGuess_0 : decode cX1_isGuess 0 = .ok (.iload_n 1, 1) := dk_27 (dk_at dksX1_isGuess_0 0 rfl rfl)
theorem dX1_isGuess_1 : decode cX1_isGuess 1 = .ok (.bipush 30, 2) := dk_16 30 (dk_at dksX1_isGuess_0 1 rfl rfl)
theorem dX1_isGuess_3 : decode cX1_isGuess 3 = .ok (.idiv, 1) := dk_108 (dk_at dksX1_isGuess_0 3 rfl rfl)
theorem dX1_isGuess_4 : decode cX1_isGuess 4 = .ok (.istore_n 2, 1) := dk_61 (dk_at dksX1_isGuess_0 4 rfl rfl)
theorem dX1_isGuess_5 : decode cX1_isGuess 5 = .ok (.aload_n 0, 1) := dk_42 (dk_at dksX1_isGuess_0 5 rfl rfl)
theorem dX1_isGuess_6 : decode cX1_isGuess 6 = .ok (.getfield 30, 3) := dk_180 0 30 (dk_at dksX1_isGuess_0 6 rfl rfl)
theorem dX1_isGuess_9 : decode cX1_isGuess 9 = .ok (.getfield 200, 3) := dk_180 0 200 (dk_at dksX1_isGuess_0 9 rfl rfl)
theorem dX1_isGuess_12 : decode cX1_isGuess 12 = .ok (.iload_n 2, 1) := dk_28 (dk_at dksX1_isGuess_0 12 rfl rfl)
theorem dX1_isGuess_13 : decode cX1_isGuess 13 = .ok (.iaload, 1) := dk_46 (dk_at dksX1_isGuess_0 13 rfl rfl)
theorem dX1_isGuess_14 : decode cX1_isGuess 14 = .ok (.iload_n 1, 1) := dk_27 (dk_at dksX1_isGuess_0 14 rfl rfl)
theorem dX1_isGuess_15 : decode cX1_isGuess 15 = .ok (.bipush 30, 2) := dk_16 30 (dk_at dksX1_isGuess_0 15 rfl rfl)
theorem dX1_isGuess_17 : decode cX1_isGuess 17 = .ok (.irem, 1) := dk_112 (dk_at dksX1_isGuess_0 17 rfl rfl)
theorem dX1_isGuess_18 : decode cX1_isGuess 18 = .ok (.iconst 1, 1) := dk_4 (dk_at dksX1_isGuess_0 18 rfl rfl)
theorem dX1_isGuess_19 : decode cX1_isGuess 19 = .ok (.iadd, 1) := dk_96 (dk_at dksX1_isGuess_0 19 rfl rfl)
theorem dX1_isGuess_20 : decode cX1_isGuess 20 = .ok (.if_icmp .ne 5, 3) := dk_160 0 5 (dk_at dksX1_isGuess_0 20 rfl rfl)
theorem dX1_isGuess_23 : decode cX1_isGuess 23 = .ok (.iconst 0, 1) := dk_3 (dk_at dksX1_isGuess_0 23 rfl rfl)
theorem dX1_isGuess_24 : decode cX1_isGuess 24 = .ok (.ireturn, 1) := dk_172 (dk_at dksX1_isGuess_1 0 rfl rfl)
theorem dX1_isGuess_25 : decode cX1_isGuess 25 = .ok (.aload_n 0, 1) := dk_42 (dk_at dksX1_isGuess_1 1 rfl rfl)
theorem dX1_isGuess_26 : decode cX1_isGuess 26 = .ok (.getfield 34, 3) := dk_180 0 34 (dk_at dksX1_isGuess_1 2 rfl rfl)
theorem dX1_isGuess_29 : decode cX1_isGuess 29 = .ok (.aload_n 0, 1) := dk_42 (dk_at dksX1_isGuess_1 5 rfl rfl)
theorem dX1_isGuess_30 : decode cX1_isGuess 30 = .ok (.getfield 30, 3) := dk_180 0 30 (dk_at dksX1_isGuess_1 6 rfl rfl)
theorem dX1_isGuess_33 : decode cX1_isGuess 33 = .ok (.invokevirtual 241, 3) := dk_182 0 241 (dk_at dksX1_isGuess_1 9 rfl rfl)
theorem dX1_isGuess_36 : decode cX1_isGuess 36 = .ok (.aload_n 0, 1) := dk_42 (dk_at dksX1_isGuess_1 12 rfl rfl)
theorem dX1_isGuess_37 : decode cX1_isGuess 37 = .ok (.getfield 34, 3) := dk_180 0 34 (dk_at dksX1_isGuess_1 13 rfl rfl)
theorem dX1_isGuess_40 : decode cX1_isGuess 40 = .ok (.getfield 200, 3) := dk_180 0 200 (dk_at dksX1_isGuess_1 16 rfl rfl)
theorem dX1_isGuess_43 : decode cX1_isGuess 43 = .ok (.iload_n 2, 1) := dk_28 (dk_at dksX1_isGuess_1 19 rfl rfl)
theorem dX1_isGuess_44 : decode cX1_isGuess 44 = .ok (.iload_n 1, 1) := dk_27 (dk_at dksX1_isGuess_1 20 rfl rfl)
theorem dX1_isGuess_45 : decode cX1_isGuess 45 = .ok (.bipush 30, 2) := dk_16 30 (dk_at dksX1_isGuess_1 21 rfl rfl)
theorem dX1_isGuess_47 : decode cX1_isGuess 47 = .ok (.irem, 1) := dk_112 (dk_at dksX1_isGuess_1 23 rfl rfl)
theorem dX1_isGuess_48 : decode cX1_isGuess 48 = .ok (.iconst 1, 1) := dk_4 (dk_at dksX1_isGuess_2 0 rfl rfl)
theorem dX1_isGuess_49 : decode cX1_isGuess 49 = .ok (.iadd, 1) := dk_96 (dk_at dksX1_isGuess_2 1 rfl rfl)
theorem dX1_isGuess_50 : decode cX1_isGuess 50 = .ok (.iastore, 1) := dk_79 (dk_at dksX1_isGuess_2 2 rfl rfl)
theorem dX1_isGuess_51 : decode cX1_isGuess 51 = .ok (.iconst 1, 1) := dk_4 (dk_at dksX1_isGuess_2 3 rfl rfl)
theorem dX1_isGuess_52 : decode cX1_isGuess 52 = .ok (.ireturn, 1) := dk_172 (dk_at dksX1_isGuess_2 4 rfl rfl)
abbrev cX1_look : ByteArray := prog_1_method_55_code
def yX1_look : MethodName := ⟨RX1, "look", "(I)I"⟩
def dkwX1_look_5 : List UInt8 := [62, 21, 6, 54, 4, 132, 5, 1, 167, 255, 218, 27, 154, 0, 7, 29, 167, 0, 5, 21, 4, 172]
abbrev dktX1_look_5 : List UInt8 := dkwX1_look_5 ++ []
def dkwX1_look_4 : List UInt8 := [162, 0, 35, 42, 21, 5, 28, 182, 1, 54, 54, 6, 21, 6, 21, 4, 163, 0, 6, 167, 0, 10, 21, 5]
abbrev dktX1_look_4 : List UInt8 := dkwX1_look_4 ++ dktX1_look_5
def dkwX1_look_3 : List UInt8 := [132, 2, 1, 132, 3, 1, 167, 255, 192, 2, 62, 3, 54, 4, 3, 54, 5, 21, 5, 42, 182, 0, 83]
abbrev dktX1_look_3 : List UInt8 := dkwX1_look_3 ++ dktX1_look_4
def dkwX1_look_2 : List UInt8 := [182, 0, 245, 42, 180, 0, 34, 180, 0, 206, 3, 42, 180, 0, 49, 16, 6, 28, 104, 16, 6, 184, 1, 48]
abbrev dktX1_look_2 : List UInt8 := dkwX1_look_2 ++ dktX1_look_3
def dkwX1_look_1 : List UInt8 := [182, 1, 44, 153, 0, 48, 42, 182, 1, 37, 154, 0, 6, 167, 0, 38, 42, 29, 182, 1, 44, 87, 42, 8]
abbrev dktX1_look_1 : List UInt8 := dkwX1_look_1 ++ dktX1_look_2
def dkwX1_look_0 : List UInt8 := [27, 3, 4, 184, 0, 136, 184, 0, 73, 3, 61, 3, 62, 29, 42, 182, 1, 41, 162, 0, 62, 42, 29]
abbrev dktX1_look_0 : List UInt8 := dkwX1_look_0 ++ dktX1_look_1
theorem dksX1_look_0 : cX1_look.data.toList.drop 0 = dktX1_look_0 := by decide +kernel
theorem dksX1_look_1 : cX1_look.data.toList.drop 23 = dktX1_look_1 := dk_seg dksX1_look_0 23 rfl rfl
theorem dksX1_look_2 : cX1_look.data.toList.drop 47 = dktX1_look_2 := dk_seg dksX1_look_1 24 rfl rfl
theorem dksX1_look_3 : cX1_look.data.toList.drop 71 = dktX1_look_3 := dk_seg dksX1_look_2 24 rfl rfl
theorem dksX1_look_4 : cX1_look.data.toList.drop 94 = dktX1_look_4 := dk_seg dksX1_look_3 23 rfl rfl
theorem dksX1_look_5 : cX1_look.data.toList.drop 118 = dktX1_look_5 := dk_seg dksX1_look_4 24 rfl rfl
theorem dX1_look_0 : decode cX1_look 0 = .ok (.iload_n 1, 1) := dk_27 (dk_at dksX1_look_0 0 rfl rfl)
theorem dX1_look_1 : decode cX1_look 1 = .ok (.iconst 0, 1) := dk_3 (dk_at dksX1_look_0 1 rfl rfl)
theorem dX1_look_2 : decode cX1_look 2 = .ok (.iconst 1, 1) := dk_4 (dk_at dksX1_look_0 2 rfl rfl)
theorem dX1_look_3 : decode cX1_look 3 = .ok (.invokestatic 136, 3) := dk_184 0 136 (dk_at dksX1_look_0 3 rfl rfl)
theorem dX1_look_6 : decode cX1_look 6 = .ok (.invokestatic 73, 3) := dk_184 0 73 (dk_at dksX1_look_0 6 rfl rfl)
theorem dX1_look_9 : decode cX1_look 9 = .ok (.iconst 0, 1) := dk_3 (dk_at dksX1_look_0 9 rfl rfl)
theorem dX1_look_10 : decode cX1_look 10 = .ok (.istore_n 2, 1) := dk_61 (dk_at dksX1_look_0 10 rfl rfl)
theorem dX1_look_11 : decode cX1_look 11 = .ok (.iconst 0, 1) := dk_3 (dk_at dksX1_look_0 11 rfl rfl)
theorem dX1_look_12 : decode cX1_look 12 = .ok (.istore_n 3, 1) := dk_62 (dk_at dksX1_look_0 12 rfl rfl)
theorem dX1_look_13 : decode cX1_look 13 = .ok (.iload_n 3, 1) := dk_29 (dk_at dksX1_look_0 13 rfl rfl)
theorem dX1_look_14 : decode cX1_look 14 = .ok (.aload_n 0, 1) := dk_42 (dk_at dksX1_look_0 14 rfl rfl)
theorem dX1_look_15 : decode cX1_look 15 = .ok (.invokevirtual 297, 3) := dk_182 1 41 (dk_at dksX1_look_0 15 rfl rfl)
theorem dX1_look_18 : decode cX1_look 18 = .ok (.if_icmp .ge 62, 3) := dk_162 0 62 (dk_at dksX1_look_0 18 rfl rfl)
theorem dX1_look_21 : decode cX1_look 21 = .ok (.aload_n 0, 1) := dk_42 (dk_at dksX1_look_0 21 rfl rfl)
theorem dX1_look_22 : decode cX1_look 22 = .ok (.iload_n 3, 1) := dk_29 (dk_at dksX1_look_0 22 rfl rfl)
theorem dX1_look_23 : decode cX1_look 23 = .ok (.invokevirtual 300, 3) := dk_182 1 44 (dk_at dksX1_look_1 0 rfl rfl)
theorem dX1_look_26 : decode cX1_look 26 = .ok (.ifCond .eq 48, 3) := dk_153 0 48 (dk_at dksX1_look_1 3 rfl rfl)
theorem dX1_look_29 : decode cX1_look 29 = .ok (.aload_n 0, 1) := dk_42 (dk_at dksX1_look_1 6 rfl rfl)
theorem dX1_look_30 : decode cX1_look 30 = .ok (.invokevirtual 293, 3) := dk_182 1 37 (dk_at dksX1_look_1 7 rfl rfl)
theorem dX1_look_33 : decode cX1_look 33 = .ok (.ifCond .ne 6, 3) := dk_154 0 6 (dk_at dksX1_look_1 10 rfl rfl)
theorem dX1_look_36 : decode cX1_look 36 = .ok (.goto 38, 3) := dk_167 0 38 (dk_at dksX1_look_1 13 rfl rfl)
theorem dX1_look_39 : decode cX1_look 39 = .ok (.aload_n 0, 1) := dk_42 (dk_at dksX1_look_1 16 rfl rfl)
theorem dX1_look_40 : decode cX1_look 40 = .ok (.iload_n 3, 1) := dk_29 (dk_at dksX1_look_1 17 rfl rfl)
theorem dX1_look_41 : decode cX1_look 41 = .ok (.invokevirtual 300, 3) := dk_182 1 44 (dk_at dksX1_look_1 18 rfl rfl)
theorem dX1_look_44 : decode cX1_look 44 = .ok (.pop, 1) := dk_87 (dk_at dksX1_look_1 21 rfl rfl)
theorem dX1_look_45 : decode cX1_look 45 = .ok (.aload_n 0, 1) := dk_42 (dk_at dksX1_look_1 22 rfl rfl)
theorem dX1_look_46 : decode cX1_look 46 = .ok (.iconst 5, 1) := dk_8 (dk_at dksX1_look_1 23 rfl rfl)
theorem dX1_look_47 : decode cX1_look 47 = .ok (.invokevirtual 245, 3) := dk_182 0 245 (dk_at dksX1_look_2 0 rfl rfl)
theorem dX1_look_50 : decode cX1_look 50 = .ok (.aload_n 0, 1) := dk_42 (dk_at dksX1_look_2 3 rfl rfl)
theorem dX1_look_51 : decode cX1_look 51 = .ok (.getfield 34, 3) := dk_180 0 34 (dk_at dksX1_look_2 4 rfl rfl)
theorem dX1_look_54 : decode cX1_look 54 = .ok (.getfield 206, 3) := dk_180 0 206 (dk_at dksX1_look_2 7 rfl rfl)
theorem dX1_look_57 : decode cX1_look 57 = .ok (.iconst 0, 1) := dk_3 (dk_at dksX1_look_2 10 rfl rfl)
theorem dX1_look_58 : decode cX1_look 58 = .ok (.aload_n 0, 1) := dk_42 (dk_at dksX1_look_2 11 rfl rfl)
theorem dX1_look_59 : decode cX1_look 59 = .ok (.getfield 49, 3) := dk_180 0 49 (dk_at dksX1_look_2 12 rfl rfl)
theorem dX1_look_62 : decode cX1_look 62 = .ok (.bipush 6, 2) := dk_16 6 (dk_at dksX1_look_2 15 rfl rfl)
theorem dX1_look_64 : decode cX1_look 64 = .ok (.iload_n 2, 1) := dk_28 (dk_at dksX1_look_2 17 rfl rfl)
theorem dX1_look_65 : decode cX1_look 65 = .ok (.imul, 1) := dk_104 (dk_at dksX1_look_2 18 rfl rfl)
theorem dX1_look_66 : decode cX1_look 66 = .ok (.bipush 6, 2) := dk_16 6 (dk_at dksX1_look_2 19 rfl rfl)
theorem dX1_look_68 : decode cX1_look 68 = .ok (.invokestatic 304, 3) := dk_184 1 48 (dk_at dksX1_look_2 21 rfl rfl)
theorem dX1_look_71 : decode cX1_look 71 = .ok (.iinc 2 1, 3) := dk_132 2 1 (dk_at dksX1_look_3 0 rfl rfl)
theorem dX1_look_74 : decode cX1_look 74 = .ok (.iinc 3 1, 3) := dk_132 3 1 (dk_at dksX1_look_3 3 rfl rfl)
theorem dX1_look_77 : decode cX1_look 77 = .ok (.goto (-64), 3) := dk_167 255 192 (dk_at dksX1_look_3 6 rfl rfl)
theorem dX1_look_80 : decode cX1_look 80 = .ok (.iconst (-1), 1) := dk_2 (dk_at dksX1_look_3 9 rfl rfl)
theorem dX1_look_81 : decode cX1_look 81 = .ok (.istore_n 3, 1) := dk_62 (dk_at dksX1_look_3 10 rfl rfl)
theorem dX1_look_82 : decode cX1_look 82 = .ok (.iconst 0, 1) := dk_3 (dk_at dksX1_look_3 11 rfl rfl)
theorem dX1_look_83 : decode cX1_look 83 = .ok (.istore 4, 2) := dk_54 4 (dk_at dksX1_look_3 12 rfl rfl)
theorem dX1_look_85 : decode cX1_look 85 = .ok (.iconst 0, 1) := dk_3 (dk_at dksX1_look_3 14 rfl rfl)
theorem dX1_look_86 : decode cX1_look 86 = .ok (.istore 5, 2) := dk_54 5 (dk_at dksX1_look_3 15 rfl rfl)
theorem dX1_look_88 : decode cX1_look 88 = .ok (.iload 5, 2) := dk_21 5 (dk_at dksX1_look_3 17 rfl rfl)
theorem dX1_look_90 : decode cX1_look 90 = .ok (.aload_n 0, 1) := dk_42 (dk_at dksX1_look_3 19 rfl rfl)
theorem dX1_look_91 : decode cX1_look 91 = .ok (.invokevirtual 83, 3) := dk_182 0 83 (dk_at dksX1_look_3 20 rfl rfl)
theorem dX1_look_94 : decode cX1_look 94 = .ok (.if_icmp .ge 35, 3) := dk_162 0 35 (dk_at dksX1_look_4 0 rfl rfl)
theorem dX1_look_97 : decode cX1_look 97 = .ok (.aload_n 0, 1) := dk_42 (dk_at dksX1_look_4 3 rfl rfl)
theorem dX1_look_98 : decode cX1_look 98 = .ok (.iload 5, 2) := dk_21 5 (dk_at dksX1_look_4 4 rfl rfl)
theorem dX1_look_100 : decode cX1_look 100 = .ok (.iload_n 2, 1) := dk_28 (dk_at dksX1_look_4 6 rfl rfl)
theorem dX1_look_101 : decode cX1_look 101 = .ok (.invokevirtual 310, 3) := dk_182 1 54 (dk_at dksX1_look_4 7 rfl rfl)
theorem dX1_look_104 : decode cX1_look 104 = .ok (.istore 6, 2) := dk_54 6 (dk_at dksX1_look_4 10 rfl rfl)
theorem dX1_look_106 : decode cX1_look 106 = .ok (.iload 6, 2) := dk_21 6 (dk_at dksX1_look_4 12 rfl rfl)
theorem dX1_look_108 : decode cX1_look 108 = .ok (.iload 4, 2) := dk_21 4 (dk_at dksX1_look_4 14 rfl rfl)
theorem dX1_look_110 : decode cX1_look 110 = .ok (.if_icmp .gt 6, 3) := dk_163 0 6 (dk_at dksX1_look_4 16 rfl rfl)
theorem dX1_look_113 : decode cX1_look 113 = .ok (.goto 10, 3) := dk_167 0 10 (dk_at dksX1_look_4 19 rfl rfl)
theorem dX1_look_116 : decode cX1_look 116 = .ok (.iload 5, 2) := dk_21 5 (dk_at dksX1_look_4 22 rfl rfl)
theorem dX1_look_118 : decode cX1_look 118 = .ok (.istore_n 3, 1) := dk_62 (dk_at dksX1_look_5 0 rfl rfl)
theorem dX1_look_119 : decode cX1_look 119 = .ok (.iload 6, 2) := dk_21 6 (dk_at dksX1_look_5 1 rfl rfl)
theorem dX1_look_121 : decode cX1_look 121 = .ok (.istore 4, 2) := dk_54 4 (dk_at dksX1_look_5 3 rfl rfl)
theorem dX1_look_123 : decode cX1_look 123 = .ok (.iinc 5 1, 3) := dk_132 5 1 (dk_at dksX1_look_5 5 rfl rfl)
theorem dX1_look_126 : decode cX1_look 126 = .ok (.goto (-38), 3) := dk_167 255 218 (dk_at dksX1_look_5 8 rfl rfl)
theorem dX1_look_129 : decode cX1_look 129 = .ok (.iload_n 1, 1) := dk_27 (dk_at dksX1_look_5 11 rfl rfl)
theorem dX1_look_130 : decode cX1_look 130 = .ok (.ifCond .ne 7, 3) := dk_154 0 7 (dk_at dksX1_look_5 12 rfl rfl)
theorem dX1_look_133 : decode cX1_look 133 = .ok (.iload_n 3, 1) := dk_29 (dk_at dksX1_look_5 15 rfl rfl)
theorem dX1_look_134 : decode cX1_look 134 = .ok (.goto 5, 3) := dk_167 0 5 (dk_at dksX1_look_5 16 rfl rfl)
theorem dX1_look_137 : decode cX1_look 137 = .ok (.iload 4, 2) := dk_21 4 (dk_at dksX1_look_5 19 rfl rfl)
theorem dX1_look_139 : decode cX1_look 139 = .ok (.ireturn, 1) := dk_172 (dk_at dksX1_look_5 21 rfl rfl)
abbrev cX1_unlike : ByteArray := prog_1_method_54_code
def yX1_unlike : MethodName := ⟨RX1, "unlike", "(II)I"⟩
def dkwX1_unlike_3 : List UInt8 := [153, 0, 6, 132, 3, 1, 132, 4, 1, 167, 255, 181, 29, 172]
abbrev dktX1_unlike_3 : List UInt8 := dkwX1_unlike_3 ++ []
def dkwX1_unlike_2 : List UInt8 := [21, 6, 104, 27, 96, 46, 159, 0, 7, 4, 167, 0, 4, 3, 54, 5, 132, 6, 1, 167, 255, 207, 21, 5]
abbrev dktX1_unlike_2 : List UInt8 := dkwX1_unlike_2 ++ dktX1_unlike_3
def dkwX1_unlike_1 : List UInt8 := [21, 5, 153, 0, 43, 42, 180, 0, 49, 16, 6, 21, 4, 104, 27, 96, 46, 42, 180, 0, 49, 16, 6]
abbrev dktX1_unlike_1 : List UInt8 := dkwX1_unlike_1 ++ dktX1_unlike_2
def dkwX1_unlike_0 : List UInt8 := [3, 62, 3, 54, 4, 21, 4, 28, 162, 0, 75, 4, 54, 5, 3, 54, 6, 21, 6, 21, 4, 162, 0, 48]
abbrev dktX1_unlike_0 : List UInt8 := dkwX1_unlike_0 ++ dktX1_unlike_1
theorem dksX1_unlike_0 : cX1_unlike.data.toList.drop 0 = dktX1_unlike_0 := by decide +kernel
theorem dksX1_unlike_1 : cX1_unlike.data.toList.drop 24 = dktX1_unlike_1 := dk_seg dksX1_unlike_0 24 rfl rfl
theorem dksX1_unlike_2 : cX1_unlike.data.toList.drop 47 = dktX1_unlike_2 := dk_seg dksX1_unlike_1 23 rfl rfl
theorem dksX1_unlike_3 : cX1_unlike.data.toList.drop 71 = dktX1_unlike_3 := dk_seg dksX1_unlike_2 24 rfl rfl
theorem dX1_unlike_0 : decode cX1_unlike 0 = .ok (.iconst 0, 1) := dk_3 (dk_at dksX1_unlike_0 0 rfl rfl)
theorem dX1_unlike_1 : decode cX1_unlike 1 = .ok (.istore_n 3, 1) := dk_62 (dk_at dksX1_unlike_0 1 rfl rfl)
theorem dX1_unlike_2 : decode cX1_unlike 2 = .ok (.iconst 0, 1) := dk_3 (dk_at dksX1_unlike_0 2 rfl rfl)
theorem dX1_unlike_3 : decode cX1_unlike 3 = .ok (.istore 4, 2) := dk_54 4 (dk_at dksX1_unlike_0 3 rfl rfl)
theorem dX1_unlike_5 : decode cX1_unlike 5 = .ok (.iload 4, 2) := dk_21 4 (dk_at dksX1_unlike_0 5 rfl rfl)
theorem dX1_unlike_7 : decode cX1_unlike 7 = .ok (.iload_n 2, 1) := dk_28 (dk_at dksX1_unlike_0 7 rfl rfl)
theorem dX1_unlike_8 : decode cX1_unlike 8 = .ok (.if_icmp .ge 75, 3) := dk_162 0 75 (dk_at dksX1_unlike_0 8 rfl rfl)
theorem dX1_unlike_11 : decode cX1_unlike 11 = .ok (.iconst 1, 1) := dk_4 (dk_at dksX1_unlike_0 11 rfl rfl)
theorem dX1_unlike_12 : decode cX1_unlike 12 = .ok (.istore 5, 2) := dk_54 5 (dk_at dksX1_unlike_0 12 rfl rfl)
theorem dX1_unlike_14 : decode cX1_unlike 14 = .ok (.iconst 0, 1) := dk_3 (dk_at dksX1_unlike_0 14 rfl rfl)
theorem dX1_unlike_15 : decode cX1_unlike 15 = .ok (.istore 6, 2) := dk_54 6 (dk_at dksX1_unlike_0 15 rfl rfl)
theorem dX1_unlike_17 : decode cX1_unlike 17 = .ok (.iload 6, 2) := dk_21 6 (dk_at dksX1_unlike_0 17 rfl rfl)
theorem dX1_unlike_19 : decode cX1_unlike 19 = .ok (.iload 4, 2) := dk_21 4 (dk_at dksX1_unlike_0 19 rfl rfl)
theorem dX1_unlike_21 : decode cX1_unlike 21 = .ok (.if_icmp .ge 48, 3) := dk_162 0 48 (dk_at dksX1_unlike_0 21 rfl rfl)
theorem dX1_unlike_24 : decode cX1_unlike 24 = .ok (.iload 5, 2) := dk_21 5 (dk_at dksX1_unlike_1 0 rfl rfl)
theorem dX1_unlike_26 : decode cX1_unlike 26 = .ok (.ifCond .eq 43, 3) := dk_153 0 43 (dk_at dksX1_unlike_1 2 rfl rfl)
theorem dX1_unlike_29 : decode cX1_unlike 29 = .ok (.aload_n 0, 1) := dk_42 (dk_at dksX1_unlike_1 5 rfl rfl)
theorem dX1_unlike_30 : decode cX1_unlike 30 = .ok (.getfield 49, 3) := dk_180 0 49 (dk_at dksX1_unlike_1 6 rfl rfl)
theorem dX1_unlike_33 : decode cX1_unlike 33 = .ok (.bipush 6, 2) := dk_16 6 (dk_at dksX1_unlike_1 9 rfl rfl)
theorem dX1_unlike_35 : decode cX1_unlike 35 = .ok (.iload 4, 2) := dk_21 4 (dk_at dksX1_unlike_1 11 rfl rfl)
theorem dX1_unlike_37 : decode cX1_unlike 37 = .ok (.imul, 1) := dk_104 (dk_at dksX1_unlike_1 13 rfl rfl)
theorem dX1_unlike_38 : decode cX1_unlike 38 = .ok (.iload_n 1, 1) := dk_27 (dk_at dksX1_unlike_1 14 rfl rfl)
theorem dX1_unlike_39 : decode cX1_unlike 39 = .ok (.iadd, 1) := dk_96 (dk_at dksX1_unlike_1 15 rfl rfl)
theorem dX1_unlike_40 : decode cX1_unlike 40 = .ok (.iaload, 1) := dk_46 (dk_at dksX1_unlike_1 16 rfl rfl)
theorem dX1_unlike_41 : decode cX1_unlike 41 = .ok (.aload_n 0, 1) := dk_42 (dk_at dksX1_unlike_1 17 rfl rfl)
theorem dX1_unlike_42 : decode cX1_unlike 42 = .ok (.getfield 49, 3) := dk_180 0 49 (dk_at dksX1_unlike_1 18 rfl rfl)
theorem dX1_unlike_45 : decode cX1_unlike 45 = .ok (.bipush 6, 2) := dk_16 6 (dk_at dksX1_unlike_1 21 rfl rfl)
theorem dX1_unlike_47 : decode cX1_unlike 47 = .ok (.iload 6, 2) := dk_21 6 (dk_at dksX1_unlike_2 0 rfl rfl)
theorem dX1_unlike_49 : decode cX1_unlike 49 = .ok (.imul, 1) := dk_104 (dk_at dksX1_unlike_2 2 rfl rfl)
theorem dX1_unlike_50 : decode cX1_unlike 50 = .ok (.iload_n 1, 1) := dk_27 (dk_at dksX1_unlike_2 3 rfl rfl)
theorem dX1_unlike_51 : decode cX1_unlike 51 = .ok (.iadd, 1) := dk_96 (dk_at dksX1_unlike_2 4 rfl rfl)
theorem dX1_unlike_52 : decode cX1_unlike 52 = .ok (.iaload, 1) := dk_46 (dk_at dksX1_unlike_2 5 rfl rfl)
theorem dX1_unlike_53 : decode cX1_unlike 53 = .ok (.if_icmp .eq 7, 3) := dk_159 0 7 (dk_at dksX1_unlike_2 6 rfl rfl)
theorem dX1_unlike_56 : decode cX1_unlike 56 = .ok (.iconst 1, 1) := dk_4 (dk_at dksX1_unlike_2 9 rfl rfl)
theorem dX1_unlike_57 : decode cX1_unlike 57 = .ok (.goto 4, 3) := dk_167 0 4 (dk_at dksX1_unlike_2 10 rfl rfl)
theorem dX1_unlike_60 : decode cX1_unlike 60 = .ok (.iconst 0, 1) := dk_3 (dk_at dksX1_unlike_2 13 rfl rfl)
theorem dX1_unlike_61 : decode cX1_unlike 61 = .ok (.istore 5, 2) := dk_54 5 (dk_at dksX1_unlike_2 14 rfl rfl)
theorem dX1_unlike_63 : decode cX1_unlike 63 = .ok (.iinc 6 1, 3) := dk_132 6 1 (dk_at dksX1_unlike_2 16 rfl rfl)
theorem dX1_unlike_66 : decode cX1_unlike 66 = .ok (.goto (-49), 3) := dk_167 255 207 (dk_at dksX1_unlike_2 19 rfl rfl)
theorem dX1_unlike_69 : decode cX1_unlike 69 = .ok (.iload 5, 2) := dk_21 5 (dk_at dksX1_unlike_2 22 rfl rfl)
theorem dX1_unlike_71 : decode cX1_unlike 71 = .ok (.ifCond .eq 6, 3) := dk_153 0 6 (dk_at dksX1_unlike_3 0 rfl rfl)
theorem dX1_unlike_74 : decode cX1_unlike 74 = .ok (.iinc 3 1, 3) := dk_132 3 1 (dk_at dksX1_unlike_3 3 rfl rfl)
theorem dX1_unlike_77 : decode cX1_unlike 77 = .ok (.iinc 4 1, 3) := dk_132 4 1 (dk_at dksX1_unlike_3 6 rfl rfl)
theorem dX1_unlike_80 : decode cX1_unlike 80 = .ok (.goto (-75), 3) := dk_167 255 181 (dk_at dksX1_unlike_3 9 rfl rfl)
theorem dX1_unlike_83 : decode cX1_unlike 83 = .ok (.iload_n 3, 1) := dk_29 (dk_at dksX1_unlike_3 12 rfl rfl)
theorem dX1_unlike_84 : decode cX1_unlike 84 = .ok (.ireturn, 1) := dk_172 (dk_at dksX1_unlike_3 13 rfl rfl)
abbrev cX1_game : ByteArray := prog_1_method_58_code
def yX1_game : MethodName := ⟨RX1, "game", "(IIIII)I"⟩
def dkwX1_game_8 : List UInt8 := [54, 9, 132, 10, 1, 167, 255, 127, 21, 5, 154, 0, 8, 21, 8, 167, 0, 5, 21, 9, 172]
abbrev dktX1_game_8 : List UInt8 := dkwX1_game_8 ++ []
def dkwX1_game_7 : List UInt8 := [167, 0, 26, 132, 8, 1, 21, 9, 2, 160, 0, 17, 21, 10, 5, 108, 16, 10, 104, 21, 10, 5, 112, 96]
abbrev dktX1_game_7 : List UInt8 := dkwX1_game_7 ++ dktX1_game_8
def dkwX1_game_6 : List UInt8 := [100, 21, 6, 21, 11, 182, 1, 57, 42, 21, 7, 21, 12, 21, 6, 21, 11, 182, 1, 57, 164, 0, 6]
abbrev dktX1_game_6 : List UInt8 := dkwX1_game_6 ++ dktX1_game_7
def dkwX1_game_5 : List UInt8 := [42, 21, 6, 21, 11, 21, 7, 21, 12, 182, 1, 57, 163, 0, 61, 42, 21, 7, 29, 21, 4, 96, 21, 12]
abbrev dktX1_game_5 : List UInt8 := dkwX1_game_5 ++ dktX1_game_6
def dkwX1_game_4 : List UInt8 := [167, 0, 5, 21, 4, 54, 12, 42, 21, 6, 29, 21, 4, 96, 21, 11, 100, 21, 7, 21, 12, 182, 1, 57]
abbrev dktX1_game_4 : List UInt8 := dkwX1_game_4 ++ dktX1_game_5
def dkwX1_game_3 : List UInt8 := [21, 10, 5, 108, 154, 0, 7, 29, 167, 0, 5, 21, 4, 54, 11, 21, 10, 5, 112, 154, 0, 7, 29]
abbrev dktX1_game_3 : List UInt8 := dkwX1_game_3 ++ dktX1_game_4
def dkwX1_game_2 : List UInt8 := [4, 167, 0, 4, 3, 184, 0, 100, 3, 54, 8, 2, 54, 9, 3, 54, 10, 21, 10, 7, 162, 0, 129]
abbrev dktX1_game_2 : List UInt8 := dkwX1_game_2 ++ dktX1_game_3
def dkwX1_game_1 : List UInt8 := [182, 0, 197, 21, 5, 3, 4, 184, 0, 136, 184, 0, 73, 27, 28, 159, 0, 13, 29, 21, 4, 159, 0, 7]
abbrev dktX1_game_1 : List UInt8 := dkwX1_game_1 ++ dktX1_game_2
def dkwX1_game_0 : List UInt8 := [42, 27, 182, 1, 11, 54, 6, 42, 28, 182, 1, 11, 54, 7, 42, 29, 182, 0, 197, 42, 21, 4]
abbrev dktX1_game_0 : List UInt8 := dkwX1_game_0 ++ dktX1_game_1
theorem dksX1_game_0 : cX1_game.data.toList.drop 0 = dktX1_game_0 := by decide +kernel
theorem dksX1_game_1 : cX1_game.data.toList.drop 22 = dktX1_game_1 := dk_seg dksX1_game_0 22 rfl rfl
theorem dksX1_game_2 : cX1_game.data.toList.drop 46 = dktX1_game_2 := dk_seg dksX1_game_1 24 rfl rfl
theorem dksX1_game_3 : cX1_game.data.toList.drop 69 = dktX1_game_3 := dk_seg dksX1_game_2 23 rfl rfl
theorem dksX1_game_4 : cX1_game.data.toList.drop 92 = dktX1_game_4 := dk_seg dksX1_game_3 23 rfl rfl
theorem dksX1_game_5 : cX1_game.data.toList.drop 116 = dktX1_game_5 := dk_seg dksX1_game_4 24 rfl rfl
theorem dksX1_game_6 : cX1_game.data.toList.drop 140 = dktX1_game_6 := dk_seg dksX1_game_5 24 rfl rfl
theorem dksX1_game_7 : cX1_game.data.toList.drop 163 = dktX1_game_7 := dk_seg dksX1_game_6 23 rfl rfl
theorem dksX1_game_8 : cX1_game.data.toList.drop 187 = dktX1_game_8 := dk_seg dksX1_game_7 24 rfl rfl
theorem dX1_game_0 : decode cX1_game 0 = .ok (.aload_n 0, 1) := dk_42 (dk_at dksX1_game_0 0 rfl rfl)
theorem dX1_game_1 : decode cX1_game 1 = .ok (.iload_n 1, 1) := dk_27 (dk_at dksX1_game_0 1 rfl rfl)
theorem dX1_game_2 : decode cX1_game 2 = .ok (.invokevirtual 267, 3) := dk_182 1 11 (dk_at dksX1_game_0 2 rfl rfl)
theorem dX1_game_5 : decode cX1_game 5 = .ok (.istore 6, 2) := dk_54 6 (dk_at dksX1_game_0 5 rfl rfl)
theorem dX1_game_7 : decode cX1_game 7 = .ok (.aload_n 0, 1) := dk_42 (dk_at dksX1_game_0 7 rfl rfl)
theorem dX1_game_8 : decode cX1_game 8 = .ok (.iload_n 2, 1) := dk_28 (dk_at dksX1_game_0 8 rfl rfl)
theorem dX1_game_9 : decode cX1_game 9 = .ok (.invokevirtual 267, 3) := dk_182 1 11 (dk_at dksX1_game_0 9 rfl rfl)
theorem dX1_game_12 : decode cX1_game 12 = .ok (.istore 7, 2) := dk_54 7 (dk_at dksX1_game_0 12 rfl rfl)
theorem dX1_game_14 : decode cX1_game 14 = .ok (.aload_n 0, 1) := dk_42 (dk_at dksX1_game_0 14 rfl rfl)
theorem dX1_game_15 : decode cX1_game 15 = .ok (.iload_n 3, 1) := dk_29 (dk_at dksX1_game_0 15 rfl rfl)
theorem dX1_game_16 : decode cX1_game 16 = .ok (.invokevirtual 197, 3) := dk_182 0 197 (dk_at dksX1_game_0 16 rfl rfl)
theorem dX1_game_19 : decode cX1_game 19 = .ok (.aload_n 0, 1) := dk_42 (dk_at dksX1_game_0 19 rfl rfl)
theorem dX1_game_20 : decode cX1_game 20 = .ok (.iload 4, 2) := dk_21 4 (dk_at dksX1_game_0 20 rfl rfl)
theorem dX1_game_22 : decode cX1_game 22 = .ok (.invokevirtual 197, 3) := dk_182 0 197 (dk_at dksX1_game_1 0 rfl rfl)
theorem dX1_game_25 : decode cX1_game 25 = .ok (.iload 5, 2) := dk_21 5 (dk_at dksX1_game_1 3 rfl rfl)
theorem dX1_game_27 : decode cX1_game 27 = .ok (.iconst 0, 1) := dk_3 (dk_at dksX1_game_1 5 rfl rfl)
theorem dX1_game_28 : decode cX1_game 28 = .ok (.iconst 1, 1) := dk_4 (dk_at dksX1_game_1 6 rfl rfl)
theorem dX1_game_29 : decode cX1_game 29 = .ok (.invokestatic 136, 3) := dk_184 0 136 (dk_at dksX1_game_1 7 rfl rfl)
theorem dX1_game_32 : decode cX1_game 32 = .ok (.invokestatic 73, 3) := dk_184 0 73 (dk_at dksX1_game_1 10 rfl rfl)
theorem dX1_game_35 : decode cX1_game 35 = .ok (.iload_n 1, 1) := dk_27 (dk_at dksX1_game_1 13 rfl rfl)
theorem dX1_game_36 : decode cX1_game 36 = .ok (.iload_n 2, 1) := dk_28 (dk_at dksX1_game_1 14 rfl rfl)
theorem dX1_game_37 : decode cX1_game 37 = .ok (.if_icmp .eq 13, 3) := dk_159 0 13 (dk_at dksX1_game_1 15 rfl rfl)
theorem dX1_game_40 : decode cX1_game 40 = .ok (.iload_n 3, 1) := dk_29 (dk_at dksX1_game_1 18 rfl rfl)
theorem dX1_game_41 : decode cX1_game 41 = .ok (.iload 4, 2) := dk_21 4 (dk_at dksX1_game_1 19 rfl rfl)
theorem dX1_game_43 : decode cX1_game 43 = .ok (.if_icmp .eq 7, 3) := dk_159 0 7 (dk_at dksX1_game_1 21 rfl rfl)
theorem dX1_game_46 : decode cX1_game 46 = .ok (.iconst 1, 1) := dk_4 (dk_at dksX1_game_2 0 rfl rfl)
theorem dX1_game_47 : decode cX1_game 47 = .ok (.goto 4, 3) := dk_167 0 4 (dk_at dksX1_game_2 1 rfl rfl)
theorem dX1_game_50 : decode cX1_game 50 = .ok (.iconst 0, 1) := dk_3 (dk_at dksX1_game_2 4 rfl rfl)
theorem dX1_game_51 : decode cX1_game 51 = .ok (.invokestatic 100, 3) := dk_184 0 100 (dk_at dksX1_game_2 5 rfl rfl)
theorem dX1_game_54 : decode cX1_game 54 = .ok (.iconst 0, 1) := dk_3 (dk_at dksX1_game_2 8 rfl rfl)
theorem dX1_game_55 : decode cX1_game 55 = .ok (.istore 8, 2) := dk_54 8 (dk_at dksX1_game_2 9 rfl rfl)
theorem dX1_game_57 : decode cX1_game 57 = .ok (.iconst (-1), 1) := dk_2 (dk_at dksX1_game_2 11 rfl rfl)
theorem dX1_game_58 : decode cX1_game 58 = .ok (.istore 9, 2) := dk_54 9 (dk_at dksX1_game_2 12 rfl rfl)
theorem dX1_game_60 : decode cX1_game 60 = .ok (.iconst 0, 1) := dk_3 (dk_at dksX1_game_2 14 rfl rfl)
theorem dX1_game_61 : decode cX1_game 61 = .ok (.istore 10, 2) := dk_54 10 (dk_at dksX1_game_2 15 rfl rfl)
theorem dX1_game_63 : decode cX1_game 63 = .ok (.iload 10, 2) := dk_21 10 (dk_at dksX1_game_2 17 rfl rfl)
theorem dX1_game_65 : decode cX1_game 65 = .ok (.iconst 4, 1) := dk_7 (dk_at dksX1_game_2 19 rfl rfl)
theorem dX1_game_66 : decode cX1_game 66 = .ok (.if_icmp .ge 129, 3) := dk_162 0 129 (dk_at dksX1_game_2 20 rfl rfl)
theorem dX1_game_69 : decode cX1_game 69 = .ok (.iload 10, 2) := dk_21 10 (dk_at dksX1_game_3 0 rfl rfl)
theorem dX1_game_71 : decode cX1_game 71 = .ok (.iconst 2, 1) := dk_5 (dk_at dksX1_game_3 2 rfl rfl)
theorem dX1_game_72 : decode cX1_game 72 = .ok (.idiv, 1) := dk_108 (dk_at dksX1_game_3 3 rfl rfl)
theorem dX1_game_73 : decode cX1_game 73 = .ok (.ifCond .ne 7, 3) := dk_154 0 7 (dk_at dksX1_game_3 4 rfl rfl)
theorem dX1_game_76 : decode cX1_game 76 = .ok (.iload_n 3, 1) := dk_29 (dk_at dksX1_game_3 7 rfl rfl)
theorem dX1_game_77 : decode cX1_game 77 = .ok (.goto 5, 3) := dk_167 0 5 (dk_at dksX1_game_3 8 rfl rfl)
theorem dX1_game_80 : decode cX1_game 80 = .ok (.iload 4, 2) := dk_21 4 (dk_at dksX1_game_3 11 rfl rfl)
theorem dX1_game_82 : decode cX1_game 82 = .ok (.istore 11, 2) := dk_54 11 (dk_at dksX1_game_3 13 rfl rfl)
theorem dX1_game_84 : decode cX1_game 84 = .ok (.iload 10, 2) := dk_21 10 (dk_at dksX1_game_3 15 rfl rfl)
theorem dX1_game_86 : decode cX1_game 86 = .ok (.iconst 2, 1) := dk_5 (dk_at dksX1_game_3 17 rfl rfl)
theorem dX1_game_87 : decode cX1_game 87 = .ok (.irem, 1) := dk_112 (dk_at dksX1_game_3 18 rfl rfl)
theorem dX1_game_88 : decode cX1_game 88 = .ok (.ifCond .ne 7, 3) := dk_154 0 7 (dk_at dksX1_game_3 19 rfl rfl)
theorem dX1_game_91 : decode cX1_game 91 = .ok (.iload_n 3, 1) := dk_29 (dk_at dksX1_game_3 22 rfl rfl)
theorem dX1_game_92 : decode cX1_game 92 = .ok (.goto 5, 3) := dk_167 0 5 (dk_at dksX1_game_4 0 rfl rfl)
theorem dX1_game_95 : decode cX1_game 95 = .ok (.iload 4, 2) := dk_21 4 (dk_at dksX1_game_4 3 rfl rfl)
theorem dX1_game_97 : decode cX1_game 97 = .ok (.istore 12, 2) := dk_54 12 (dk_at dksX1_game_4 5 rfl rfl)
theorem dX1_game_99 : decode cX1_game 99 = .ok (.aload_n 0, 1) := dk_42 (dk_at dksX1_game_4 7 rfl rfl)
theorem dX1_game_100 : decode cX1_game 100 = .ok (.iload 6, 2) := dk_21 6 (dk_at dksX1_game_4 8 rfl rfl)
theorem dX1_game_102 : decode cX1_game 102 = .ok (.iload_n 3, 1) := dk_29 (dk_at dksX1_game_4 10 rfl rfl)
theorem dX1_game_103 : decode cX1_game 103 = .ok (.iload 4, 2) := dk_21 4 (dk_at dksX1_game_4 11 rfl rfl)
theorem dX1_game_105 : decode cX1_game 105 = .ok (.iadd, 1) := dk_96 (dk_at dksX1_game_4 13 rfl rfl)
theorem dX1_game_106 : decode cX1_game 106 = .ok (.iload 11, 2) := dk_21 11 (dk_at dksX1_game_4 14 rfl rfl)
theorem dX1_game_108 : decode cX1_game 108 = .ok (.isub, 1) := dk_100 (dk_at dksX1_game_4 16 rfl rfl)
theorem dX1_game_109 : decode cX1_game 109 = .ok (.iload 7, 2) := dk_21 7 (dk_at dksX1_game_4 17 rfl rfl)
theorem dX1_game_111 : decode cX1_game 111 = .ok (.iload 12, 2) := dk_21 12 (dk_at dksX1_game_4 19 rfl rfl)
theorem dX1_game_113 : decode cX1_game 113 = .ok (.invokevirtual 313, 3) := dk_182 1 57 (dk_at dksX1_game_4 21 rfl rfl)
theorem dX1_game_116 : decode cX1_game 116 = .ok (.aload_n 0, 1) := dk_42 (dk_at dksX1_game_5 0 rfl rfl)
theorem dX1_game_117 : decode cX1_game 117 = .ok (.iload 6, 2) := dk_21 6 (dk_at dksX1_game_5 1 rfl rfl)
theorem dX1_game_119 : decode cX1_game 119 = .ok (.iload 11, 2) := dk_21 11 (dk_at dksX1_game_5 3 rfl rfl)
theorem dX1_game_121 : decode cX1_game 121 = .ok (.iload 7, 2) := dk_21 7 (dk_at dksX1_game_5 5 rfl rfl)
theorem dX1_game_123 : decode cX1_game 123 = .ok (.iload 12, 2) := dk_21 12 (dk_at dksX1_game_5 7 rfl rfl)
theorem dX1_game_125 : decode cX1_game 125 = .ok (.invokevirtual 313, 3) := dk_182 1 57 (dk_at dksX1_game_5 9 rfl rfl)
theorem dX1_game_128 : decode cX1_game 128 = .ok (.if_icmp .gt 61, 3) := dk_163 0 61 (dk_at dksX1_game_5 12 rfl rfl)
theorem dX1_game_131 : decode cX1_game 131 = .ok (.aload_n 0, 1) := dk_42 (dk_at dksX1_game_5 15 rfl rfl)
theorem dX1_game_132 : decode cX1_game 132 = .ok (.iload 7, 2) := dk_21 7 (dk_at dksX1_game_5 16 rfl rfl)
theorem dX1_game_134 : decode cX1_game 134 = .ok (.iload_n 3, 1) := dk_29 (dk_at dksX1_game_5 18 rfl rfl)
theorem dX1_game_135 : decode cX1_game 135 = .ok (.iload 4, 2) := dk_21 4 (dk_at dksX1_game_5 19 rfl rfl)
theorem dX1_game_137 : decode cX1_game 137 = .ok (.iadd, 1) := dk_96 (dk_at dksX1_game_5 21 rfl rfl)
theorem dX1_game_138 : decode cX1_game 138 = .ok (.iload 12, 2) := dk_21 12 (dk_at dksX1_game_5 22 rfl rfl)
theorem dX1_game_140 : decode cX1_game 140 = .ok (.isub, 1) := dk_100 (dk_at dksX1_game_6 0 rfl rfl)
theorem dX1_game_141 : decode cX1_game 141 = .ok (.iload 6, 2) := dk_21 6 (dk_at dksX1_game_6 1 rfl rfl)
theorem dX1_game_143 : decode cX1_game 143 = .ok (.iload 11, 2) := dk_21 11 (dk_at dksX1_game_6 3 rfl rfl)
theorem dX1_game_145 : decode cX1_game 145 = .ok (.invokevirtual 313, 3) := dk_182 1 57 (dk_at dksX1_game_6 5 rfl rfl)
theorem dX1_game_148 : decode cX1_game 148 = .ok (.aload_n 0, 1) := dk_42 (dk_at dksX1_game_6 8 rfl rfl)
theorem dX1_game_149 : decode cX1_game 149 = .ok (.iload 7, 2) := dk_21 7 (dk_at dksX1_game_6 9 rfl rfl)
theorem dX1_game_151 : decode cX1_game 151 = .ok (.iload 12, 2) := dk_21 12 (dk_at dksX1_game_6 11 rfl rfl)
theorem dX1_game_153 : decode cX1_game 153 = .ok (.iload 6, 2) := dk_21 6 (dk_at dksX1_game_6 13 rfl rfl)
theorem dX1_game_155 : decode cX1_game 155 = .ok (.iload 11, 2) := dk_21 11 (dk_at dksX1_game_6 15 rfl rfl)
theorem dX1_game_157 : decode cX1_game 157 = .ok (.invokevirtual 313, 3) := dk_182 1 57 (dk_at dksX1_game_6 17 rfl rfl)
theorem dX1_game_160 : decode cX1_game 160 = .ok (.if_icmp .le 6, 3) := dk_164 0 6 (dk_at dksX1_game_6 20 rfl rfl)
theorem dX1_game_163 : decode cX1_game 163 = .ok (.goto 26, 3) := dk_167 0 26 (dk_at dksX1_game_7 0 rfl rfl)
theorem dX1_game_166 : decode cX1_game 166 = .ok (.iinc 8 1, 3) := dk_132 8 1 (dk_at dksX1_game_7 3 rfl rfl)
theorem dX1_game_169 : decode cX1_game 169 = .ok (.iload 9, 2) := dk_21 9 (dk_at dksX1_game_7 6 rfl rfl)
theorem dX1_game_171 : decode cX1_game 171 = .ok (.iconst (-1), 1) := dk_2 (dk_at dksX1_game_7 8 rfl rfl)
theorem dX1_game_172 : decode cX1_game 172 = .ok (.if_icmp .ne 17, 3) := dk_160 0 17 (dk_at dksX1_game_7 9 rfl rfl)
theorem dX1_game_175 : decode cX1_game 175 = .ok (.iload 10, 2) := dk_21 10 (dk_at dksX1_game_7 12 rfl rfl)
theorem dX1_game_177 : decode cX1_game 177 = .ok (.iconst 2, 1) := dk_5 (dk_at dksX1_game_7 14 rfl rfl)
theorem dX1_game_178 : decode cX1_game 178 = .ok (.idiv, 1) := dk_108 (dk_at dksX1_game_7 15 rfl rfl)
theorem dX1_game_179 : decode cX1_game 179 = .ok (.bipush 10, 2) := dk_16 10 (dk_at dksX1_game_7 16 rfl rfl)
theorem dX1_game_181 : decode cX1_game 181 = .ok (.imul, 1) := dk_104 (dk_at dksX1_game_7 18 rfl rfl)
theorem dX1_game_182 : decode cX1_game 182 = .ok (.iload 10, 2) := dk_21 10 (dk_at dksX1_game_7 19 rfl rfl)
theorem dX1_game_184 : decode cX1_game 184 = .ok (.iconst 2, 1) := dk_5 (dk_at dksX1_game_7 21 rfl rfl)
theorem dX1_game_185 : decode cX1_game 185 = .ok (.irem, 1) := dk_112 (dk_at dksX1_game_7 22 rfl rfl)
theorem dX1_game_186 : decode cX1_game 186 = .ok (.iadd, 1) := dk_96 (dk_at dksX1_game_7 23 rfl rfl)
theorem dX1_game_187 : decode cX1_game 187 = .ok (.istore 9, 2) := dk_54 9 (dk_at dksX1_game_8 0 rfl rfl)
theorem dX1_game_189 : decode cX1_game 189 = .ok (.iinc 10 1, 3) := dk_132 10 1 (dk_at dksX1_game_8 2 rfl rfl)
theorem dX1_game_192 : decode cX1_game 192 = .ok (.goto (-129), 3) := dk_167 255 127 (dk_at dksX1_game_8 5 rfl rfl)
theorem dX1_game_195 : decode cX1_game 195 = .ok (.iload 5, 2) := dk_21 5 (dk_at dksX1_game_8 8 rfl rfl)
theorem dX1_game_197 : decode cX1_game 197 = .ok (.ifCond .ne 8, 3) := dk_154 0 8 (dk_at dksX1_game_8 10 rfl rfl)
theorem dX1_game_200 : decode cX1_game 200 = .ok (.iload 8, 2) := dk_21 8 (dk_at dksX1_game_8 13 rfl rfl)
theorem dX1_game_202 : decode cX1_game 202 = .ok (.goto 5, 3) := dk_167 0 5 (dk_at dksX1_game_8 15 rfl rfl)
theorem dX1_game_205 : decode cX1_game 205 = .ok (.iload 9, 2) := dk_21 9 (dk_at dksX1_game_8 18 rfl rfl)
theorem dX1_game_207 : decode cX1_game 207 = .ok (.ireturn, 1) := dk_172 (dk_at dksX1_game_8 20 rfl rfl)
abbrev cX1_gains : ByteArray := prog_1_method_57_code
def yX1_gains : MethodName := ⟨RX1, "gains", "(IIII)I"⟩
def dkwX1_gains_4 : List UInt8 := [180, 0, 206, 28, 46, 172]
abbrev dktX1_gains_4 : List UInt8 := dkwX1_gains_4 ++ []
def dkwX1_gains_3 : List UInt8 := [21, 5, 160, 0, 17, 42, 180, 0, 30, 180, 0, 206, 28, 46, 5, 108, 167, 0, 12, 42, 180, 0, 30]
abbrev dktX1_gains_3 : List UInt8 := dkwX1_gains_3 ++ dktX1_gains_4
def dkwX1_gains_2 : List UInt8 := [19, 1, 4, 54, 6, 21, 5, 19, 1, 4, 162, 0, 10, 21, 6, 21, 5, 162, 0, 5, 3, 172, 21, 6]
abbrev dktX1_gains_2 : List UInt8 := dkwX1_gains_2 ++ dktX1_gains_3
def dkwX1_gains_1 : List UInt8 := [160, 0, 23, 42, 180, 0, 10, 29, 42, 180, 0, 30, 180, 0, 165, 28, 46, 182, 1, 5, 167, 0, 6]
abbrev dktX1_gains_1 : List UInt8 := dkwX1_gains_1 ++ dktX1_gains_2
def dkwX1_gains_0 : List UInt8 := [42, 180, 0, 10, 27, 42, 180, 0, 30, 180, 0, 165, 28, 46, 182, 1, 5, 54, 5, 21, 4, 28]
abbrev dktX1_gains_0 : List UInt8 := dkwX1_gains_0 ++ dktX1_gains_1
theorem dksX1_gains_0 : cX1_gains.data.toList.drop 0 = dktX1_gains_0 := by decide +kernel
theorem dksX1_gains_1 : cX1_gains.data.toList.drop 22 = dktX1_gains_1 := dk_seg dksX1_gains_0 22 rfl rfl
theorem dksX1_gains_2 : cX1_gains.data.toList.drop 45 = dktX1_gains_2 := dk_seg dksX1_gains_1 23 rfl rfl
theorem dksX1_gains_3 : cX1_gains.data.toList.drop 69 = dktX1_gains_3 := dk_seg dksX1_gains_2 24 rfl rfl
theorem dksX1_gains_4 : cX1_gains.data.toList.drop 92 = dktX1_gains_4 := dk_seg dksX1_gains_3 23 rfl rfl
theorem dX1_gains_0 : decode cX1_gains 0 = .ok (.aload_n 0, 1) := dk_42 (dk_at dksX1_gains_0 0 rfl rfl)
theorem dX1_gains_1 : decode cX1_gains 1 = .ok (.getfield 10, 3) := dk_180 0 10 (dk_at dksX1_gains_0 1 rfl rfl)
theorem dX1_gains_4 : decode cX1_gains 4 = .ok (.iload_n 1, 1) := dk_27 (dk_at dksX1_gains_0 4 rfl rfl)
theorem dX1_gains_5 : decode cX1_gains 5 = .ok (.aload_n 0, 1) := dk_42 (dk_at dksX1_gains_0 5 rfl rfl)
theorem dX1_gains_6 : decode cX1_gains 6 = .ok (.getfield 30, 3) := dk_180 0 30 (dk_at dksX1_gains_0 6 rfl rfl)
theorem dX1_gains_9 : decode cX1_gains 9 = .ok (.getfield 165, 3) := dk_180 0 165 (dk_at dksX1_gains_0 9 rfl rfl)
theorem dX1_gains_12 : decode cX1_gains 12 = .ok (.iload_n 2, 1) := dk_28 (dk_at dksX1_gains_0 12 rfl rfl)
theorem dX1_gains_13 : decode cX1_gains 13 = .ok (.iaload, 1) := dk_46 (dk_at dksX1_gains_0 13 rfl rfl)
theorem dX1_gains_14 : decode cX1_gains 14 = .ok (.invokevirtual 261, 3) := dk_182 1 5 (dk_at dksX1_gains_0 14 rfl rfl)
theorem dX1_gains_17 : decode cX1_gains 17 = .ok (.istore 5, 2) := dk_54 5 (dk_at dksX1_gains_0 17 rfl rfl)
theorem dX1_gains_19 : decode cX1_gains 19 = .ok (.iload 4, 2) := dk_21 4 (dk_at dksX1_gains_0 19 rfl rfl)
theorem dX1_gains_21 : decode cX1_gains 21 = .ok (.iload_n 2, 1) := dk_28 (dk_at dksX1_gains_0 21 rfl rfl)
theorem dX1_gains_22 : decode cX1_gains 22 = .ok (.if_icmp .ne 23, 3) := dk_160 0 23 (dk_at dksX1_gains_1 0 rfl rfl)
theorem dX1_gains_25 : decode cX1_gains 25 = .ok (.aload_n 0, 1) := dk_42 (dk_at dksX1_gains_1 3 rfl rfl)
theorem dX1_gains_26 : decode cX1_gains 26 = .ok (.getfield 10, 3) := dk_180 0 10 (dk_at dksX1_gains_1 4 rfl rfl)
theorem dX1_gains_29 : decode cX1_gains 29 = .ok (.iload_n 3, 1) := dk_29 (dk_at dksX1_gains_1 7 rfl rfl)
theorem dX1_gains_30 : decode cX1_gains 30 = .ok (.aload_n 0, 1) := dk_42 (dk_at dksX1_gains_1 8 rfl rfl)
theorem dX1_gains_31 : decode cX1_gains 31 = .ok (.getfield 30, 3) := dk_180 0 30 (dk_at dksX1_gains_1 9 rfl rfl)
theorem dX1_gains_34 : decode cX1_gains 34 = .ok (.getfield 165, 3) := dk_180 0 165 (dk_at dksX1_gains_1 12 rfl rfl)
theorem dX1_gains_37 : decode cX1_gains 37 = .ok (.iload_n 2, 1) := dk_28 (dk_at dksX1_gains_1 15 rfl rfl)
theorem dX1_gains_38 : decode cX1_gains 38 = .ok (.iaload, 1) := dk_46 (dk_at dksX1_gains_1 16 rfl rfl)
theorem dX1_gains_39 : decode cX1_gains 39 = .ok (.invokevirtual 261, 3) := dk_182 1 5 (dk_at dksX1_gains_1 17 rfl rfl)
theorem dX1_gains_42 : decode cX1_gains 42 = .ok (.goto 6, 3) := dk_167 0 6 (dk_at dksX1_gains_1 20 rfl rfl)
theorem dX1_gains_45 : decode cX1_gains 45 = .ok (.ldc_w 260, 3) := dk_19 1 4 (dk_at dksX1_gains_2 0 rfl rfl)
theorem dX1_gains_48 : decode cX1_gains 48 = .ok (.istore 6, 2) := dk_54 6 (dk_at dksX1_gains_2 3 rfl rfl)
theorem dX1_gains_50 : decode cX1_gains 50 = .ok (.iload 5, 2) := dk_21 5 (dk_at dksX1_gains_2 5 rfl rfl)
theorem dX1_gains_52 : decode cX1_gains 52 = .ok (.ldc_w 260, 3) := dk_19 1 4 (dk_at dksX1_gains_2 7 rfl rfl)
theorem dX1_gains_55 : decode cX1_gains 55 = .ok (.if_icmp .ge 10, 3) := dk_162 0 10 (dk_at dksX1_gains_2 10 rfl rfl)
theorem dX1_gains_58 : decode cX1_gains 58 = .ok (.iload 6, 2) := dk_21 6 (dk_at dksX1_gains_2 13 rfl rfl)
theorem dX1_gains_60 : decode cX1_gains 60 = .ok (.iload 5, 2) := dk_21 5 (dk_at dksX1_gains_2 15 rfl rfl)
theorem dX1_gains_62 : decode cX1_gains 62 = .ok (.if_icmp .ge 5, 3) := dk_162 0 5 (dk_at dksX1_gains_2 17 rfl rfl)
theorem dX1_gains_65 : decode cX1_gains 65 = .ok (.iconst 0, 1) := dk_3 (dk_at dksX1_gains_2 20 rfl rfl)
theorem dX1_gains_66 : decode cX1_gains 66 = .ok (.ireturn, 1) := dk_172 (dk_at dksX1_gains_2 21 rfl rfl)
theorem dX1_gains_67 : decode cX1_gains 67 = .ok (.iload 6, 2) := dk_21 6 (dk_at dksX1_gains_2 22 rfl rfl)
theorem dX1_gains_69 : decode cX1_gains 69 = .ok (.iload 5, 2) := dk_21 5 (dk_at dksX1_gains_3 0 rfl rfl)
theorem dX1_gains_71 : decode cX1_gains 71 = .ok (.if_icmp .ne 17, 3) := dk_160 0 17 (dk_at dksX1_gains_3 2 rfl rfl)
theorem dX1_gains_74 : decode cX1_gains 74 = .ok (.aload_n 0, 1) := dk_42 (dk_at dksX1_gains_3 5 rfl rfl)
theorem dX1_gains_75 : decode cX1_gains 75 = .ok (.getfield 30, 3) := dk_180 0 30 (dk_at dksX1_gains_3 6 rfl rfl)
theorem dX1_gains_78 : decode cX1_gains 78 = .ok (.getfield 206, 3) := dk_180 0 206 (dk_at dksX1_gains_3 9 rfl rfl)
theorem dX1_gains_81 : decode cX1_gains 81 = .ok (.iload_n 2, 1) := dk_28 (dk_at dksX1_gains_3 12 rfl rfl)
theorem dX1_gains_82 : decode cX1_gains 82 = .ok (.iaload, 1) := dk_46 (dk_at dksX1_gains_3 13 rfl rfl)
theorem dX1_gains_83 : decode cX1_gains 83 = .ok (.iconst 2, 1) := dk_5 (dk_at dksX1_gains_3 14 rfl rfl)
theorem dX1_gains_84 : decode cX1_gains 84 = .ok (.idiv, 1) := dk_108 (dk_at dksX1_gains_3 15 rfl rfl)
theorem dX1_gains_85 : decode cX1_gains 85 = .ok (.goto 12, 3) := dk_167 0 12 (dk_at dksX1_gains_3 16 rfl rfl)
theorem dX1_gains_88 : decode cX1_gains 88 = .ok (.aload_n 0, 1) := dk_42 (dk_at dksX1_gains_3 19 rfl rfl)
theorem dX1_gains_89 : decode cX1_gains 89 = .ok (.getfield 30, 3) := dk_180 0 30 (dk_at dksX1_gains_3 20 rfl rfl)
theorem dX1_gains_92 : decode cX1_gains 92 = .ok (.getfield 206, 3) := dk_180 0 206 (dk_at dksX1_gains_4 0 rfl rfl)
theorem dX1_gains_95 : decode cX1_gains 95 = .ok (.iload_n 2, 1) := dk_28 (dk_at dksX1_gains_4 3 rfl rfl)
theorem dX1_gains_96 : decode cX1_gains 96 = .ok (.iaload, 1) := dk_46 (dk_at dksX1_gains_4 4 rfl rfl)
theorem dX1_gains_97 : decode cX1_gains 97 = .ok (.ireturn, 1) := dk_172 (dk_at dksX1_gains_4 5 rfl rfl)
abbrev cX1_winter : ByteArray := prog_1_method_61_code
def yX1_winter : MethodName := ⟨RX1, "winter", "(III)I"⟩
def dkwX1_winter_6 : List UInt8 := [182, 0, 248, 42, 180, 0, 30, 42, 182, 0, 83, 182, 0, 248, 100, 167, 0, 5, 21, 4, 172]
abbrev dktX1_winter_6 : List UInt8 := dkwX1_winter_6 ++ []
def dkwX1_winter_5 : List UInt8 := [182, 0, 71, 182, 0, 155, 167, 0, 36, 29, 4, 160, 0, 29, 42, 180, 0, 34, 42, 182, 0, 83]
abbrev dktX1_winter_5 : List UInt8 := dkwX1_winter_5 ++ dktX1_winter_6
def dkwX1_winter_4 : List UInt8 := [46, 154, 0, 6, 132, 4, 1, 132, 5, 1, 167, 255, 228, 29, 154, 0, 17, 42, 180, 0, 34, 42]
abbrev dktX1_winter_4 : List UInt8 := dkwX1_winter_4 ++ dktX1_winter_5
def dkwX1_winter_3 : List UInt8 := [3, 54, 4, 3, 54, 5, 21, 5, 42, 182, 0, 71, 162, 0, 25, 42, 180, 0, 34, 180, 0, 176, 21, 5]
abbrev dktX1_winter_3 : List UInt8 := dkwX1_winter_3 ++ dktX1_winter_4
def dkwX1_winter_2 : List UInt8 := [158, 0, 7, 42, 182, 1, 67, 42, 180, 0, 34, 42, 180, 0, 10, 182, 0, 229, 132, 4, 1, 167, 255, 225]
abbrev dktX1_winter_2 : List UInt8 := dkwX1_winter_2 ++ dktX1_winter_3
def dkwX1_winter_1 : List UInt8 := [180, 0, 30, 182, 0, 241, 42, 27, 181, 1, 60, 3, 54, 4, 21, 4, 28, 162, 0, 31, 42, 182, 0, 71]
abbrev dktX1_winter_1 : List UInt8 := dkwX1_winter_1 ++ dktX1_winter_2
def dkwX1_winter_0 : List UInt8 := [29, 3, 5, 184, 0, 136, 184, 0, 73, 28, 3, 16, 50, 184, 0, 136, 184, 0, 100, 42, 180, 0, 34, 42]
abbrev dktX1_winter_0 : List UInt8 := dkwX1_winter_0 ++ dktX1_winter_1
theorem dksX1_winter_0 : cX1_winter.data.toList.drop 0 = dktX1_winter_0 := by decide +kernel
theorem dksX1_winter_1 : cX1_winter.data.toList.drop 24 = dktX1_winter_1 := dk_seg dksX1_winter_0 24 rfl rfl
theorem dksX1_winter_2 : cX1_winter.data.toList.drop 48 = dktX1_winter_2 := dk_seg dksX1_winter_1 24 rfl rfl
theorem dksX1_winter_3 : cX1_winter.data.toList.drop 72 = dktX1_winter_3 := dk_seg dksX1_winter_2 24 rfl rfl
theorem dksX1_winter_4 : cX1_winter.data.toList.drop 96 = dktX1_winter_4 := dk_seg dksX1_winter_3 24 rfl rfl
theorem dksX1_winter_5 : cX1_winter.data.toList.drop 118 = dktX1_winter_5 := dk_seg dksX1_winter_4 22 rfl rfl
theorem dksX1_winter_6 : cX1_winter.data.toList.drop 140 = dktX1_winter_6 := dk_seg dksX1_winter_5 22 rfl rfl
theorem dX1_winter_0 : decode cX1_winter 0 = .ok (.iload_n 3, 1) := dk_29 (dk_at dksX1_winter_0 0 rfl rfl)
theorem dX1_winter_1 : decode cX1_winter 1 = .ok (.iconst 0, 1) := dk_3 (dk_at dksX1_winter_0 1 rfl rfl)
theorem dX1_winter_2 : decode cX1_winter 2 = .ok (.iconst 2, 1) := dk_5 (dk_at dksX1_winter_0 2 rfl rfl)
theorem dX1_winter_3 : decode cX1_winter 3 = .ok (.invokestatic 136, 3) := dk_184 0 136 (dk_at dksX1_winter_0 3 rfl rfl)
theorem dX1_winter_6 : decode cX1_winter 6 = .ok (.invokestatic 73, 3) := dk_184 0 73 (dk_at dksX1_winter_0 6 rfl rfl)
theorem dX1_winter_9 : decode cX1_winter 9 = .ok (.iload_n 2, 1) := dk_28 (dk_at dksX1_winter_0 9 rfl rfl)
theorem dX1_winter_10 : decode cX1_winter 10 = .ok (.iconst 0, 1) := dk_3 (dk_at dksX1_winter_0 10 rfl rfl)
theorem dX1_winter_11 : decode cX1_winter 11 = .ok (.bipush 50, 2) := dk_16 50 (dk_at dksX1_winter_0 11 rfl rfl)
theorem dX1_winter_13 : decode cX1_winter 13 = .ok (.invokestatic 136, 3) := dk_184 0 136 (dk_at dksX1_winter_0 13 rfl rfl)
theorem dX1_winter_16 : decode cX1_winter 16 = .ok (.invokestatic 100, 3) := dk_184 0 100 (dk_at dksX1_winter_0 16 rfl rfl)
theorem dX1_winter_19 : decode cX1_winter 19 = .ok (.aload_n 0, 1) := dk_42 (dk_at dksX1_winter_0 19 rfl rfl)
theorem dX1_winter_20 : decode cX1_winter 20 = .ok (.getfield 34, 3) := dk_180 0 34 (dk_at dksX1_winter_0 20 rfl rfl)
theorem dX1_winter_23 : decode cX1_winter 23 = .ok (.aload_n 0, 1) := dk_42 (dk_at dksX1_winter_0 23 rfl rfl)
theorem dX1_winter_24 : decode cX1_winter 24 = .ok (.getfield 30, 3) := dk_180 0 30 (dk_at dksX1_winter_1 0 rfl rfl)
theorem dX1_winter_27 : decode cX1_winter 27 = .ok (.invokevirtual 241, 3) := dk_182 0 241 (dk_at dksX1_winter_1 3 rfl rfl)
theorem dX1_winter_30 : decode cX1_winter 30 = .ok (.aload_n 0, 1) := dk_42 (dk_at dksX1_winter_1 6 rfl rfl)
theorem dX1_winter_31 : decode cX1_winter 31 = .ok (.iload_n 1, 1) := dk_27 (dk_at dksX1_winter_1 7 rfl rfl)
theorem dX1_winter_32 : decode cX1_winter 32 = .ok (.putfield 316, 3) := dk_181 1 60 (dk_at dksX1_winter_1 8 rfl rfl)
theorem dX1_winter_35 : decode cX1_winter 35 = .ok (.iconst 0, 1) := dk_3 (dk_at dksX1_winter_1 11 rfl rfl)
theorem dX1_winter_36 : decode cX1_winter 36 = .ok (.istore 4, 2) := dk_54 4 (dk_at dksX1_winter_1 12 rfl rfl)
theorem dX1_winter_38 : decode cX1_winter 38 = .ok (.iload 4, 2) := dk_21 4 (dk_at dksX1_winter_1 14 rfl rfl)
theorem dX1_winter_40 : decode cX1_winter 40 = .ok (.iload_n 2, 1) := dk_28 (dk_at dksX1_winter_1 16 rfl rfl)
theorem dX1_winter_41 : decode cX1_winter 41 = .ok (.if_icmp .ge 31, 3) := dk_162 0 31 (dk_at dksX1_winter_1 17 rfl rfl)
theorem dX1_winter_44 : decode cX1_winter 44 = .ok (.aload_n 0, 1) := dk_42 (dk_at dksX1_winter_1 20 rfl rfl)
theorem dX1_winter_45 : decode cX1_winter 45 = .ok (.invokevirtual 71, 3) := dk_182 0 71 (dk_at dksX1_winter_1 21 rfl rfl)
theorem dX1_winter_48 : decode cX1_winter 48 = .ok (.ifCond .le 7, 3) := dk_158 0 7 (dk_at dksX1_winter_2 0 rfl rfl)
theorem dX1_winter_51 : decode cX1_winter 51 = .ok (.aload_n 0, 1) := dk_42 (dk_at dksX1_winter_2 3 rfl rfl)
theorem dX1_winter_52 : decode cX1_winter 52 = .ok (.invokevirtual 323, 3) := dk_182 1 67 (dk_at dksX1_winter_2 4 rfl rfl)
theorem dX1_winter_55 : decode cX1_winter 55 = .ok (.aload_n 0, 1) := dk_42 (dk_at dksX1_winter_2 7 rfl rfl)
theorem dX1_winter_56 : decode cX1_winter 56 = .ok (.getfield 34, 3) := dk_180 0 34 (dk_at dksX1_winter_2 8 rfl rfl)
theorem dX1_winter_59 : decode cX1_winter 59 = .ok (.aload_n 0, 1) := dk_42 (dk_at dksX1_winter_2 11 rfl rfl)
theorem dX1_winter_60 : decode cX1_winter 60 = .ok (.getfield 10, 3) := dk_180 0 10 (dk_at dksX1_winter_2 12 rfl rfl)
theorem dX1_winter_63 : decode cX1_winter 63 = .ok (.invokevirtual 229, 3) := dk_182 0 229 (dk_at dksX1_winter_2 15 rfl rfl)
theorem dX1_winter_66 : decode cX1_winter 66 = .ok (.iinc 4 1, 3) := dk_132 4 1 (dk_at dksX1_winter_2 18 rfl rfl)
theorem dX1_winter_69 : decode cX1_winter 69 = .ok (.goto (-31), 3) := dk_167 255 225 (dk_at dksX1_winter_2 21 rfl rfl)
theorem dX1_winter_72 : decode cX1_winter 72 = .ok (.iconst 0, 1) := dk_3 (dk_at dksX1_winter_3 0 rfl rfl)
theorem dX1_winter_73 : decode cX1_winter 73 = .ok (.istore 4, 2) := dk_54 4 (dk_at dksX1_winter_3 1 rfl rfl)
theorem dX1_winter_75 : decode cX1_winter 75 = .ok (.iconst 0, 1) := dk_3 (dk_at dksX1_winter_3 3 rfl rfl)
theorem dX1_winter_76 : decode cX1_winter 76 = .ok (.istore 5, 2) := dk_54 5 (dk_at dksX1_winter_3 4 rfl rfl)
theorem dX1_winter_78 : decode cX1_winter 78 = .ok (.iload 5, 2) := dk_21 5 (dk_at dksX1_winter_3 6 rfl rfl)
theorem dX1_winter_80 : decode cX1_winter 80 = .ok (.aload_n 0, 1) := dk_42 (dk_at dksX1_winter_3 8 rfl rfl)
theorem dX1_winter_81 : decode cX1_winter 81 = .ok (.invokevirtual 71, 3) := dk_182 0 71 (dk_at dksX1_winter_3 9 rfl rfl)
theorem dX1_winter_84 : decode cX1_winter 84 = .ok (.if_icmp .ge 25, 3) := dk_162 0 25 (dk_at dksX1_winter_3 12 rfl rfl)
theorem dX1_winter_87 : decode cX1_winter 87 = .ok (.aload_n 0, 1) := dk_42 (dk_at dksX1_winter_3 15 rfl rfl)
theorem dX1_winter_88 : decode cX1_winter 88 = .ok (.getfield 34, 3) := dk_180 0 34 (dk_at dksX1_winter_3 16 rfl rfl)
theorem dX1_winter_91 : decode cX1_winter 91 = .ok (.getfield 176, 3) := dk_180 0 176 (dk_at dksX1_winter_3 19 rfl rfl)
theorem dX1_winter_94 : decode cX1_winter 94 = .ok (.iload 5, 2) := dk_21 5 (dk_at dksX1_winter_3 22 rfl rfl)
theorem dX1_winter_96 : decode cX1_winter 96 = .ok (.iaload, 1) := dk_46 (dk_at dksX1_winter_4 0 rfl rfl)
theorem dX1_winter_97 : decode cX1_winter 97 = .ok (.ifCond .ne 6, 3) := dk_154 0 6 (dk_at dksX1_winter_4 1 rfl rfl)
theorem dX1_winter_100 : decode cX1_winter 100 = .ok (.iinc 4 1, 3) := dk_132 4 1 (dk_at dksX1_winter_4 4 rfl rfl)
theorem dX1_winter_103 : decode cX1_winter 103 = .ok (.iinc 5 1, 3) := dk_132 5 1 (dk_at dksX1_winter_4 7 rfl rfl)
theorem dX1_winter_106 : decode cX1_winter 106 = .ok (.goto (-28), 3) := dk_167 255 228 (dk_at dksX1_winter_4 10 rfl rfl)
theorem dX1_winter_109 : decode cX1_winter 109 = .ok (.iload_n 3, 1) := dk_29 (dk_at dksX1_winter_4 13 rfl rfl)
theorem dX1_winter_110 : decode cX1_winter 110 = .ok (.ifCond .ne 17, 3) := dk_154 0 17 (dk_at dksX1_winter_4 14 rfl rfl)
theorem dX1_winter_113 : decode cX1_winter 113 = .ok (.aload_n 0, 1) := dk_42 (dk_at dksX1_winter_4 17 rfl rfl)
theorem dX1_winter_114 : decode cX1_winter 114 = .ok (.getfield 34, 3) := dk_180 0 34 (dk_at dksX1_winter_4 18 rfl rfl)
theorem dX1_winter_117 : decode cX1_winter 117 = .ok (.aload_n 0, 1) := dk_42 (dk_at dksX1_winter_4 21 rfl rfl)
theorem dX1_winter_118 : decode cX1_winter 118 = .ok (.invokevirtual 71, 3) := dk_182 0 71 (dk_at dksX1_winter_5 0 rfl rfl)
theorem dX1_winter_121 : decode cX1_winter 121 = .ok (.invokevirtual 155, 3) := dk_182 0 155 (dk_at dksX1_winter_5 3 rfl rfl)
theorem dX1_winter_124 : decode cX1_winter 124 = .ok (.goto 36, 3) := dk_167 0 36 (dk_at dksX1_winter_5 6 rfl rfl)
theorem dX1_winter_127 : decode cX1_winter 127 = .ok (.iload_n 3, 1) := dk_29 (dk_at dksX1_winter_5 9 rfl rfl)
theorem dX1_winter_128 : decode cX1_winter 128 = .ok (.iconst 1, 1) := dk_4 (dk_at dksX1_winter_5 10 rfl rfl)
theorem dX1_winter_129 : decode cX1_winter 129 = .ok (.if_icmp .ne 29, 3) := dk_160 0 29 (dk_at dksX1_winter_5 11 rfl rfl)
theorem dX1_winter_132 : decode cX1_winter 132 = .ok (.aload_n 0, 1) := dk_42 (dk_at dksX1_winter_5 14 rfl rfl)
theorem dX1_winter_133 : decode cX1_winter 133 = .ok (.getfield 34, 3) := dk_180 0 34 (dk_at dksX1_winter_5 15 rfl rfl)
theorem dX1_winter_136 : decode cX1_winter 136 = .ok (.aload_n 0, 1) := dk_42 (dk_at dksX1_winter_5 18 rfl rfl)
theorem dX1_winter_137 : decode cX1_winter 137 = .ok (.invokevirtual 83, 3) := dk_182 0 83 (dk_at dksX1_winter_5 19 rfl rfl)
theorem dX1_winter_140 : decode cX1_winter 140 = .ok (.invokevirtual 248, 3) := dk_182 0 248 (dk_at dksX1_winter_6 0 rfl rfl)
theorem dX1_winter_143 : decode cX1_winter 143 = .ok (.aload_n 0, 1) := dk_42 (dk_at dksX1_winter_6 3 rfl rfl)
theorem dX1_winter_144 : decode cX1_winter 144 = .ok (.getfield 30, 3) := dk_180 0 30 (dk_at dksX1_winter_6 4 rfl rfl)
theorem dX1_winter_147 : decode cX1_winter 147 = .ok (.aload_n 0, 1) := dk_42 (dk_at dksX1_winter_6 7 rfl rfl)
theorem dX1_winter_148 : decode cX1_winter 148 = .ok (.invokevirtual 83, 3) := dk_182 0 83 (dk_at dksX1_winter_6 8 rfl rfl)
theorem dX1_winter_151 : decode cX1_winter 151 = .ok (.invokevirtual 248, 3) := dk_182 0 248 (dk_at dksX1_winter_6 11 rfl rfl)
theorem dX1_winter_154 : decode cX1_winter 154 = .ok (.isub, 1) := dk_100 (dk_at dksX1_winter_6 14 rfl rfl)
theorem dX1_winter_155 : decode cX1_winter 155 = .ok (.goto 5, 3) := dk_167 0 5 (dk_at dksX1_winter_6 15 rfl rfl)
theorem dX1_winter_158 : decode cX1_winter 158 = .ok (.iload 4, 2) := dk_21 4 (dk_at dksX1_winter_6 18 rfl rfl)
theorem dX1_winter_160 : decode cX1_winter 160 = .ok (.ireturn, 1) := dk_172 (dk_at dksX1_winter_6 20 rfl rfl)
abbrev cX1_happens : ByteArray := prog_1_method_60_code
def yX1_happens : MethodName := ⟨RX1, "happens", "()V"⟩
def dkwX1_happens_5 : List UInt8 := [180, 0, 176, 27, 92, 46, 16, 10, 96, 79, 177]
abbrev dktX1_happens_5 : List UInt8 := dkwX1_happens_5 ++ []
def dkwX1_happens_4 : List UInt8 := [42, 180, 0, 10, 180, 0, 58, 27, 182, 0, 77, 192, 0, 81, 180, 0, 182, 163, 0, 17, 42, 180, 0, 34]
abbrev dktX1_happens_4 : List UInt8 := dkwX1_happens_4 ++ dktX1_happens_5
def dkwX1_happens_3 : List UInt8 := [184, 0, 232, 79, 167, 0, 54, 28, 4, 160, 0, 49, 42, 180, 0, 34, 180, 0, 176, 27, 46, 16, 10, 96]
abbrev dktX1_happens_3 : List UInt8 := dkwX1_happens_3 ++ dktX1_happens_4
def dkwX1_happens_2 : List UInt8 := [180, 0, 179, 27, 42, 180, 0, 34, 180, 0, 179, 27, 46, 42, 180, 0, 34, 180, 0, 176, 27, 46]
abbrev dktX1_happens_2 : List UInt8 := dkwX1_happens_2 ++ dktX1_happens_3
def dkwX1_happens_1 : List UInt8 := [180, 0, 176, 27, 92, 46, 42, 180, 0, 34, 180, 0, 176, 27, 46, 16, 10, 108, 100, 79, 42, 180, 0, 34]
abbrev dktX1_happens_1 : List UInt8 := dkwX1_happens_1 ++ dktX1_happens_2
def dkwX1_happens_0 : List UInt8 := [42, 42, 182, 0, 71, 182, 1, 64, 60, 42, 7, 182, 1, 64, 61, 28, 154, 0, 60, 42, 180, 0, 34]
abbrev dktX1_happens_0 : List UInt8 := dkwX1_happens_0 ++ dktX1_happens_1
theorem dksX1_happens_0 : cX1_happens.data.toList.drop 0 = dktX1_happens_0 := by decide +kernel
theorem dksX1_happens_1 : cX1_happens.data.toList.drop 23 = dktX1_happens_1 := dk_seg dksX1_happens_0 23 rfl rfl
theorem dksX1_happens_2 : cX1_happens.data.toList.drop 47 = dktX1_happens_2 := dk_seg dksX1_happens_1 24 rfl rfl
theorem dksX1_happens_3 : cX1_happens.data.toList.drop 69 = dktX1_happens_3 := dk_seg dksX1_happens_2 22 rfl rfl
theorem dksX1_happens_4 : cX1_happens.data.toList.drop 93 = dktX1_happens_4 := dk_seg dksX1_happens_3 24 rfl rfl
theorem dksX1_happens_5 : cX1_happens.data.toList.drop 117 = dktX1_happens_5 := dk_seg dksX1_happens_4 24 rfl rfl
theorem dX1_happens_0 : decode cX1_happens 0 = .ok (.aload_n 0, 1) := dk_42 (dk_at dksX1_happens_0 0 rfl rfl)
theorem dX1_happens_1 : decode cX1_happens 1 = .ok (.aload_n 0, 1) := dk_42 (dk_at dksX1_happens_0 1 rfl rfl)
theorem dX1_happens_2 : decode cX1_happens 2 = .ok (.invokevirtual 71, 3) := dk_182 0 71 (dk_at dksX1_happens_0 2 rfl rfl)
theorem dX1_happens_5 : decode cX1_happens 5 = .ok (.invokevirtual 320, 3) := dk_182 1 64 (dk_at dksX1_happens_0 5 rfl rfl)
theorem dX1_happens_8 : decode cX1_happens 8 = .ok (.istore_n 1, 1) := dk_60 (dk_at dksX1_happens_0 8 rfl rfl)
theorem dX1_happens_9 : decode cX1_happens 9 = .ok (.aload_n 0, 1) := dk_42 (dk_at dksX1_happens_0 9 rfl rfl)
theorem dX1_happens_10 : decode cX1_happens 10 = .ok (.iconst 4, 1) := dk_7 (dk_at dksX1_happens_0 10 rfl rfl)
theorem dX1_happens_11 : decode cX1_happens 11 = .ok (.invokevirtual 320, 3) := dk_182 1 64 (dk_at dksX1_happens_0 11 rfl rfl)
theorem dX1_happens_14 : decode cX1_happens 14 = .ok (.istore_n 2, 1) := dk_61 (dk_at dksX1_happens_0 14 rfl rfl)
theorem dX1_happens_15 : decode cX1_happens 15 = .ok (.iload_n 2, 1) := dk_28 (dk_at dksX1_happens_0 15 rfl rfl)
theorem dX1_happens_16 : decode cX1_happens 16 = .ok (.ifCond .ne 60, 3) := dk_154 0 60 (dk_at dksX1_happens_0 16 rfl rfl)
theorem dX1_happens_19 : decode cX1_happens 19 = .ok (.aload_n 0, 1) := dk_42 (dk_at dksX1_happens_0 19 rfl rfl)
theorem dX1_happens_20 : decode cX1_happens 20 = .ok (.getfield 34, 3) := dk_180 0 34 (dk_at dksX1_happens_0 20 rfl rfl)
theorem dX1_happens_23 : decode cX1_happens 23 = .ok (.getfield 176, 3) := dk_180 0 176 (dk_at dksX1_happens_1 0 rfl rfl)
theorem dX1_happens_26 : decode cX1_happens 26 = .ok (.iload_n 1, 1) := dk_27 (dk_at dksX1_happens_1 3 rfl rfl)
theorem dX1_happens_27 : decode cX1_happens 27 = .ok (.dup2, 1) := dk_92 (dk_at dksX1_happens_1 4 rfl rfl)
theorem dX1_happens_28 : decode cX1_happens 28 = .ok (.iaload, 1) := dk_46 (dk_at dksX1_happens_1 5 rfl rfl)
theorem dX1_happens_29 : decode cX1_happens 29 = .ok (.aload_n 0, 1) := dk_42 (dk_at dksX1_happens_1 6 rfl rfl)
theorem dX1_happens_30 : decode cX1_happens 30 = .ok (.getfield 34, 3) := dk_180 0 34 (dk_at dksX1_happens_1 7 rfl rfl)
theorem dX1_happens_33 : decode cX1_happens 33 = .ok (.getfield 176, 3) := dk_180 0 176 (dk_at dksX1_happens_1 10 rfl rfl)
theorem dX1_happens_36 : decode cX1_happens 36 = .ok (.iload_n 1, 1) := dk_27 (dk_at dksX1_happens_1 13 rfl rfl)
theorem dX1_happens_37 : decode cX1_happens 37 = .ok (.iaload, 1) := dk_46 (dk_at dksX1_happens_1 14 rfl rfl)
theorem dX1_happens_38 : decode cX1_happens 38 = .ok (.bipush 10, 2) := dk_16 10 (dk_at dksX1_happens_1 15 rfl rfl)
theorem dX1_happens_40 : decode cX1_happens 40 = .ok (.idiv, 1) := dk_108 (dk_at dksX1_happens_1 17 rfl rfl)
theorem dX1_happens_41 : decode cX1_happens 41 = .ok (.isub, 1) := dk_100 (dk_at dksX1_happens_1 18 rfl rfl)
theorem dX1_happens_42 : decode cX1_happens 42 = .ok (.iastore, 1) := dk_79 (dk_at dksX1_happens_1 19 rfl rfl)
theorem dX1_happens_43 : decode cX1_happens 43 = .ok (.aload_n 0, 1) := dk_42 (dk_at dksX1_happens_1 20 rfl rfl)
theorem dX1_happens_44 : decode cX1_happens 44 = .ok (.getfield 34, 3) := dk_180 0 34 (dk_at dksX1_happens_1 21 rfl rfl)
theorem dX1_happens_47 : decode cX1_happens 47 = .ok (.getfield 179, 3) := dk_180 0 179 (dk_at dksX1_happens_2 0 rfl rfl)
theorem dX1_happens_50 : decode cX1_happens 50 = .ok (.iload_n 1, 1) := dk_27 (dk_at dksX1_happens_2 3 rfl rfl)
theorem dX1_happens_51 : decode cX1_happens 51 = .ok (.aload_n 0, 1) := dk_42 (dk_at dksX1_happens_2 4 rfl rfl)
theorem dX1_happens_52 : decode cX1_happens 52 = .ok (.getfield 34, 3) := dk_180 0 34 (dk_at dksX1_happens_2 5 rfl rfl)
theorem dX1_happens_55 : decode cX1_happens 55 = .ok (.getfield 179, 3) := dk_180 0 179 (dk_at dksX1_happens_2 8 rfl rfl)
theorem dX1_happens_58 : decode cX1_happens 58 = .ok (.iload_n 1, 1) := dk_27 (dk_at dksX1_happens_2 11 rfl rfl)
theorem dX1_happens_59 : decode cX1_happens 59 = .ok (.iaload, 1) := dk_46 (dk_at dksX1_happens_2 12 rfl rfl)
theorem dX1_happens_60 : decode cX1_happens 60 = .ok (.aload_n 0, 1) := dk_42 (dk_at dksX1_happens_2 13 rfl rfl)
theorem dX1_happens_61 : decode cX1_happens 61 = .ok (.getfield 34, 3) := dk_180 0 34 (dk_at dksX1_happens_2 14 rfl rfl)
theorem dX1_happens_64 : decode cX1_happens 64 = .ok (.getfield 176, 3) := dk_180 0 176 (dk_at dksX1_happens_2 17 rfl rfl)
theorem dX1_happens_67 : decode cX1_happens 67 = .ok (.iload_n 1, 1) := dk_27 (dk_at dksX1_happens_2 20 rfl rfl)
theorem dX1_happens_68 : decode cX1_happens 68 = .ok (.iaload, 1) := dk_46 (dk_at dksX1_happens_2 21 rfl rfl)
theorem dX1_happens_69 : decode cX1_happens 69 = .ok (.invokestatic 232, 3) := dk_184 0 232 (dk_at dksX1_happens_3 0 rfl rfl)
theorem dX1_happens_72 : decode cX1_happens 72 = .ok (.iastore, 1) := dk_79 (dk_at dksX1_happens_3 3 rfl rfl)
theorem dX1_happens_73 : decode cX1_happens 73 = .ok (.goto 54, 3) := dk_167 0 54 (dk_at dksX1_happens_3 4 rfl rfl)
theorem dX1_happens_76 : decode cX1_happens 76 = .ok (.iload_n 2, 1) := dk_28 (dk_at dksX1_happens_3 7 rfl rfl)
theorem dX1_happens_77 : decode cX1_happens 77 = .ok (.iconst 1, 1) := dk_4 (dk_at dksX1_happens_3 8 rfl rfl)
theorem dX1_happens_78 : decode cX1_happens 78 = .ok (.if_icmp .ne 49, 3) := dk_160 0 49 (dk_at dksX1_happens_3 9 rfl rfl)
theorem dX1_happens_81 : decode cX1_happens 81 = .ok (.aload_n 0, 1) := dk_42 (dk_at dksX1_happens_3 12 rfl rfl)
theorem dX1_happens_82 : decode cX1_happens 82 = .ok (.getfield 34, 3) := dk_180 0 34 (dk_at dksX1_happens_3 13 rfl rfl)
theorem dX1_happens_85 : decode cX1_happens 85 = .ok (.getfield 176, 3) := dk_180 0 176 (dk_at dksX1_happens_3 16 rfl rfl)
theorem dX1_happens_88 : decode cX1_happens 88 = .ok (.iload_n 1, 1) := dk_27 (dk_at dksX1_happens_3 19 rfl rfl)
theorem dX1_happens_89 : decode cX1_happens 89 = .ok (.iaload, 1) := dk_46 (dk_at dksX1_happens_3 20 rfl rfl)
theorem dX1_happens_90 : decode cX1_happens 90 = .ok (.bipush 10, 2) := dk_16 10 (dk_at dksX1_happens_3 21 rfl rfl)
theorem dX1_happens_92 : decode cX1_happens 92 = .ok (.iadd, 1) := dk_96 (dk_at dksX1_happens_3 23 rfl rfl)
theorem dX1_happens_93 : decode cX1_happens 93 = .ok (.aload_n 0, 1) := dk_42 (dk_at dksX1_happens_4 0 rfl rfl)
theorem dX1_happens_94 : decode cX1_happens 94 = .ok (.getfield 10, 3) := dk_180 0 10 (dk_at dksX1_happens_4 1 rfl rfl)
theorem dX1_happens_97 : decode cX1_happens 97 = .ok (.getfield 58, 3) := dk_180 0 58 (dk_at dksX1_happens_4 4 rfl rfl)
theorem dX1_happens_100 : decode cX1_happens 100 = .ok (.iload_n 1, 1) := dk_27 (dk_at dksX1_happens_4 7 rfl rfl)
theorem dX1_happens_101 : decode cX1_happens 101 = .ok (.invokevirtual 77, 3) := dk_182 0 77 (dk_at dksX1_happens_4 8 rfl rfl)
theorem dX1_happens_104 : decode cX1_happens 104 = .ok (.checkcast 81, 3) := dk_192 0 81 (dk_at dksX1_happens_4 11 rfl rfl)
theorem dX1_happens_107 : decode cX1_happens 107 = .ok (.getfield 182, 3) := dk_180 0 182 (dk_at dksX1_happens_4 14 rfl rfl)
theorem dX1_happens_110 : decode cX1_happens 110 = .ok (.if_icmp .gt 17, 3) := dk_163 0 17 (dk_at dksX1_happens_4 17 rfl rfl)
theorem dX1_happens_113 : decode cX1_happens 113 = .ok (.aload_n 0, 1) := dk_42 (dk_at dksX1_happens_4 20 rfl rfl)
theorem dX1_happens_114 : decode cX1_happens 114 = .ok (.getfield 34, 3) := dk_180 0 34 (dk_at dksX1_happens_4 21 rfl rfl)
theorem dX1_happens_117 : decode cX1_happens 117 = .ok (.getfield 176, 3) := dk_180 0 176 (dk_at dksX1_happens_5 0 rfl rfl)
theorem dX1_happens_120 : decode cX1_happens 120 = .ok (.iload_n 1, 1) := dk_27 (dk_at dksX1_happens_5 3 rfl rfl)
theorem dX1_happens_121 : decode cX1_happens 121 = .ok (.dup2, 1) := dk_92 (dk_at dksX1_happens_5 4 rfl rfl)
theorem dX1_happens_122 : decode cX1_happens 122 = .ok (.iaload, 1) := dk_46 (dk_at dksX1_happens_5 5 rfl rfl)
theorem dX1_happens_123 : decode cX1_happens 123 = .ok (.bipush 10, 2) := dk_16 10 (dk_at dksX1_happens_5 6 rfl rfl)
theorem dX1_happens_125 : decode cX1_happens 125 = .ok (.iadd, 1) := dk_96 (dk_at dksX1_happens_5 8 rfl rfl)
theorem dX1_happens_126 : decode cX1_happens 126 = .ok (.iastore, 1) := dk_79 (dk_at dksX1_happens_5 9 rfl rfl)
theorem dX1_happens_127 : decode cX1_happens 127 = .ok (.return_, 1) := dk_177 (dk_at dksX1_happens_5 10 rfl rfl)
abbrev cX1_draw : ByteArray := prog_1_method_59_code
def yX1_draw : MethodName := ⟨RX1, "draw", "(I)I"⟩
def dkwX1_draw_1 : List UInt8 := [17, 127, 255, 126, 27, 112, 172]
abbrev dktX1_draw_1 : List UInt8 := dkwX1_draw_1 ++ []
def dkwX1_draw_0 : List UInt8 := [42, 42, 180, 1, 60, 19, 1, 63, 104, 17, 48, 57, 96, 181, 1, 60, 42, 180, 1, 60, 16, 16, 122]
abbrev dktX1_draw_0 : List UInt8 := dkwX1_draw_0 ++ dktX1_draw_1
theorem dksX1_draw_0 : cX1_draw.data.toList.drop 0 = dktX1_draw_0 := by decide +kernel
theorem dksX1_draw_1 : cX1_draw.data.toList.drop 23 = dktX1_draw_1 := dk_seg dksX1_draw_0 23 rfl rfl
theorem dX1_draw_0 : decode cX1_draw 0 = .ok (.aload_n 0, 1) := dk_42 (dk_at dksX1_draw_0 0 rfl rfl)
theorem dX1_draw_1 : decode cX1_draw 1 = .ok (.aload_n 0, 1) := dk_42 (dk_at dksX1_draw_0 1 rfl rfl)
theorem dX1_draw_2 : decode cX1_draw 2 = .ok (.getfield 316, 3) := dk_180 1 60 (dk_at dksX1_draw_0 2 rfl rfl)
theorem dX1_draw_5 : decode cX1_draw 5 = .ok (.ldc_w 319, 3) := dk_19 1 63 (dk_at dksX1_draw_0 5 rfl rfl)
theorem dX1_draw_8 : decode cX1_draw 8 = .ok (.imul, 1) := dk_104 (dk_at dksX1_draw_0 8 rfl rfl)
theorem dX1_draw_9 : decode cX1_draw 9 = .ok (.sipush 12345, 3) := dk_17 48 57 (dk_at dksX1_draw_0 9 rfl rfl)
theorem dX1_draw_12 : decode cX1_draw 12 = .ok (.iadd, 1) := dk_96 (dk_at dksX1_draw_0 12 rfl rfl)
theorem dX1_draw_13 : decode cX1_draw 13 = .ok (.putfield 316, 3) := dk_181 1 60 (dk_at dksX1_draw_0 13 rfl rfl)
theorem dX1_draw_16 : decode cX1_draw 16 = .ok (.aload_n 0, 1) := dk_42 (dk_at dksX1_draw_0 16 rfl rfl)
theorem dX1_draw_17 : decode cX1_draw 17 = .ok (.getfield 316, 3) := dk_180 1 60 (dk_at dksX1_draw_0 17 rfl rfl)
theorem dX1_draw_20 : decode cX1_draw 20 = .ok (.bipush 16, 2) := dk_16 16 (dk_at dksX1_draw_0 20 rfl rfl)
theorem dX1_draw_22 : decode cX1_draw 22 = .ok (.ishr, 1) := dk_122 (dk_at dksX1_draw_0 22 rfl rfl)
theorem dX1_draw_23 : decode cX1_draw 23 = .ok (.sipush 32767, 3) := dk_17 127 255 (dk_at dksX1_draw_1 0 rfl rfl)
theorem dX1_draw_26 : decode cX1_draw 26 = .ok (.iand, 1) := dk_126 (dk_at dksX1_draw_1 3 rfl rfl)
theorem dX1_draw_27 : decode cX1_draw 27 = .ok (.iload_n 1, 1) := dk_27 (dk_at dksX1_draw_1 4 rfl rfl)
theorem dX1_draw_28 : decode cX1_draw 28 = .ok (.irem, 1) := dk_112 (dk_at dksX1_draw_1 5 rfl rfl)
theorem dX1_draw_29 : decode cX1_draw 29 = .ok (.ireturn, 1) := dk_172 (dk_at dksX1_draw_1 6 rfl rfl)
theorem q105 : (Jvm.Cond.initialized "SableCrown") ∈ lw_all := lw_g (lw_at lw_m1 1 rfl) rfl
theorem q146 : (Jvm.Cond.instantiable "SableCrown" (12 : Nat)) ∈ lw_all := lw_g (lw_at lw_m1 42 rfl) rfl
theorem q148 : (Jvm.Cond.instanceMethod ({ cls := "SableCrown", name := "<init>", desc := "()V" } : Jvm.MethodName)) ∈ lw_all := lw_g (lw_at lw_m1 44 rfl) rfl
theorem q149 : (Jvm.Cond.code ({ cls := "SableCrown", name := "<init>", desc := "()V" } : Jvm.MethodName) prog_1_method_1_code (1 : Nat) (Option.none : Option Jvm.ClassFile.FieldType)) ∈ lw_all := lw_g (lw_at lw_m1 45 rfl) rfl
theorem q150 : (Jvm.Cond.methodLink "SableCrown" (1 : Nat) ({ cls := "java/lang/Object", name := "<init>", desc := "()V" } : Jvm.MethodName)) ∈ lw_all := lw_g (lw_at lw_m1 46 rfl) rfl
theorem q153 : (Jvm.Cond.classLink "SableCrown" (7 : Nat) "SableCrown$Land") ∈ lw_all := lw_g (lw_at lw_m1 49 rfl) rfl
theorem q155 : (Jvm.Cond.methodLinkNest "SableCrown" (9 : Nat) ({ cls := "SableCrown$Land", name := "<init>", desc := "()V" } : Jvm.MethodName) "SableCrown") ∈ lw_tbl := lw_at lw_m1 51 rfl
theorem q524 : (Jvm.Cond.fieldLinkNest "SableCrown" (143 : Nat) "SableCrown$Land" "tax" "I" "SableCrown") ∈ lw_tbl := lw_at lw_m2 180 rfl
theorem q528 : (Jvm.Cond.fieldLinkNest "SableCrown" (146 : Nat) "SableCrown$Land" "fox" "I" "SableCrown") ∈ lw_tbl := lw_at lw_m2 184 rfl
theorem q532 : (Jvm.Cond.fieldLinkNest "SableCrown" (149 : Nat) "SableCrown$Land" "limit" "I" "SableCrown") ∈ lw_tbl := lw_at lw_m2 188 rfl
theorem q534 : (Jvm.Cond.fieldLinkNest "SableCrown" (140 : Nat) "SableCrown$Land" "rivers" "I" "SableCrown") ∈ lw_tbl := lw_at lw_m2 190 rfl
theorem q538 : (Jvm.Cond.fieldLinkNest "SableCrown" (58 : Nat) "SableCrown$Land" "forests" "Ljava/util/ArrayList;" "SableCrown") ∈ lw_tbl := lw_at lw_m2 194 rfl
theorem q542 : (Jvm.Cond.fieldLinkNest "SableCrown" (68 : Nat) "SableCrown$Land" "bands" "Ljava/util/ArrayList;" "SableCrown") ∈ lw_tbl := lw_at lw_m2 198 rfl
theorem q545 : (Jvm.Cond.fieldLinkNest "SableCrown" (85 : Nat) "SableCrown$Land" "forts" "Ljava/util/ArrayList;" "SableCrown") ∈ lw_tbl := lw_at lw_m2 201 rfl
theorem q577 : (Jvm.Cond.classLink "SableCrown" (16 : Nat) "SableCrown$Book") ∈ lw_all := lw_g (lw_at lw_m2 233 rfl) rfl
theorem q579 : (Jvm.Cond.methodLink "SableCrown" (18 : Nat) ({ cls := "SableCrown$Book", name := "<init>", desc := "()V" } : Jvm.MethodName)) ∈ lw_all := lw_g (lw_at lw_m2 235 rfl) rfl
theorem q590 : (Jvm.Cond.fieldLinkNest "SableCrown" (176 : Nat) "SableCrown$State" "sables" "[I" "SableCrown") ∈ lw_tbl := lw_at lw_m3 6 rfl
theorem q592 : (Jvm.Cond.fieldLinkNest "SableCrown" (179 : Nat) "SableCrown$State" "black" "[I" "SableCrown") ∈ lw_tbl := lw_at lw_m3 8 rfl
theorem q594 : (Jvm.Cond.fieldLinkNest "SableCrown" (188 : Nat) "SableCrown$State" "rest" "[I" "SableCrown") ∈ lw_tbl := lw_at lw_m3 10 rfl
theorem q596 : (Jvm.Cond.fieldLinkNest "SableCrown" (200 : Nat) "SableCrown$State" "bows" "[I" "SableCrown") ∈ lw_tbl := lw_at lw_m3 12 rfl
theorem q598 : (Jvm.Cond.fieldLinkNest "SableCrown" (165 : Nat) "SableCrown$State" "at" "[I" "SableCrown") ∈ lw_tbl := lw_at lw_m3 14 rfl
theorem q600 : (Jvm.Cond.fieldLinkNest "SableCrown" (203 : Nat) "SableCrown$State" "seen" "[I" "SableCrown") ∈ lw_tbl := lw_at lw_m3 16 rfl
theorem q602 : (Jvm.Cond.fieldLinkNest "SableCrown" (206 : Nat) "SableCrown$State" "store" "[I" "SableCrown") ∈ lw_tbl := lw_at lw_m3 18 rfl
theorem q604 : (Jvm.Cond.fieldLinkNest "SableCrown" (209 : Nat) "SableCrown$State" "owes" "[I" "SableCrown") ∈ lw_tbl := lw_at lw_m3 20 rfl
theorem q606 : (Jvm.Cond.fieldLinkNest "SableCrown" (212 : Nat) "SableCrown$State" "dead" "[I" "SableCrown") ∈ lw_tbl := lw_at lw_m3 22 rfl
theorem q608 : (Jvm.Cond.fieldLinkNest "SableCrown" (152 : Nat) "SableCrown$State" "year" "I" "SableCrown") ∈ lw_tbl := lw_at lw_m3 24 rfl
theorem q610 : (Jvm.Cond.fieldLinkNest "SableCrown" (159 : Nat) "SableCrown$State" "paid" "I" "SableCrown") ∈ lw_tbl := lw_at lw_m3 26 rfl
theorem q612 : (Jvm.Cond.fieldLinkNest "SableCrown" (162 : Nat) "SableCrown$State" "foxes" "I" "SableCrown") ∈ lw_tbl := lw_at lw_m3 28 rfl
theorem q614 : (Jvm.Cond.fieldLinkNest "SableCrown" (251 : Nat) "SableCrown$State" "lastBlack" "I" "SableCrown") ∈ lw_tbl := lw_at lw_m3 30 rfl
theorem q669 : (Jvm.Cond.selects "SableCrown" ({ cls := "java/lang/Object", name := "getClass", desc := "()Ljava/lang/Class;" } : Jvm.MethodName) ({ cls := "java/lang/Object", name := "getClass", desc := "()Ljava/lang/Class;" } : Jvm.MethodName)) ∈ lw_all := lw_g (lw_at lw_m3 85 rfl) rfl
theorem q699 : (Jvm.Cond.fieldLinkNest "SableCrown" (26 : Nat) "SableCrown$Book" "now" "LSableCrown$State;" "SableCrown") ∈ lw_tbl := lw_at lw_m3 115 rfl
theorem q701 : (Jvm.Cond.fieldLinkNest "SableCrown" (238 : Nat) "SableCrown$Book" "ahead" "Ljava/util/ArrayList;" "SableCrown") ∈ lw_tbl := lw_at lw_m3 117 rfl
theorem q703 : (Jvm.Cond.fieldLinkNest "SableCrown" (284 : Nat) "SableCrown$Book" "band" "[I" "SableCrown") ∈ lw_tbl := lw_at lw_m3 119 rfl
theorem q705 : (Jvm.Cond.fieldLinkNest "SableCrown" (287 : Nat) "SableCrown$Book" "when" "[I" "SableCrown") ∈ lw_tbl := lw_at lw_m3 121 rfl
theorem q707 : (Jvm.Cond.fieldLinkNest "SableCrown" (290 : Nat) "SableCrown$Book" "much" "[I" "SableCrown") ∈ lw_tbl := lw_at lw_m3 123 rfl
theorem q709 : (Jvm.Cond.fieldLinkNest "SableCrown" (116 : Nat) "SableCrown$Book" "refused" "[I" "SableCrown") ∈ lw_tbl := lw_at lw_m3 125 rfl
theorem q711 : (Jvm.Cond.fieldLinkNest "SableCrown" (126 : Nat) "SableCrown$Book" "acts" "I" "SableCrown") ∈ lw_tbl := lw_at lw_m3 127 rfl
theorem q713 : (Jvm.Cond.fieldLinkNest "SableCrown" (129 : Nat) "SableCrown$Book" "many" "I" "SableCrown") ∈ lw_tbl := lw_at lw_m3 129 rfl
theorem q731 : (Jvm.Cond.classLink "SableCrown" (31 : Nat) "SableCrown$State") ∈ lw_all := lw_g (lw_at lw_m3 147 rfl) rfl
theorem q732 : (Jvm.Cond.methodLinkNest "SableCrown" (33 : Nat) ({ cls := "SableCrown$State", name := "<init>", desc := "()V" } : Jvm.MethodName) "SableCrown") ∈ lw_tbl := lw_at lw_m3 148 rfl
theorem q733 : (Jvm.Cond.fieldLink "SableCrown" (10 : Nat) "SableCrown" "land" "LSableCrown$Land;") ∈ lw_all := lw_g (lw_at lw_m3 149 rfl) rfl
theorem q734 : (Jvm.Cond.fieldLink "SableCrown" (19 : Nat) "SableCrown" "book" "LSableCrown$Book;") ∈ lw_all := lw_g (lw_at lw_m3 150 rfl) rfl
theorem q735 : (Jvm.Cond.fieldLink "SableCrown" (23 : Nat) "SableCrown" "image" "LSableCrown$Book;") ∈ lw_all := lw_g (lw_at lw_m3 151 rfl) rfl
theorem q736 : (Jvm.Cond.fieldLink "SableCrown" (30 : Nat) "SableCrown" "now" "LSableCrown$State;") ∈ lw_all := lw_g (lw_at lw_m3 152 rfl) rfl
theorem q737 : (Jvm.Cond.fieldLink "SableCrown" (34 : Nat) "SableCrown" "tried" "LSableCrown$State;") ∈ lw_all := lw_g (lw_at lw_m3 153 rfl) rfl
theorem q738 : (Jvm.Cond.fieldLink "SableCrown" (132 : Nat) "SableCrown" "hasImage" "Z") ∈ lw_all := lw_g (lw_at lw_m3 154 rfl) rfl
theorem q739 : (Jvm.Cond.fieldLink "SableCrown" (37 : Nat) "SableCrown" "tape" "[B") ∈ lw_all := lw_g (lw_at lw_m3 155 rfl) rfl
theorem q740 : (Jvm.Cond.fieldLink "SableCrown" (93 : Nat) "SableCrown" "taped" "I") ∈ lw_all := lw_g (lw_at lw_m3 156 rfl) rfl
theorem q741 : (Jvm.Cond.fieldLink "SableCrown" (41 : Nat) "SableCrown" "faultPlace" "I") ∈ lw_all := lw_g (lw_at lw_m3 157 rfl) rfl
theorem q742 : (Jvm.Cond.fieldLink "SableCrown" (45 : Nat) "SableCrown" "walked" "[I") ∈ lw_all := lw_g (lw_at lw_m3 158 rfl) rfl
theorem q743 : (Jvm.Cond.fieldLink "SableCrown" (49 : Nat) "SableCrown" "stores" "[I") ∈ lw_all := lw_g (lw_at lw_m3 159 rfl) rfl
theorem q744 : (Jvm.Cond.fieldLink "SableCrown" (316 : Nat) "SableCrown" "its" "I") ∈ lw_all := lw_g (lw_at lw_m3 160 rfl) rfl
theorem q745 : (Jvm.Cond.lays "SableCrown" "SableCrown" "land" "LSableCrown$Land;") ∈ lw_all := lw_g (lw_at lw_m3 161 rfl) rfl
theorem q746 : (Jvm.Cond.soleField "SableCrown" "land") ∈ lw_all := lw_g (lw_at lw_m3 162 rfl) rfl
theorem q747 : (Jvm.Cond.laysFinal "SableCrown" "SableCrown" "book" "LSableCrown$Book;") ∈ lw_all := lw_g (lw_at lw_m3 163 rfl) rfl
theorem q748 : (Jvm.Cond.soleField "SableCrown" "book") ∈ lw_all := lw_g (lw_at lw_m3 164 rfl) rfl
theorem q749 : (Jvm.Cond.laysFinal "SableCrown" "SableCrown" "image" "LSableCrown$Book;") ∈ lw_all := lw_g (lw_at lw_m3 165 rfl) rfl
theorem q750 : (Jvm.Cond.soleField "SableCrown" "image") ∈ lw_all := lw_g (lw_at lw_m3 166 rfl) rfl
theorem q751 : (Jvm.Cond.laysFinal "SableCrown" "SableCrown" "now" "LSableCrown$State;") ∈ lw_all := lw_g (lw_at lw_m3 167 rfl) rfl
theorem q752 : (Jvm.Cond.soleField "SableCrown" "now") ∈ lw_all := lw_g (lw_at lw_m3 168 rfl) rfl
theorem q753 : (Jvm.Cond.laysFinal "SableCrown" "SableCrown" "tried" "LSableCrown$State;") ∈ lw_all := lw_g (lw_at lw_m3 169 rfl) rfl
theorem q754 : (Jvm.Cond.soleField "SableCrown" "tried") ∈ lw_all := lw_g (lw_at lw_m3 170 rfl) rfl
theorem q755 : (Jvm.Cond.lays "SableCrown" "SableCrown" "hasImage" "Z") ∈ lw_all := lw_g (lw_at lw_m3 171 rfl) rfl
theorem q756 : (Jvm.Cond.soleField "SableCrown" "hasImage") ∈ lw_all := lw_g (lw_at lw_m3 172 rfl) rfl
theorem q757 : (Jvm.Cond.laysFinal "SableCrown" "SableCrown" "tape" "[B") ∈ lw_all := lw_g (lw_at lw_m3 173 rfl) rfl
theorem q758 : (Jvm.Cond.soleField "SableCrown" "tape") ∈ lw_all := lw_g (lw_at lw_m3 174 rfl) rfl
theorem q759 : (Jvm.Cond.lays "SableCrown" "SableCrown" "taped" "I") ∈ lw_all := lw_g (lw_at lw_m3 175 rfl) rfl
theorem q760 : (Jvm.Cond.soleField "SableCrown" "taped") ∈ lw_all := lw_g (lw_at lw_m3 176 rfl) rfl
theorem q761 : (Jvm.Cond.lays "SableCrown" "SableCrown" "faultPlace" "I") ∈ lw_all := lw_g (lw_at lw_m3 177 rfl) rfl
theorem q762 : (Jvm.Cond.soleField "SableCrown" "faultPlace") ∈ lw_all := lw_g (lw_at lw_m3 178 rfl) rfl
theorem q763 : (Jvm.Cond.laysFinal "SableCrown" "SableCrown" "walked" "[I") ∈ lw_all := lw_g (lw_at lw_m3 179 rfl) rfl
theorem q764 : (Jvm.Cond.soleField "SableCrown" "walked") ∈ lw_all := lw_g (lw_at lw_m3 180 rfl) rfl
theorem q765 : (Jvm.Cond.laysFinal "SableCrown" "SableCrown" "stores" "[I") ∈ lw_all := lw_g (lw_at lw_m3 181 rfl) rfl
theorem q766 : (Jvm.Cond.soleField "SableCrown" "stores") ∈ lw_all := lw_g (lw_at lw_m3 182 rfl) rfl
theorem q767 : (Jvm.Cond.lays "SableCrown" "SableCrown" "its" "I") ∈ lw_all := lw_g (lw_at lw_m3 183 rfl) rfl
theorem q768 : (Jvm.Cond.soleField "SableCrown" "its") ∈ lw_all := lw_g (lw_at lw_m3 184 rfl) rfl
theorem q769 : (Jvm.Cond.superclass "SableCrown" "java/lang/Object") ∈ lw_all := lw_g (lw_at lw_m3 185 rfl) rfl
theorem q771 : (Jvm.Cond.instanceMethod ({ cls := "SableCrown", name := "feed", desc := "(IIIII)I" } : Jvm.MethodName)) ∈ lw_all := lw_g (lw_at lw_m3 187 rfl) rfl
theorem q772 : (Jvm.Cond.selects "SableCrown" ({ cls := "SableCrown", name := "feed", desc := "(IIIII)I" } : Jvm.MethodName) ({ cls := "SableCrown", name := "feed", desc := "(IIIII)I" } : Jvm.MethodName)) ∈ lw_all := lw_g (lw_at lw_m3 188 rfl) rfl
theorem q773 : (Jvm.Cond.code ({ cls := "SableCrown", name := "feed", desc := "(IIIII)I" } : Jvm.MethodName) prog_1_method_10_code (6 : Nat) (Option.some Jvm.ClassFile.FieldType.int)) ∈ lw_all := lw_g (lw_at lw_m3 189 rfl) rfl
theorem q774 : (Jvm.Cond.methodLink "SableCrown" (96 : Nat) ({ cls := "SableCrown", name := "lay", desc := "(I)V" } : Jvm.MethodName)) ∈ lw_all := lw_g (lw_at lw_m3 190 rfl) rfl
theorem q775 : (Jvm.Cond.privateMethod ({ cls := "SableCrown", name := "lay", desc := "(I)V" } : Jvm.MethodName)) ∈ lw_tbl := lw_at lw_m3 191 rfl
theorem q776 : (Jvm.Cond.instanceMethod ({ cls := "SableCrown", name := "lay", desc := "(I)V" } : Jvm.MethodName)) ∈ lw_all := lw_g (lw_at lw_m3 192 rfl) rfl
theorem q777 : (Jvm.Cond.code ({ cls := "SableCrown", name := "lay", desc := "(I)V" } : Jvm.MethodName) prog_1_method_11_code (3 : Nat) (Option.none : Option Jvm.ClassFile.FieldType)) ∈ lw_all := lw_g (lw_at lw_m3 193 rfl) rfl
theorem q779 : (Jvm.Cond.instanceMethod ({ cls := "SableCrown", name := "fault", desc := "()I" } : Jvm.MethodName)) ∈ lw_all := lw_g (lw_at lw_m3 195 rfl) rfl
theorem q780 : (Jvm.Cond.selects "SableCrown" ({ cls := "SableCrown", name := "fault", desc := "()I" } : Jvm.MethodName) ({ cls := "SableCrown", name := "fault", desc := "()I" } : Jvm.MethodName)) ∈ lw_all := lw_g (lw_at lw_m3 196 rfl) rfl
theorem q781 : (Jvm.Cond.code ({ cls := "SableCrown", name := "fault", desc := "()I" } : Jvm.MethodName) prog_1_method_13_code (1 : Nat) (Option.some Jvm.ClassFile.FieldType.int)) ∈ lw_all := lw_g (lw_at lw_m3 197 rfl) rfl
theorem q783 : (Jvm.Cond.instanceMethod ({ cls := "SableCrown", name := "years", desc := "(I)I" } : Jvm.MethodName)) ∈ lw_all := lw_g (lw_at lw_m3 199 rfl) rfl
theorem q784 : (Jvm.Cond.selects "SableCrown" ({ cls := "SableCrown", name := "years", desc := "(I)I" } : Jvm.MethodName) ({ cls := "SableCrown", name := "years", desc := "(I)I" } : Jvm.MethodName)) ∈ lw_all := lw_g (lw_at lw_m3 200 rfl) rfl
theorem q785 : (Jvm.Cond.code ({ cls := "SableCrown", name := "years", desc := "(I)I" } : Jvm.MethodName) prog_1_method_21_code (3 : Nat) (Option.some Jvm.ClassFile.FieldType.int)) ∈ lw_all := lw_g (lw_at lw_m3 201 rfl) rfl
theorem q786 : (Jvm.Cond.methodLink "SableCrown" (136 : Nat) ({ cls := "SableCrown", name := "within", desc := "(III)Z" } : Jvm.MethodName)) ∈ lw_all := lw_g (lw_at lw_m3 202 rfl) rfl
theorem q787 : (Jvm.Cond.static ({ cls := "SableCrown", name := "within", desc := "(III)Z" } : Jvm.MethodName)) ∈ lw_all := lw_g (lw_at lw_m3 203 rfl) rfl
theorem q788 : (Jvm.Cond.code ({ cls := "SableCrown", name := "within", desc := "(III)Z" } : Jvm.MethodName) prog_1_method_4_code (3 : Nat) (Option.some Jvm.ClassFile.FieldType.boolean)) ∈ lw_all := lw_g (lw_at lw_m3 204 rfl) rfl
theorem q789 : (Jvm.Cond.methodLink "SableCrown" (225 : Nat) ({ cls := "SableCrown", name := "does", desc := "(Z)Z" } : Jvm.MethodName)) ∈ lw_all := lw_g (lw_at lw_m3 205 rfl) rfl
theorem q790 : (Jvm.Cond.privateMethod ({ cls := "SableCrown", name := "does", desc := "(Z)Z" } : Jvm.MethodName)) ∈ lw_tbl := lw_at lw_m3 206 rfl
theorem q791 : (Jvm.Cond.instanceMethod ({ cls := "SableCrown", name := "does", desc := "(Z)Z" } : Jvm.MethodName)) ∈ lw_all := lw_g (lw_at lw_m3 207 rfl) rfl
theorem q792 : (Jvm.Cond.code ({ cls := "SableCrown", name := "does", desc := "(Z)Z" } : Jvm.MethodName) prog_1_method_20_code (2 : Nat) (Option.some Jvm.ClassFile.FieldType.boolean)) ∈ lw_all := lw_g (lw_at lw_m3 208 rfl) rfl
theorem q793 : (Jvm.Cond.methodLink "SableCrown" (219 : Nat) ({ cls := "SableCrown$Book", name := "keeps", desc := "()V" } : Jvm.MethodName)) ∈ lw_all := lw_g (lw_at lw_m3 209 rfl) rfl
theorem q825 : (Jvm.Cond.methodLink "SableCrown" (222 : Nat) ({ cls := "SableCrown", name := "refuses", desc := "(I)I" } : Jvm.MethodName)) ∈ lw_all := lw_g (lw_at lw_m4 1 rfl) rfl
theorem q826 : (Jvm.Cond.privateMethod ({ cls := "SableCrown", name := "refuses", desc := "(I)I" } : Jvm.MethodName)) ∈ lw_tbl := lw_at lw_m4 2 rfl
theorem q827 : (Jvm.Cond.instanceMethod ({ cls := "SableCrown", name := "refuses", desc := "(I)I" } : Jvm.MethodName)) ∈ lw_all := lw_g (lw_at lw_m4 3 rfl) rfl
theorem q828 : (Jvm.Cond.code ({ cls := "SableCrown", name := "refuses", desc := "(I)I" } : Jvm.MethodName) prog_1_method_19_code (2 : Nat) (Option.some Jvm.ClassFile.FieldType.int)) ∈ lw_all := lw_g (lw_at lw_m4 4 rfl) rfl
theorem q829 : (Jvm.Cond.methodLink "SableCrown" (229 : Nat) ({ cls := "SableCrown$State", name := "goes", desc := "(LSableCrown$Land;)V" } : Jvm.MethodName)) ∈ lw_all := lw_g (lw_at lw_m4 5 rfl) rfl
theorem q914 : (Jvm.Cond.instanceMethod ({ cls := "SableCrown", name := "undo", desc := "()I" } : Jvm.MethodName)) ∈ lw_all := lw_g (lw_at lw_m4 90 rfl) rfl
theorem q915 : (Jvm.Cond.selects "SableCrown" ({ cls := "SableCrown", name := "undo", desc := "()I" } : Jvm.MethodName) ({ cls := "SableCrown", name := "undo", desc := "()I" } : Jvm.MethodName)) ∈ lw_all := lw_g (lw_at lw_m4 91 rfl) rfl
theorem q916 : (Jvm.Cond.code ({ cls := "SableCrown", name := "undo", desc := "()I" } : Jvm.MethodName) prog_1_method_27_code (1 : Nat) (Option.some Jvm.ClassFile.FieldType.int)) ∈ lw_all := lw_g (lw_at lw_m4 92 rfl) rfl
theorem q917 : (Jvm.Cond.methodLink "SableCrown" (77 : Nat) ({ cls := "java/util/ArrayList", name := "get", desc := "(I)Ljava/lang/Object;" } : Jvm.MethodName)) ∈ lw_all := lw_g (lw_at lw_m4 93 rfl) rfl
theorem q918 : (Jvm.Cond.methodLink "SableCrown" (241 : Nat) ({ cls := "SableCrown$State", name := "like", desc := "(LSableCrown$State;)V" } : Jvm.MethodName)) ∈ lw_all := lw_g (lw_at lw_m4 94 rfl) rfl
theorem q920 : (Jvm.Cond.instanceMethod ({ cls := "SableCrown", name := "blackest", desc := "()I" } : Jvm.MethodName)) ∈ lw_all := lw_g (lw_at lw_m4 96 rfl) rfl
theorem q921 : (Jvm.Cond.selects "SableCrown" ({ cls := "SableCrown", name := "blackest", desc := "()I" } : Jvm.MethodName) ({ cls := "SableCrown", name := "blackest", desc := "()I" } : Jvm.MethodName)) ∈ lw_all := lw_g (lw_at lw_m4 97 rfl) rfl
theorem q922 : (Jvm.Cond.code ({ cls := "SableCrown", name := "blackest", desc := "()I" } : Jvm.MethodName) prog_1_method_34_code (3 : Nat) (Option.some Jvm.ClassFile.FieldType.int)) ∈ lw_all := lw_g (lw_at lw_m4 98 rfl) rfl
theorem q923 : (Jvm.Cond.methodLink "SableCrown" (71 : Nat) ({ cls := "SableCrown", name := "forests", desc := "()I" } : Jvm.MethodName)) ∈ lw_all := lw_g (lw_at lw_m4 99 rfl) rfl
theorem q924 : (Jvm.Cond.privateMethod ({ cls := "SableCrown", name := "forests", desc := "()I" } : Jvm.MethodName)) ∈ lw_tbl := lw_at lw_m4 100 rfl
theorem q925 : (Jvm.Cond.instanceMethod ({ cls := "SableCrown", name := "forests", desc := "()I" } : Jvm.MethodName)) ∈ lw_all := lw_g (lw_at lw_m4 101 rfl) rfl
theorem q926 : (Jvm.Cond.code ({ cls := "SableCrown", name := "forests", desc := "()I" } : Jvm.MethodName) prog_1_method_5_code (1 : Nat) (Option.some Jvm.ClassFile.FieldType.int)) ∈ lw_all := lw_g (lw_at lw_m4 102 rfl) rfl
theorem q927 : (Jvm.Cond.methodLink "SableCrown" (62 : Nat) ({ cls := "java/util/ArrayList", name := "size", desc := "()I" } : Jvm.MethodName)) ∈ lw_all := lw_g (lw_at lw_m4 103 rfl) rfl
theorem q929 : (Jvm.Cond.instanceMethod ({ cls := "SableCrown", name := "forget", desc := "()V" } : Jvm.MethodName)) ∈ lw_all := lw_g (lw_at lw_m4 105 rfl) rfl
theorem q930 : (Jvm.Cond.selects "SableCrown" ({ cls := "SableCrown", name := "forget", desc := "()V" } : Jvm.MethodName) ({ cls := "SableCrown", name := "forget", desc := "()V" } : Jvm.MethodName)) ∈ lw_all := lw_g (lw_at lw_m4 106 rfl) rfl
theorem q931 : (Jvm.Cond.code ({ cls := "SableCrown", name := "forget", desc := "()V" } : Jvm.MethodName) prog_1_method_56_code (1 : Nat) (Option.none : Option Jvm.ClassFile.FieldType)) ∈ lw_all := lw_g (lw_at lw_m4 107 rfl) rfl
theorem q933 : (Jvm.Cond.instanceMethod ({ cls := "SableCrown", name := "image", desc := "()V" } : Jvm.MethodName)) ∈ lw_all := lw_g (lw_at lw_m4 109 rfl) rfl
theorem q934 : (Jvm.Cond.selects "SableCrown" ({ cls := "SableCrown", name := "image", desc := "()V" } : Jvm.MethodName) ({ cls := "SableCrown", name := "image", desc := "()V" } : Jvm.MethodName)) ∈ lw_all := lw_g (lw_at lw_m4 110 rfl) rfl
theorem q935 : (Jvm.Cond.code ({ cls := "SableCrown", name := "image", desc := "()V" } : Jvm.MethodName) prog_1_method_62_code (1 : Nat) (Option.none : Option Jvm.ClassFile.FieldType)) ∈ lw_all := lw_g (lw_at lw_m4 111 rfl) rfl
theorem q936 : (Jvm.Cond.methodLink "SableCrown" (326 : Nat) ({ cls := "SableCrown$Book", name := "like", desc := "(LSableCrown$Book;)V" } : Jvm.MethodName)) ∈ lw_all := lw_g (lw_at lw_m4 112 rfl) rfl
theorem q942 : (Jvm.Cond.instanceMethod ({ cls := "SableCrown", name := "restore", desc := "()Z" } : Jvm.MethodName)) ∈ lw_all := lw_g (lw_at lw_m4 118 rfl) rfl
theorem q943 : (Jvm.Cond.selects "SableCrown" ({ cls := "SableCrown", name := "restore", desc := "()Z" } : Jvm.MethodName) ({ cls := "SableCrown", name := "restore", desc := "()Z" } : Jvm.MethodName)) ∈ lw_all := lw_g (lw_at lw_m4 119 rfl) rfl
theorem q944 : (Jvm.Cond.code ({ cls := "SableCrown", name := "restore", desc := "()Z" } : Jvm.MethodName) prog_1_method_63_code (1 : Nat) (Option.some Jvm.ClassFile.FieldType.boolean)) ∈ lw_all := lw_g (lw_at lw_m4 120 rfl) rfl
theorem q950 : (Jvm.Cond.instanceMethod ({ cls := "SableCrown", name := "land", desc := "(I)I" } : Jvm.MethodName)) ∈ lw_all := lw_g (lw_at lw_m4 126 rfl) rfl
theorem q951 : (Jvm.Cond.selects "SableCrown" ({ cls := "SableCrown", name := "land", desc := "(I)I" } : Jvm.MethodName) ({ cls := "SableCrown", name := "land", desc := "(I)I" } : Jvm.MethodName)) ∈ lw_all := lw_g (lw_at lw_m4 127 rfl) rfl
theorem q952 : (Jvm.Cond.codeWith ({ cls := "SableCrown", name := "land", desc := "(I)I" } : Jvm.MethodName) prog_1_method_12_code (3 : Nat) (Option.some Jvm.ClassFile.FieldType.int) [((30 : Nat), (49 : Nat), (52 : Nat), (111 : Nat))]) ∈ lw_all := lw_g (lw_at lw_m4 128 rfl) rfl
theorem q953 : (Jvm.Cond.classLink "SableCrown" (111 : Nat) "SableCrown$Fault") ∈ lw_all := lw_g (lw_at lw_m4 129 rfl) rfl
theorem q954 : (Jvm.Cond.methodLink "SableCrown" (100 : Nat) ({ cls := "SableCrown", name := "right", desc := "(Z)V" } : Jvm.MethodName)) ∈ lw_all := lw_g (lw_at lw_m4 130 rfl) rfl
theorem q955 : (Jvm.Cond.static ({ cls := "SableCrown", name := "right", desc := "(Z)V" } : Jvm.MethodName)) ∈ lw_all := lw_g (lw_at lw_m4 131 rfl) rfl
theorem q956 : (Jvm.Cond.code ({ cls := "SableCrown", name := "right", desc := "(Z)V" } : Jvm.MethodName) prog_1_method_2_code (1 : Nat) (Option.none : Option Jvm.ClassFile.FieldType)) ∈ lw_all := lw_g (lw_at lw_m4 132 rfl) rfl
theorem q957 : (Jvm.Cond.classLink "SableCrown" (52 : Nat) "java/lang/IllegalArgumentException") ∈ lw_all := lw_g (lw_at lw_m4 133 rfl) rfl
theorem q958 : (Jvm.Cond.methodLink "SableCrown" (54 : Nat) ({ cls := "java/lang/IllegalArgumentException", name := "<init>", desc := "()V" } : Jvm.MethodName)) ∈ lw_all := lw_g (lw_at lw_m4 134 rfl) rfl
theorem q968 : (Jvm.Cond.classLink "SableCrown" (103 : Nat) "SableCrown$Reader") ∈ lw_all := lw_g (lw_at lw_m4 144 rfl) rfl
theorem q970 : (Jvm.Cond.methodLink "SableCrown" (105 : Nat) ({ cls := "SableCrown$Reader", name := "<init>", desc := "([BI)V" } : Jvm.MethodName)) ∈ lw_all := lw_g (lw_at lw_m4 146 rfl) rfl
theorem q1071 : (Jvm.Cond.methodLink "SableCrown" (108 : Nat) ({ cls := "SableCrown$Reader", name := "land", desc := "()LSableCrown$Land;" } : Jvm.MethodName)) ∈ lw_all := lw_g (lw_at lw_m5 7 rfl) rfl
theorem q1108 : (Jvm.Cond.fieldLinkNest "SableCrown" (119 : Nat) "SableCrown$Fault" "kind" "I" "SableCrown") ∈ lw_tbl := lw_at lw_m5 44 rfl
theorem q1110 : (Jvm.Cond.fieldLinkNest "SableCrown" (113 : Nat) "SableCrown$Fault" "place" "I" "SableCrown") ∈ lw_tbl := lw_at lw_m5 46 rfl
theorem q1132 : (Jvm.Cond.fieldLinkNest "SableCrown" (182 : Nat) "SableCrown$Forest" "room" "I" "SableCrown") ∈ lw_tbl := lw_at lw_m5 68 rfl
theorem q1134 : (Jvm.Cond.fieldLinkNest "SableCrown" (185 : Nat) "SableCrown$Forest" "grows" "I" "SableCrown") ∈ lw_tbl := lw_at lw_m5 70 rfl
theorem q1354 : (Jvm.Cond.methodLink "SableCrown" (122 : Nat) ({ cls := "SableCrown$State", name := "begins", desc := "(LSableCrown$Land;)V" } : Jvm.MethodName)) ∈ lw_all := lw_g (lw_at lw_m6 50 rfl) rfl
theorem q1364 : (Jvm.Cond.instanceMethod ({ cls := "SableCrown", name := "count", desc := "(I)I" } : Jvm.MethodName)) ∈ lw_all := lw_g (lw_at lw_m6 60 rfl) rfl
theorem q1365 : (Jvm.Cond.selects "SableCrown" ({ cls := "SableCrown", name := "count", desc := "(I)I" } : Jvm.MethodName) ({ cls := "SableCrown", name := "count", desc := "(I)I" } : Jvm.MethodName)) ∈ lw_all := lw_g (lw_at lw_m6 61 rfl) rfl
theorem q1366 : (Jvm.Cond.code ({ cls := "SableCrown", name := "count", desc := "(I)I" } : Jvm.MethodName) prog_1_method_14_code (2 : Nat) (Option.some Jvm.ClassFile.FieldType.int)) ∈ lw_all := lw_g (lw_at lw_m6 62 rfl) rfl
theorem q1367 : (Jvm.Cond.methodLink "SableCrown" (73 : Nat) ({ cls := "SableCrown", name := "there", desc := "(Z)V" } : Jvm.MethodName)) ∈ lw_all := lw_g (lw_at lw_m6 63 rfl) rfl
theorem q1368 : (Jvm.Cond.static ({ cls := "SableCrown", name := "there", desc := "(Z)V" } : Jvm.MethodName)) ∈ lw_all := lw_g (lw_at lw_m6 64 rfl) rfl
theorem q1369 : (Jvm.Cond.code ({ cls := "SableCrown", name := "there", desc := "(Z)V" } : Jvm.MethodName) prog_1_method_3_code (1 : Nat) (Option.none : Option Jvm.ClassFile.FieldType)) ∈ lw_all := lw_g (lw_at lw_m6 65 rfl) rfl
theorem q1370 : (Jvm.Cond.classLink "SableCrown" (55 : Nat) "java/util/NoSuchElementException") ∈ lw_all := lw_g (lw_at lw_m6 66 rfl) rfl
theorem q1379 : (Jvm.Cond.methodLink "SableCrown" (57 : Nat) ({ cls := "java/util/NoSuchElementException", name := "<init>", desc := "()V" } : Jvm.MethodName)) ∈ lw_all := lw_g (lw_at lw_m6 75 rfl) rfl
theorem q1385 : (Jvm.Cond.methodLink "SableCrown" (83 : Nat) ({ cls := "SableCrown", name := "bands", desc := "()I" } : Jvm.MethodName)) ∈ lw_all := lw_g (lw_at lw_m6 81 rfl) rfl
theorem q1386 : (Jvm.Cond.privateMethod ({ cls := "SableCrown", name := "bands", desc := "()I" } : Jvm.MethodName)) ∈ lw_tbl := lw_at lw_m6 82 rfl
theorem q1387 : (Jvm.Cond.instanceMethod ({ cls := "SableCrown", name := "bands", desc := "()I" } : Jvm.MethodName)) ∈ lw_all := lw_g (lw_at lw_m6 83 rfl) rfl
theorem q1388 : (Jvm.Cond.code ({ cls := "SableCrown", name := "bands", desc := "()I" } : Jvm.MethodName) prog_1_method_6_code (1 : Nat) (Option.some Jvm.ClassFile.FieldType.int)) ∈ lw_all := lw_g (lw_at lw_m6 84 rfl) rfl
theorem q1389 : (Jvm.Cond.methodLink "SableCrown" (155 : Nat) ({ cls := "SableCrown$State", name := "all", desc := "(I)I" } : Jvm.MethodName)) ∈ lw_all := lw_g (lw_at lw_m6 85 rfl) rfl
theorem q1397 : (Jvm.Cond.instanceMethod ({ cls := "SableCrown", name := "forest", desc := "(II)I" } : Jvm.MethodName)) ∈ lw_all := lw_g (lw_at lw_m6 93 rfl) rfl
theorem q1398 : (Jvm.Cond.selects "SableCrown" ({ cls := "SableCrown", name := "forest", desc := "(II)I" } : Jvm.MethodName) ({ cls := "SableCrown", name := "forest", desc := "(II)I" } : Jvm.MethodName)) ∈ lw_all := lw_g (lw_at lw_m6 94 rfl) rfl
theorem q1399 : (Jvm.Cond.code ({ cls := "SableCrown", name := "forest", desc := "(II)I" } : Jvm.MethodName) prog_1_method_17_code (4 : Nat) (Option.some Jvm.ClassFile.FieldType.int)) ∈ lw_all := lw_g (lw_at lw_m6 95 rfl) rfl
theorem q1400 : (Jvm.Cond.methodLink "SableCrown" (172 : Nat) ({ cls := "SableCrown", name := "forestAt", desc := "(I)LSableCrown$Forest;" } : Jvm.MethodName)) ∈ lw_all := lw_g (lw_at lw_m6 96 rfl) rfl
theorem q1401 : (Jvm.Cond.privateMethod ({ cls := "SableCrown", name := "forestAt", desc := "(I)LSableCrown$Forest;" } : Jvm.MethodName)) ∈ lw_tbl := lw_at lw_m6 97 rfl
theorem q1402 : (Jvm.Cond.instanceMethod ({ cls := "SableCrown", name := "forestAt", desc := "(I)LSableCrown$Forest;" } : Jvm.MethodName)) ∈ lw_all := lw_g (lw_at lw_m6 98 rfl) rfl
theorem q1403 : (Jvm.Cond.code ({ cls := "SableCrown", name := "forestAt", desc := "(I)LSableCrown$Forest;" } : Jvm.MethodName) prog_1_method_7_code (2 : Nat) (Option.some (Jvm.ClassFile.FieldType.object "SableCrown$Forest"))) ∈ lw_all := lw_g (lw_at lw_m6 99 rfl) rfl
theorem q1404 : (Jvm.Cond.classLink "SableCrown" (81 : Nat) "SableCrown$Forest") ∈ lw_all := lw_g (lw_at lw_m6 100 rfl) rfl
theorem q1405 : (Jvm.Cond.methodLink "SableCrown" (191 : Nat) ({ cls := "SableCrown", name := "bandsIn", desc := "(I)I" } : Jvm.MethodName)) ∈ lw_all := lw_g (lw_at lw_m6 101 rfl) rfl
theorem q1406 : (Jvm.Cond.privateMethod ({ cls := "SableCrown", name := "bandsIn", desc := "(I)I" } : Jvm.MethodName)) ∈ lw_tbl := lw_at lw_m6 102 rfl
theorem q1407 : (Jvm.Cond.instanceMethod ({ cls := "SableCrown", name := "bandsIn", desc := "(I)I" } : Jvm.MethodName)) ∈ lw_all := lw_g (lw_at lw_m6 103 rfl) rfl
theorem q1408 : (Jvm.Cond.code ({ cls := "SableCrown", name := "bandsIn", desc := "(I)I" } : Jvm.MethodName) prog_1_method_15_code (4 : Nat) (Option.some Jvm.ClassFile.FieldType.int)) ∈ lw_all := lw_g (lw_at lw_m6 104 rfl) rfl
theorem q1409 : (Jvm.Cond.methodLink "SableCrown" (194 : Nat) ({ cls := "SableCrown", name := "riversOf", desc := "(I)I" } : Jvm.MethodName)) ∈ lw_all := lw_g (lw_at lw_m6 105 rfl) rfl
theorem q1410 : (Jvm.Cond.privateMethod ({ cls := "SableCrown", name := "riversOf", desc := "(I)I" } : Jvm.MethodName)) ∈ lw_tbl := lw_at lw_m6 106 rfl
theorem q1411 : (Jvm.Cond.instanceMethod ({ cls := "SableCrown", name := "riversOf", desc := "(I)I" } : Jvm.MethodName)) ∈ lw_all := lw_g (lw_at lw_m6 107 rfl) rfl
theorem q1412 : (Jvm.Cond.code ({ cls := "SableCrown", name := "riversOf", desc := "(I)I" } : Jvm.MethodName) prog_1_method_16_code (4 : Nat) (Option.some Jvm.ClassFile.FieldType.int)) ∈ lw_all := lw_g (lw_at lw_m6 108 rfl) rfl
theorem q1413 : (Jvm.Cond.methodLink "SableCrown" (168 : Nat) ({ cls := "SableCrown$Land", name := "hasRiver", desc := "(II)Z" } : Jvm.MethodName)) ∈ lw_all := lw_g (lw_at lw_m6 109 rfl) rfl
theorem q1418 : (Jvm.Cond.instanceMethod ({ cls := "SableCrown", name := "band", desc := "(II)I" } : Jvm.MethodName)) ∈ lw_all := lw_g (lw_at lw_m6 114 rfl) rfl
theorem q1419 : (Jvm.Cond.selects "SableCrown" ({ cls := "SableCrown", name := "band", desc := "(II)I" } : Jvm.MethodName) ({ cls := "SableCrown", name := "band", desc := "(II)I" } : Jvm.MethodName)) ∈ lw_all := lw_g (lw_at lw_m6 115 rfl) rfl
theorem q1420 : (Jvm.Cond.code ({ cls := "SableCrown", name := "band", desc := "(II)I" } : Jvm.MethodName) prog_1_method_18_code (3 : Nat) (Option.some Jvm.ClassFile.FieldType.int)) ∈ lw_all := lw_g (lw_at lw_m6 116 rfl) rfl
theorem q1421 : (Jvm.Cond.methodLink "SableCrown" (197 : Nat) ({ cls := "SableCrown", name := "bandAt", desc := "(I)V" } : Jvm.MethodName)) ∈ lw_all := lw_g (lw_at lw_m6 117 rfl) rfl
theorem q1422 : (Jvm.Cond.privateMethod ({ cls := "SableCrown", name := "bandAt", desc := "(I)V" } : Jvm.MethodName)) ∈ lw_tbl := lw_at lw_m6 118 rfl
theorem q1423 : (Jvm.Cond.instanceMethod ({ cls := "SableCrown", name := "bandAt", desc := "(I)V" } : Jvm.MethodName)) ∈ lw_all := lw_g (lw_at lw_m6 119 rfl) rfl
theorem q1424 : (Jvm.Cond.code ({ cls := "SableCrown", name := "bandAt", desc := "(I)V" } : Jvm.MethodName) prog_1_method_8_code (2 : Nat) (Option.none : Option Jvm.ClassFile.FieldType)) ∈ lw_all := lw_g (lw_at lw_m6 120 rfl) rfl
theorem q1425 : (Jvm.Cond.methodLink "SableCrown" (215 : Nat) ({ cls := "SableCrown$State", name := "takes", desc := "(LSableCrown$Land;I)I" } : Jvm.MethodName)) ∈ lw_all := lw_g (lw_at lw_m6 121 rfl) rfl
theorem q1430 : (Jvm.Cond.instanceMethod ({ cls := "SableCrown", name := "move", desc := "(II)I" } : Jvm.MethodName)) ∈ lw_all := lw_g (lw_at lw_m6 126 rfl) rfl
theorem q1431 : (Jvm.Cond.selects "SableCrown" ({ cls := "SableCrown", name := "move", desc := "(II)I" } : Jvm.MethodName) ({ cls := "SableCrown", name := "move", desc := "(II)I" } : Jvm.MethodName)) ∈ lw_all := lw_g (lw_at lw_m6 127 rfl) rfl
theorem q1432 : (Jvm.Cond.code ({ cls := "SableCrown", name := "move", desc := "(II)I" } : Jvm.MethodName) prog_1_method_22_code (4 : Nat) (Option.some Jvm.ClassFile.FieldType.int)) ∈ lw_all := lw_g (lw_at lw_m6 128 rfl) rfl
theorem q1437 : (Jvm.Cond.instanceMethod ({ cls := "SableCrown", name := "bows", desc := "(II)I" } : Jvm.MethodName)) ∈ lw_all := lw_g (lw_at lw_m6 133 rfl) rfl
theorem q1438 : (Jvm.Cond.selects "SableCrown" ({ cls := "SableCrown", name := "bows", desc := "(II)I" } : Jvm.MethodName) ({ cls := "SableCrown", name := "bows", desc := "(II)I" } : Jvm.MethodName)) ∈ lw_all := lw_g (lw_at lw_m6 134 rfl) rfl
theorem q1439 : (Jvm.Cond.code ({ cls := "SableCrown", name := "bows", desc := "(II)I" } : Jvm.MethodName) prog_1_method_23_code (4 : Nat) (Option.some Jvm.ClassFile.FieldType.int)) ∈ lw_all := lw_g (lw_at lw_m6 135 rfl) rfl
theorem q1444 : (Jvm.Cond.instanceMethod ({ cls := "SableCrown", name := "rest", desc := "(II)I" } : Jvm.MethodName)) ∈ lw_all := lw_g (lw_at lw_m6 140 rfl) rfl
theorem q1445 : (Jvm.Cond.selects "SableCrown" ({ cls := "SableCrown", name := "rest", desc := "(II)I" } : Jvm.MethodName) ({ cls := "SableCrown", name := "rest", desc := "(II)I" } : Jvm.MethodName)) ∈ lw_all := lw_g (lw_at lw_m6 141 rfl) rfl
theorem q1446 : (Jvm.Cond.code ({ cls := "SableCrown", name := "rest", desc := "(II)I" } : Jvm.MethodName) prog_1_method_24_code (4 : Nat) (Option.some Jvm.ClassFile.FieldType.int)) ∈ lw_all := lw_g (lw_at lw_m6 142 rfl) rfl
theorem q1451 : (Jvm.Cond.instanceMethod ({ cls := "SableCrown", name := "dye", desc := "(II)I" } : Jvm.MethodName)) ∈ lw_all := lw_g (lw_at lw_m6 147 rfl) rfl
theorem q1452 : (Jvm.Cond.selects "SableCrown" ({ cls := "SableCrown", name := "dye", desc := "(II)I" } : Jvm.MethodName) ({ cls := "SableCrown", name := "dye", desc := "(II)I" } : Jvm.MethodName)) ∈ lw_all := lw_g (lw_at lw_m6 148 rfl) rfl
theorem q1453 : (Jvm.Cond.code ({ cls := "SableCrown", name := "dye", desc := "(II)I" } : Jvm.MethodName) prog_1_method_25_code (3 : Nat) (Option.some Jvm.ClassFile.FieldType.int)) ∈ lw_all := lw_g (lw_at lw_m6 149 rfl) rfl
theorem q1454 : (Jvm.Cond.methodLink "SableCrown" (232 : Nat) ({ cls := "java/lang/Math", name := "min", desc := "(II)I" } : Jvm.MethodName)) ∈ lw_all := lw_g (lw_at lw_m6 150 rfl) rfl
theorem q1459 : (Jvm.Cond.instanceMethod ({ cls := "SableCrown", name := "forgive", desc := "(I)I" } : Jvm.MethodName)) ∈ lw_all := lw_g (lw_at lw_m6 155 rfl) rfl
theorem q1460 : (Jvm.Cond.selects "SableCrown" ({ cls := "SableCrown", name := "forgive", desc := "(I)I" } : Jvm.MethodName) ({ cls := "SableCrown", name := "forgive", desc := "(I)I" } : Jvm.MethodName)) ∈ lw_all := lw_g (lw_at lw_m6 156 rfl) rfl
theorem q1461 : (Jvm.Cond.code ({ cls := "SableCrown", name := "forgive", desc := "(I)I" } : Jvm.MethodName) prog_1_method_26_code (3 : Nat) (Option.some Jvm.ClassFile.FieldType.int)) ∈ lw_all := lw_g (lw_at lw_m6 157 rfl) rfl
theorem q1466 : (Jvm.Cond.instanceMethod ({ cls := "SableCrown", name := "then", desc := "(II)I" } : Jvm.MethodName)) ∈ lw_all := lw_g (lw_at lw_m6 162 rfl) rfl
theorem q1467 : (Jvm.Cond.selects "SableCrown" ({ cls := "SableCrown", name := "then", desc := "(II)I" } : Jvm.MethodName) ({ cls := "SableCrown", name := "then", desc := "(II)I" } : Jvm.MethodName)) ∈ lw_all := lw_g (lw_at lw_m6 163 rfl) rfl
theorem q1468 : (Jvm.Cond.code ({ cls := "SableCrown", name := "then", desc := "(II)I" } : Jvm.MethodName) prog_1_method_29_code (3 : Nat) (Option.some Jvm.ClassFile.FieldType.int)) ∈ lw_all := lw_g (lw_at lw_m6 164 rfl) rfl
theorem q1469 : (Jvm.Cond.methodLink "SableCrown" (245 : Nat) ({ cls := "SableCrown", name := "goesBy", desc := "(I)V" } : Jvm.MethodName)) ∈ lw_all := lw_g (lw_at lw_m6 165 rfl) rfl
theorem q1470 : (Jvm.Cond.privateMethod ({ cls := "SableCrown", name := "goesBy", desc := "(I)V" } : Jvm.MethodName)) ∈ lw_tbl := lw_at lw_m6 166 rfl
theorem q1471 : (Jvm.Cond.instanceMethod ({ cls := "SableCrown", name := "goesBy", desc := "(I)V" } : Jvm.MethodName)) ∈ lw_all := lw_g (lw_at lw_m6 167 rfl) rfl
theorem q1472 : (Jvm.Cond.code ({ cls := "SableCrown", name := "goesBy", desc := "(I)V" } : Jvm.MethodName) prog_1_method_28_code (3 : Nat) (Option.none : Option Jvm.ClassFile.FieldType)) ∈ lw_all := lw_g (lw_at lw_m6 168 rfl) rfl
theorem q1477 : (Jvm.Cond.instanceMethod ({ cls := "SableCrown", name := "empty", desc := "(I)I" } : Jvm.MethodName)) ∈ lw_all := lw_g (lw_at lw_m6 173 rfl) rfl
theorem q1478 : (Jvm.Cond.selects "SableCrown" ({ cls := "SableCrown", name := "empty", desc := "(I)I" } : Jvm.MethodName) ({ cls := "SableCrown", name := "empty", desc := "(I)I" } : Jvm.MethodName)) ∈ lw_all := lw_g (lw_at lw_m6 174 rfl) rfl
theorem q1479 : (Jvm.Cond.code ({ cls := "SableCrown", name := "empty", desc := "(I)I" } : Jvm.MethodName) prog_1_method_30_code (3 : Nat) (Option.some Jvm.ClassFile.FieldType.int)) ∈ lw_all := lw_g (lw_at lw_m6 175 rfl) rfl
theorem q1484 : (Jvm.Cond.instanceMethod ({ cls := "SableCrown", name := "paid", desc := "(II)I" } : Jvm.MethodName)) ∈ lw_all := lw_g (lw_at lw_m6 180 rfl) rfl
theorem q1485 : (Jvm.Cond.selects "SableCrown" ({ cls := "SableCrown", name := "paid", desc := "(II)I" } : Jvm.MethodName) ({ cls := "SableCrown", name := "paid", desc := "(II)I" } : Jvm.MethodName)) ∈ lw_all := lw_g (lw_at lw_m6 181 rfl) rfl
theorem q1486 : (Jvm.Cond.code ({ cls := "SableCrown", name := "paid", desc := "(II)I" } : Jvm.MethodName) prog_1_method_31_code (3 : Nat) (Option.some Jvm.ClassFile.FieldType.int)) ∈ lw_all := lw_g (lw_at lw_m6 182 rfl) rfl
theorem q1491 : (Jvm.Cond.instanceMethod ({ cls := "SableCrown", name := "hostages", desc := "(I)I" } : Jvm.MethodName)) ∈ lw_all := lw_g (lw_at lw_m6 187 rfl) rfl
theorem q1492 : (Jvm.Cond.selects "SableCrown" ({ cls := "SableCrown", name := "hostages", desc := "(I)I" } : Jvm.MethodName) ({ cls := "SableCrown", name := "hostages", desc := "(I)I" } : Jvm.MethodName)) ∈ lw_all := lw_g (lw_at lw_m6 188 rfl) rfl
theorem q1493 : (Jvm.Cond.code ({ cls := "SableCrown", name := "hostages", desc := "(I)I" } : Jvm.MethodName) prog_1_method_32_code (2 : Nat) (Option.some Jvm.ClassFile.FieldType.int)) ∈ lw_all := lw_g (lw_at lw_m6 189 rfl) rfl
theorem q1494 : (Jvm.Cond.methodLink "SableCrown" (248 : Nat) ({ cls := "SableCrown$State", name := "allDead", desc := "(I)I" } : Jvm.MethodName)) ∈ lw_all := lw_g (lw_at lw_m6 190 rfl) rfl
theorem q1502 : (Jvm.Cond.instanceMethod ({ cls := "SableCrown", name := "owing", desc := "(I)I" } : Jvm.MethodName)) ∈ lw_all := lw_g (lw_at lw_m6 198 rfl) rfl
theorem q1503 : (Jvm.Cond.selects "SableCrown" ({ cls := "SableCrown", name := "owing", desc := "(I)I" } : Jvm.MethodName) ({ cls := "SableCrown", name := "owing", desc := "(I)I" } : Jvm.MethodName)) ∈ lw_all := lw_g (lw_at lw_m6 199 rfl) rfl
theorem q1504 : (Jvm.Cond.code ({ cls := "SableCrown", name := "owing", desc := "(I)I" } : Jvm.MethodName) prog_1_method_33_code (4 : Nat) (Option.some Jvm.ClassFile.FieldType.int)) ∈ lw_all := lw_g (lw_at lw_m6 200 rfl) rfl
theorem q1509 : (Jvm.Cond.instanceMethod ({ cls := "SableCrown", name := "lastBlack", desc := "(I)I" } : Jvm.MethodName)) ∈ lw_all := lw_g (lw_at lw_m6 205 rfl) rfl
theorem q1510 : (Jvm.Cond.selects "SableCrown" ({ cls := "SableCrown", name := "lastBlack", desc := "(I)I" } : Jvm.MethodName) ({ cls := "SableCrown", name := "lastBlack", desc := "(I)I" } : Jvm.MethodName)) ∈ lw_all := lw_g (lw_at lw_m6 206 rfl) rfl
theorem q1511 : (Jvm.Cond.code ({ cls := "SableCrown", name := "lastBlack", desc := "(I)I" } : Jvm.MethodName) prog_1_method_35_code (5 : Nat) (Option.some Jvm.ClassFile.FieldType.int)) ∈ lw_all := lw_g (lw_at lw_m6 207 rfl) rfl
theorem q1516 : (Jvm.Cond.instanceMethod ({ cls := "SableCrown", name := "forEver", desc := "(I)I" } : Jvm.MethodName)) ∈ lw_all := lw_g (lw_at lw_m6 212 rfl) rfl
theorem q1517 : (Jvm.Cond.selects "SableCrown" ({ cls := "SableCrown", name := "forEver", desc := "(I)I" } : Jvm.MethodName) ({ cls := "SableCrown", name := "forEver", desc := "(I)I" } : Jvm.MethodName)) ∈ lw_all := lw_g (lw_at lw_m6 213 rfl) rfl
theorem q1518 : (Jvm.Cond.code ({ cls := "SableCrown", name := "forEver", desc := "(I)I" } : Jvm.MethodName) prog_1_method_37_code (3 : Nat) (Option.some Jvm.ClassFile.FieldType.int)) ∈ lw_all := lw_g (lw_at lw_m6 214 rfl) rfl
theorem q1519 : (Jvm.Cond.methodLink "SableCrown" (257 : Nat) ({ cls := "SableCrown", name := "bears", desc := "(II)Z" } : Jvm.MethodName)) ∈ lw_all := lw_g (lw_at lw_m6 215 rfl) rfl
theorem q1520 : (Jvm.Cond.privateMethod ({ cls := "SableCrown", name := "bears", desc := "(II)Z" } : Jvm.MethodName)) ∈ lw_tbl := lw_at lw_m6 216 rfl
theorem q1521 : (Jvm.Cond.instanceMethod ({ cls := "SableCrown", name := "bears", desc := "(II)Z" } : Jvm.MethodName)) ∈ lw_all := lw_g (lw_at lw_m6 217 rfl) rfl
theorem q1522 : (Jvm.Cond.code ({ cls := "SableCrown", name := "bears", desc := "(II)Z" } : Jvm.MethodName) prog_1_method_36_code (5 : Nat) (Option.some Jvm.ClassFile.FieldType.boolean)) ∈ lw_all := lw_g (lw_at lw_m6 218 rfl) rfl
theorem q1523 : (Jvm.Cond.methodLink "SableCrown" (254 : Nat) ({ cls := "SableCrown$Forest", name := "grown", desc := "(I)I" } : Jvm.MethodName)) ∈ lw_all := lw_g (lw_at lw_m6 219 rfl) rfl
theorem q1528 : (Jvm.Cond.instanceMethod ({ cls := "SableCrown", name := "resting", desc := "(II)I" } : Jvm.MethodName)) ∈ lw_all := lw_g (lw_at lw_m6 224 rfl) rfl
theorem q1529 : (Jvm.Cond.selects "SableCrown" ({ cls := "SableCrown", name := "resting", desc := "(II)I" } : Jvm.MethodName) ({ cls := "SableCrown", name := "resting", desc := "(II)I" } : Jvm.MethodName)) ∈ lw_all := lw_g (lw_at lw_m6 225 rfl) rfl
theorem q1530 : (Jvm.Cond.code ({ cls := "SableCrown", name := "resting", desc := "(II)I" } : Jvm.MethodName) prog_1_method_38_code (6 : Nat) (Option.some Jvm.ClassFile.FieldType.int)) ∈ lw_all := lw_g (lw_at lw_m6 226 rfl) rfl
theorem q1535 : (Jvm.Cond.instanceMethod ({ cls := "SableCrown", name := "far", desc := "(II)I" } : Jvm.MethodName)) ∈ lw_all := lw_g (lw_at lw_m6 231 rfl) rfl
theorem q1536 : (Jvm.Cond.selects "SableCrown" ({ cls := "SableCrown", name := "far", desc := "(II)I" } : Jvm.MethodName) ({ cls := "SableCrown", name := "far", desc := "(II)I" } : Jvm.MethodName)) ∈ lw_all := lw_g (lw_at lw_m6 232 rfl) rfl
theorem q1537 : (Jvm.Cond.code ({ cls := "SableCrown", name := "far", desc := "(II)I" } : Jvm.MethodName) prog_1_method_40_code (3 : Nat) (Option.some Jvm.ClassFile.FieldType.int)) ∈ lw_all := lw_g (lw_at lw_m6 233 rfl) rfl
theorem q1538 : (Jvm.Cond.methodLink "SableCrown" (261 : Nat) ({ cls := "SableCrown$Land", name := "far", desc := "(II)I" } : Jvm.MethodName)) ∈ lw_all := lw_g (lw_at lw_m6 234 rfl) rfl
theorem q1539 : (Jvm.Cond.methodLink "SableCrown" (264 : Nat) ({ cls := "SableCrown", name := "orNone", desc := "(I)I" } : Jvm.MethodName)) ∈ lw_all := lw_g (lw_at lw_m6 235 rfl) rfl
theorem q1540 : (Jvm.Cond.static ({ cls := "SableCrown", name := "orNone", desc := "(I)I" } : Jvm.MethodName)) ∈ lw_all := lw_g (lw_at lw_m6 236 rfl) rfl
theorem q1541 : (Jvm.Cond.code ({ cls := "SableCrown", name := "orNone", desc := "(I)I" } : Jvm.MethodName) prog_1_method_39_code (1 : Nat) (Option.some Jvm.ClassFile.FieldType.int)) ∈ lw_all := lw_g (lw_at lw_m6 237 rfl) rfl
theorem q1542 : (Jvm.Cond.constant "SableCrown" (260 : Nat) (100000 : Int32)) ∈ lw_all := lw_g (lw_at lw_m6 238 rfl) rfl
theorem q1547 : (Jvm.Cond.instanceMethod ({ cls := "SableCrown", name := "round", desc := "(I)I" } : Jvm.MethodName)) ∈ lw_all := lw_g (lw_at lw_m7 3 rfl) rfl
theorem q1548 : (Jvm.Cond.selects "SableCrown" ({ cls := "SableCrown", name := "round", desc := "(I)I" } : Jvm.MethodName) ({ cls := "SableCrown", name := "round", desc := "(I)I" } : Jvm.MethodName)) ∈ lw_all := lw_g (lw_at lw_m7 4 rfl) rfl
theorem q1549 : (Jvm.Cond.code ({ cls := "SableCrown", name := "round", desc := "(I)I" } : Jvm.MethodName) prog_1_method_43_code (6 : Nat) (Option.some Jvm.ClassFile.FieldType.int)) ∈ lw_all := lw_g (lw_at lw_m7 5 rfl) rfl
theorem q1550 : (Jvm.Cond.methodLink "SableCrown" (267 : Nat) ({ cls := "SableCrown", name := "fortAt", desc := "(I)I" } : Jvm.MethodName)) ∈ lw_all := lw_g (lw_at lw_m7 6 rfl) rfl
theorem q1551 : (Jvm.Cond.privateMethod ({ cls := "SableCrown", name := "fortAt", desc := "(I)I" } : Jvm.MethodName)) ∈ lw_tbl := lw_at lw_m7 7 rfl
theorem q1552 : (Jvm.Cond.instanceMethod ({ cls := "SableCrown", name := "fortAt", desc := "(I)I" } : Jvm.MethodName)) ∈ lw_all := lw_g (lw_at lw_m7 8 rfl) rfl
theorem q1553 : (Jvm.Cond.code ({ cls := "SableCrown", name := "fortAt", desc := "(I)I" } : Jvm.MethodName) prog_1_method_9_code (2 : Nat) (Option.some Jvm.ClassFile.FieldType.int)) ∈ lw_all := lw_g (lw_at lw_m7 9 rfl) rfl
theorem q1554 : (Jvm.Cond.classLink "SableCrown" (88 : Nat) "java/lang/Integer") ∈ lw_all := lw_g (lw_at lw_m7 10 rfl) rfl
theorem q1555 : (Jvm.Cond.methodLink "SableCrown" (90 : Nat) ({ cls := "java/lang/Integer", name := "intValue", desc := "()I" } : Jvm.MethodName)) ∈ lw_all := lw_g (lw_at lw_m7 11 rfl) rfl
theorem q1556 : (Jvm.Cond.methodLink "SableCrown" (270 : Nat) ({ cls := "SableCrown", name := "camps", desc := "()I" } : Jvm.MethodName)) ∈ lw_all := lw_g (lw_at lw_m7 12 rfl) rfl
theorem q1557 : (Jvm.Cond.privateMethod ({ cls := "SableCrown", name := "camps", desc := "()I" } : Jvm.MethodName)) ∈ lw_tbl := lw_at lw_m7 13 rfl
theorem q1558 : (Jvm.Cond.instanceMethod ({ cls := "SableCrown", name := "camps", desc := "()I" } : Jvm.MethodName)) ∈ lw_all := lw_g (lw_at lw_m7 14 rfl) rfl
theorem q1559 : (Jvm.Cond.code ({ cls := "SableCrown", name := "camps", desc := "()I" } : Jvm.MethodName) prog_1_method_41_code (3 : Nat) (Option.some Jvm.ClassFile.FieldType.int)) ∈ lw_all := lw_g (lw_at lw_m7 15 rfl) rfl
theorem q1560 : (Jvm.Cond.methodLink "SableCrown" (273 : Nat) ({ cls := "SableCrown", name := "walks", desc := "(III)V" } : Jvm.MethodName)) ∈ lw_all := lw_g (lw_at lw_m7 16 rfl) rfl
theorem q1561 : (Jvm.Cond.privateMethod ({ cls := "SableCrown", name := "walks", desc := "(III)V" } : Jvm.MethodName)) ∈ lw_tbl := lw_at lw_m7 17 rfl
theorem q1562 : (Jvm.Cond.instanceMethod ({ cls := "SableCrown", name := "walks", desc := "(III)V" } : Jvm.MethodName)) ∈ lw_all := lw_g (lw_at lw_m7 18 rfl) rfl
theorem q1563 : (Jvm.Cond.code ({ cls := "SableCrown", name := "walks", desc := "(III)V" } : Jvm.MethodName) prog_1_method_42_code (7 : Nat) (Option.none : Option Jvm.ClassFile.FieldType)) ∈ lw_all := lw_g (lw_at lw_m7 19 rfl) rfl
theorem q1568 : (Jvm.Cond.instanceMethod ({ cls := "SableCrown", name := "first", desc := "(I)I" } : Jvm.MethodName)) ∈ lw_all := lw_g (lw_at lw_m7 24 rfl) rfl
theorem q1569 : (Jvm.Cond.selects "SableCrown" ({ cls := "SableCrown", name := "first", desc := "(I)I" } : Jvm.MethodName) ({ cls := "SableCrown", name := "first", desc := "(I)I" } : Jvm.MethodName)) ∈ lw_all := lw_g (lw_at lw_m7 25 rfl) rfl
theorem q1570 : (Jvm.Cond.code ({ cls := "SableCrown", name := "first", desc := "(I)I" } : Jvm.MethodName) prog_1_method_44_code (6 : Nat) (Option.some Jvm.ClassFile.FieldType.int)) ∈ lw_all := lw_g (lw_at lw_m7 26 rfl) rfl
theorem q1575 : (Jvm.Cond.instanceMethod ({ cls := "SableCrown", name := "meeting", desc := "(III)I" } : Jvm.MethodName)) ∈ lw_all := lw_g (lw_at lw_m7 31 rfl) rfl
theorem q1576 : (Jvm.Cond.selects "SableCrown" ({ cls := "SableCrown", name := "meeting", desc := "(III)I" } : Jvm.MethodName) ({ cls := "SableCrown", name := "meeting", desc := "(III)I" } : Jvm.MethodName)) ∈ lw_all := lw_g (lw_at lw_m7 32 rfl) rfl
theorem q1577 : (Jvm.Cond.code ({ cls := "SableCrown", name := "meeting", desc := "(III)I" } : Jvm.MethodName) prog_1_method_45_code (10 : Nat) (Option.some Jvm.ClassFile.FieldType.int)) ∈ lw_all := lw_g (lw_at lw_m7 33 rfl) rfl
theorem q1578 : (Jvm.Cond.methodLink "SableCrown" (277 : Nat) ({ cls := "java/lang/Math", name := "max", desc := "(II)I" } : Jvm.MethodName)) ∈ lw_all := lw_g (lw_at lw_m7 34 rfl) rfl
theorem q1583 : (Jvm.Cond.instanceMethod ({ cls := "SableCrown", name := "where", desc := "(III)I" } : Jvm.MethodName)) ∈ lw_all := lw_g (lw_at lw_m7 39 rfl) rfl
theorem q1584 : (Jvm.Cond.selects "SableCrown" ({ cls := "SableCrown", name := "where", desc := "(III)I" } : Jvm.MethodName) ({ cls := "SableCrown", name := "where", desc := "(III)I" } : Jvm.MethodName)) ∈ lw_all := lw_g (lw_at lw_m7 40 rfl) rfl
theorem q1585 : (Jvm.Cond.code ({ cls := "SableCrown", name := "where", desc := "(III)I" } : Jvm.MethodName) prog_1_method_47_code (8 : Nat) (Option.some Jvm.ClassFile.FieldType.int)) ∈ lw_all := lw_g (lw_at lw_m7 41 rfl) rfl
theorem q1586 : (Jvm.Cond.methodLink "SableCrown" (280 : Nat) ({ cls := "SableCrown", name := "owesBy", desc := "(IIII)I" } : Jvm.MethodName)) ∈ lw_all := lw_g (lw_at lw_m7 42 rfl) rfl
theorem q1587 : (Jvm.Cond.privateMethod ({ cls := "SableCrown", name := "owesBy", desc := "(IIII)I" } : Jvm.MethodName)) ∈ lw_tbl := lw_at lw_m7 43 rfl
theorem q1588 : (Jvm.Cond.instanceMethod ({ cls := "SableCrown", name := "owesBy", desc := "(IIII)I" } : Jvm.MethodName)) ∈ lw_all := lw_g (lw_at lw_m7 44 rfl) rfl
theorem q1589 : (Jvm.Cond.code ({ cls := "SableCrown", name := "owesBy", desc := "(IIII)I" } : Jvm.MethodName) prog_1_method_46_code (5 : Nat) (Option.some Jvm.ClassFile.FieldType.int)) ∈ lw_all := lw_g (lw_at lw_m7 45 rfl) rfl
theorem q1594 : (Jvm.Cond.instanceMethod ({ cls := "SableCrown", name := "counted", desc := "(II)I" } : Jvm.MethodName)) ∈ lw_all := lw_g (lw_at lw_m7 50 rfl) rfl
theorem q1595 : (Jvm.Cond.selects "SableCrown" ({ cls := "SableCrown", name := "counted", desc := "(II)I" } : Jvm.MethodName) ({ cls := "SableCrown", name := "counted", desc := "(II)I" } : Jvm.MethodName)) ∈ lw_all := lw_g (lw_at lw_m7 51 rfl) rfl
theorem q1596 : (Jvm.Cond.code ({ cls := "SableCrown", name := "counted", desc := "(II)I" } : Jvm.MethodName) prog_1_method_48_code (4 : Nat) (Option.some Jvm.ClassFile.FieldType.int)) ∈ lw_all := lw_g (lw_at lw_m7 52 rfl) rfl
theorem q1601 : (Jvm.Cond.instanceMethod ({ cls := "SableCrown", name := "spy", desc := "(III)I" } : Jvm.MethodName)) ∈ lw_all := lw_g (lw_at lw_m7 57 rfl) rfl
theorem q1602 : (Jvm.Cond.selects "SableCrown" ({ cls := "SableCrown", name := "spy", desc := "(III)I" } : Jvm.MethodName) ({ cls := "SableCrown", name := "spy", desc := "(III)I" } : Jvm.MethodName)) ∈ lw_all := lw_g (lw_at lw_m7 58 rfl) rfl
theorem q1603 : (Jvm.Cond.code ({ cls := "SableCrown", name := "spy", desc := "(III)I" } : Jvm.MethodName) prog_1_method_49_code (4 : Nat) (Option.some Jvm.ClassFile.FieldType.int)) ∈ lw_all := lw_g (lw_at lw_m7 59 rfl) rfl
theorem q1608 : (Jvm.Cond.instanceMethod ({ cls := "SableCrown", name := "hidden", desc := "(I)I" } : Jvm.MethodName)) ∈ lw_all := lw_g (lw_at lw_m7 64 rfl) rfl
theorem q1609 : (Jvm.Cond.selects "SableCrown" ({ cls := "SableCrown", name := "hidden", desc := "(I)I" } : Jvm.MethodName) ({ cls := "SableCrown", name := "hidden", desc := "(I)I" } : Jvm.MethodName)) ∈ lw_all := lw_g (lw_at lw_m7 65 rfl) rfl
theorem q1610 : (Jvm.Cond.code ({ cls := "SableCrown", name := "hidden", desc := "(I)I" } : Jvm.MethodName) prog_1_method_53_code (5 : Nat) (Option.some Jvm.ClassFile.FieldType.int)) ∈ lw_all := lw_g (lw_at lw_m7 66 rfl) rfl
theorem q1611 : (Jvm.Cond.methodLink "SableCrown" (293 : Nat) ({ cls := "SableCrown", name := "isSpied", desc := "()Z" } : Jvm.MethodName)) ∈ lw_all := lw_g (lw_at lw_m7 67 rfl) rfl
theorem q1612 : (Jvm.Cond.privateMethod ({ cls := "SableCrown", name := "isSpied", desc := "()Z" } : Jvm.MethodName)) ∈ lw_tbl := lw_at lw_m7 68 rfl
theorem q1613 : (Jvm.Cond.instanceMethod ({ cls := "SableCrown", name := "isSpied", desc := "()Z" } : Jvm.MethodName)) ∈ lw_all := lw_g (lw_at lw_m7 69 rfl) rfl
theorem q1614 : (Jvm.Cond.code ({ cls := "SableCrown", name := "isSpied", desc := "()Z" } : Jvm.MethodName) prog_1_method_50_code (3 : Nat) (Option.some Jvm.ClassFile.FieldType.boolean)) ∈ lw_all := lw_g (lw_at lw_m7 70 rfl) rfl
theorem q1615 : (Jvm.Cond.methodLink "SableCrown" (297 : Nat) ({ cls := "SableCrown", name := "guesses", desc := "()I" } : Jvm.MethodName)) ∈ lw_all := lw_g (lw_at lw_m7 71 rfl) rfl
theorem q1616 : (Jvm.Cond.privateMethod ({ cls := "SableCrown", name := "guesses", desc := "()I" } : Jvm.MethodName)) ∈ lw_tbl := lw_at lw_m7 72 rfl
theorem q1617 : (Jvm.Cond.instanceMethod ({ cls := "SableCrown", name := "guesses", desc := "()I" } : Jvm.MethodName)) ∈ lw_all := lw_g (lw_at lw_m7 73 rfl) rfl
theorem q1618 : (Jvm.Cond.code ({ cls := "SableCrown", name := "guesses", desc := "()I" } : Jvm.MethodName) prog_1_method_52_code (1 : Nat) (Option.some Jvm.ClassFile.FieldType.int)) ∈ lw_all := lw_g (lw_at lw_m7 74 rfl) rfl
theorem q1619 : (Jvm.Cond.methodLink "SableCrown" (300 : Nat) ({ cls := "SableCrown", name := "isGuess", desc := "(I)Z" } : Jvm.MethodName)) ∈ lw_all := lw_g (lw_at lw_m7 75 rfl) rfl
theorem q1620 : (Jvm.Cond.privateMethod ({ cls := "SableCrown", name := "isGuess", desc := "(I)Z" } : Jvm.MethodName)) ∈ lw_tbl := lw_at lw_m7 76 rfl
theorem q1621 : (Jvm.Cond.instanceMethod ({ cls := "SableCrown", name := "isGuess", desc := "(I)Z" } : Jvm.MethodName)) ∈ lw_all := lw_g (lw_at lw_m7 77 rfl) rfl
theorem q1622 : (Jvm.Cond.code ({ cls := "SableCrown", name := "isGuess", desc := "(I)Z" } : Jvm.MethodName) prog_1_method_51_code (3 : Nat) (Option.some Jvm.ClassFile.FieldType.boolean)) ∈ lw_all := lw_g (lw_at lw_m7 78 rfl) rfl
theorem q1627 : (Jvm.Cond.instanceMethod ({ cls := "SableCrown", name := "look", desc := "(I)I" } : Jvm.MethodName)) ∈ lw_all := lw_g (lw_at lw_m7 83 rfl) rfl
theorem q1628 : (Jvm.Cond.selects "SableCrown" ({ cls := "SableCrown", name := "look", desc := "(I)I" } : Jvm.MethodName) ({ cls := "SableCrown", name := "look", desc := "(I)I" } : Jvm.MethodName)) ∈ lw_all := lw_g (lw_at lw_m7 84 rfl) rfl
theorem q1629 : (Jvm.Cond.code ({ cls := "SableCrown", name := "look", desc := "(I)I" } : Jvm.MethodName) prog_1_method_55_code (7 : Nat) (Option.some Jvm.ClassFile.FieldType.int)) ∈ lw_all := lw_g (lw_at lw_m7 85 rfl) rfl
theorem q1630 : (Jvm.Cond.methodLink "SableCrown" (304 : Nat) ({ cls := "java/lang/System", name := "arraycopy", desc := "(Ljava/lang/Object;ILjava/lang/Object;II)V" } : Jvm.MethodName)) ∈ lw_all := lw_g (lw_at lw_m7 86 rfl) rfl
theorem q1631 : (Jvm.Cond.methodLink "SableCrown" (310 : Nat) ({ cls := "SableCrown", name := "unlike", desc := "(II)I" } : Jvm.MethodName)) ∈ lw_all := lw_g (lw_at lw_m7 87 rfl) rfl
theorem q1632 : (Jvm.Cond.privateMethod ({ cls := "SableCrown", name := "unlike", desc := "(II)I" } : Jvm.MethodName)) ∈ lw_tbl := lw_at lw_m7 88 rfl
theorem q1633 : (Jvm.Cond.instanceMethod ({ cls := "SableCrown", name := "unlike", desc := "(II)I" } : Jvm.MethodName)) ∈ lw_all := lw_g (lw_at lw_m7 89 rfl) rfl
theorem q1634 : (Jvm.Cond.code ({ cls := "SableCrown", name := "unlike", desc := "(II)I" } : Jvm.MethodName) prog_1_method_54_code (7 : Nat) (Option.some Jvm.ClassFile.FieldType.int)) ∈ lw_all := lw_g (lw_at lw_m7 90 rfl) rfl
theorem q1639 : (Jvm.Cond.instanceMethod ({ cls := "SableCrown", name := "game", desc := "(IIIII)I" } : Jvm.MethodName)) ∈ lw_all := lw_g (lw_at lw_m7 95 rfl) rfl
theorem q1640 : (Jvm.Cond.selects "SableCrown" ({ cls := "SableCrown", name := "game", desc := "(IIIII)I" } : Jvm.MethodName) ({ cls := "SableCrown", name := "game", desc := "(IIIII)I" } : Jvm.MethodName)) ∈ lw_all := lw_g (lw_at lw_m7 96 rfl) rfl
theorem q1641 : (Jvm.Cond.code ({ cls := "SableCrown", name := "game", desc := "(IIIII)I" } : Jvm.MethodName) prog_1_method_58_code (13 : Nat) (Option.some Jvm.ClassFile.FieldType.int)) ∈ lw_all := lw_g (lw_at lw_m7 97 rfl) rfl
theorem q1642 : (Jvm.Cond.methodLink "SableCrown" (313 : Nat) ({ cls := "SableCrown", name := "gains", desc := "(IIII)I" } : Jvm.MethodName)) ∈ lw_all := lw_g (lw_at lw_m7 98 rfl) rfl
theorem q1643 : (Jvm.Cond.privateMethod ({ cls := "SableCrown", name := "gains", desc := "(IIII)I" } : Jvm.MethodName)) ∈ lw_tbl := lw_at lw_m7 99 rfl
theorem q1644 : (Jvm.Cond.instanceMethod ({ cls := "SableCrown", name := "gains", desc := "(IIII)I" } : Jvm.MethodName)) ∈ lw_all := lw_g (lw_at lw_m7 100 rfl) rfl
theorem q1645 : (Jvm.Cond.code ({ cls := "SableCrown", name := "gains", desc := "(IIII)I" } : Jvm.MethodName) prog_1_method_57_code (7 : Nat) (Option.some Jvm.ClassFile.FieldType.int)) ∈ lw_all := lw_g (lw_at lw_m7 101 rfl) rfl
theorem q1650 : (Jvm.Cond.instanceMethod ({ cls := "SableCrown", name := "winter", desc := "(III)I" } : Jvm.MethodName)) ∈ lw_all := lw_g (lw_at lw_m7 106 rfl) rfl
theorem q1651 : (Jvm.Cond.selects "SableCrown" ({ cls := "SableCrown", name := "winter", desc := "(III)I" } : Jvm.MethodName) ({ cls := "SableCrown", name := "winter", desc := "(III)I" } : Jvm.MethodName)) ∈ lw_all := lw_g (lw_at lw_m7 107 rfl) rfl
theorem q1652 : (Jvm.Cond.code ({ cls := "SableCrown", name := "winter", desc := "(III)I" } : Jvm.MethodName) prog_1_method_61_code (6 : Nat) (Option.some Jvm.ClassFile.FieldType.int)) ∈ lw_all := lw_g (lw_at lw_m7 108 rfl) rfl
theorem q1653 : (Jvm.Cond.methodLink "SableCrown" (323 : Nat) ({ cls := "SableCrown", name := "happens", desc := "()V" } : Jvm.MethodName)) ∈ lw_all := lw_g (lw_at lw_m7 109 rfl) rfl
theorem q1654 : (Jvm.Cond.privateMethod ({ cls := "SableCrown", name := "happens", desc := "()V" } : Jvm.MethodName)) ∈ lw_tbl := lw_at lw_m7 110 rfl
theorem q1655 : (Jvm.Cond.instanceMethod ({ cls := "SableCrown", name := "happens", desc := "()V" } : Jvm.MethodName)) ∈ lw_all := lw_g (lw_at lw_m7 111 rfl) rfl
theorem q1656 : (Jvm.Cond.code ({ cls := "SableCrown", name := "happens", desc := "()V" } : Jvm.MethodName) prog_1_method_60_code (3 : Nat) (Option.none : Option Jvm.ClassFile.FieldType)) ∈ lw_all := lw_g (lw_at lw_m7 112 rfl) rfl
theorem q1657 : (Jvm.Cond.methodLink "SableCrown" (320 : Nat) ({ cls := "SableCrown", name := "draw", desc := "(I)I" } : Jvm.MethodName)) ∈ lw_all := lw_g (lw_at lw_m7 113 rfl) rfl
theorem q1658 : (Jvm.Cond.privateMethod ({ cls := "SableCrown", name := "draw", desc := "(I)I" } : Jvm.MethodName)) ∈ lw_tbl := lw_at lw_m7 114 rfl
theorem q1659 : (Jvm.Cond.instanceMethod ({ cls := "SableCrown", name := "draw", desc := "(I)I" } : Jvm.MethodName)) ∈ lw_all := lw_g (lw_at lw_m7 115 rfl) rfl
theorem q1660 : (Jvm.Cond.code ({ cls := "SableCrown", name := "draw", desc := "(I)I" } : Jvm.MethodName) prog_1_method_59_code (2 : Nat) (Option.some Jvm.ClassFile.FieldType.int)) ∈ lw_all := lw_g (lw_at lw_m7 116 rfl) rfl
theorem q1661 : (Jvm.Cond.constant "SableCrown" (319 : Nat) (1103515245 : Int32)) ∈ lw_all := lw_g (lw_at lw_m7 117 rfl) rfl
theorem q2305 : (Jvm.Cond.castable "SableCrown" "java/lang/Object") ∈ lw_tbl := lw_at lw_m10 41 rfl
theorem in_X1 : ∀ w ∈ wsX10, w ∈ lw_all := lw_in wsX10 [745, 747, 749, 751, 753, 755, 757, 759, 761, 763, 765, 767] (by decide +kernel) (by decide +kernel)
