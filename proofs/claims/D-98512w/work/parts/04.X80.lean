/-! LongerHalfModel -/
set_option maxRecDepth 100000
def RX8 : String := "LongerHalfModel"
def TX8 : u_T := fun k => match k with
  | 0 => ("LongerHalfModel", "thrown", "I", false)
  | 1 => ("LongerHalfModel", "trouble", "I", false)
  | 2 => ("LongerHalfModel", "where", "I", false)
  | 3 => ("LongerHalfModel", "kitchen", "LLongerHalfModel$Kitchen;", false)
  | 4 => ("LongerHalfModel", "read", "LLongerHalfModel$Kitchen;", false)
  | 5 => ("LongerHalfModel", "tape", "[B", true)
  | 6 => ("LongerHalfModel", "taped", "I", false)
  | 7 => ("LongerHalfModel", "size", "I", false)
  | 8 => ("LongerHalfModel", "spot", "I", false)
  | 9 => ("LongerHalfModel", "sort", "I", false)
  | 10 => ("LongerHalfModel", "place", "I", false)
  | 11 => ("LongerHalfModel", "sign", "I", false)
  | 12 => ("LongerHalfModel", "number", "I", false)
  | 13 => ("LongerHalfModel", "fault", "I", false)
  | 14 => ("LongerHalfModel", "wrongAt", "I", false)
  | 15 => ("LongerHalfModel", "word", "J", false)
  | 16 => ("LongerHalfModel", "v", "[I", true)
  | 17 => ("LongerHalfModel", "past", "[I", true)
  | 18 => ("LongerHalfModel", "kept", "[I", true)
  | 19 => ("LongerHalfModel", "acts", "I", false)
  | 20 => ("LongerHalfModel", "marks", "I", false)
  | 21 => ("LongerHalfModel", "bone", "I", false)
  | 22 => ("LongerHalfModel", "days", "I", false)
  | 23 => ("LongerHalfModel", "flawArm", "I", false)
  | 24 => ("LongerHalfModel", "flawAt", "I", false)
  | 25 => ("LongerHalfModel", "brokeArm", "I", false)
  | 26 => ("LongerHalfModel", "brokeAt", "I", false)
  | 27 => ("LongerHalfModel", "who", "[I", true)
  | 28 => ("LongerHalfModel", "at", "[I", true)
  | 29 => ("LongerHalfModel", "moves", "[Z", true)
  | 30 => ("LongerHalfModel", "leftOdds", "[J", true)
  | 31 => ("LongerHalfModel", "rightOdds", "[J", true)
  | 32 => ("LongerHalfModel", "pairOf", "[I", true)
  | 33 => ("LongerHalfModel", "turn", "[I", true)
  | 34 => ("LongerHalfModel", "ownersOf", "I", false)
  | 35 => ("LongerHalfModel", "drawing", "I", false)
  | 36 => ("LongerHalfModel", "winsOf", "[I", true)
  | 37 => ("LongerHalfModel", "threes", "I", false)
  | _ => ("LongerHalfModel", "bent", "I", false)
def tyX8 : Nat → FieldType := fun k => match k with
  | 0 => .int
  | 1 => .int
  | 2 => .int
  | 3 => .object "LongerHalfModel$Kitchen"
  | 4 => .object "LongerHalfModel$Kitchen"
  | 5 => .array .byte
  | 6 => .int
  | 7 => .int
  | 8 => .int
  | 9 => .int
  | 10 => .int
  | 11 => .int
  | 12 => .int
  | 13 => .int
  | 14 => .int
  | 15 => .long
  | 16 => .array .int
  | 17 => .array .int
  | 18 => .array .int
  | 19 => .int
  | 20 => .int
  | 21 => .int
  | 22 => .int
  | 23 => .int
  | 24 => .int
  | 25 => .int
  | 26 => .int
  | 27 => .array .int
  | 28 => .array .int
  | 29 => .array .boolean
  | 30 => .array .long
  | 31 => .array .long
  | 32 => .array .int
  | 33 => .array .int
  | 34 => .int
  | 35 => .int
  | 36 => .array .int
  | 37 => .int
  | _ => .int
abbrev wsX80 : List Cond := u_ws RX8 TX8 39
set_option maxRecDepth 100000 in
theorem nmX8 : ∀ a, a < 39 → ∀ b, b < 39 → a ≠ b → (TX8 a).2.1 ≠ (TX8 b).2.1 := by decide +kernel
set_option maxRecDepth 100000 in
theorem tyX8_ok : ∀ k, k < 39 → parseFieldDescriptor (TX8 k).2.2.1 = some (tyX8 k) := by decide +kernel
abbrev cX8_init : ByteArray := prog_20_method_1_code
def yX8_init : MethodName := ⟨RX8, "<init>", "()V"⟩
def dkwX8_init_4 : List UInt8 := [188, 10, 181, 0, 47, 42, 16, 6, 188, 10, 181, 0, 50, 177]
abbrev dktX8_init_4 : List UInt8 := dkwX8_init_4 ++ []
def dkwX8_init_3 : List UInt8 := [181, 0, 37, 42, 17, 0, 144, 188, 11, 181, 0, 41, 42, 16, 9, 188, 10, 181, 0, 44, 42, 16, 6]
abbrev dktX8_init_3 : List UInt8 := dkwX8_init_3 ++ dktX8_init_4
def dkwX8_init_2 : List UInt8 := [181, 0, 27, 42, 5, 188, 10, 181, 0, 30, 42, 5, 188, 4, 181, 0, 33, 42, 17, 0, 144, 188, 11]
abbrev dktX8_init_2 : List UInt8 := dkwX8_init_2 ++ dktX8_init_3
def dkwX8_init_1 : List UInt8 := [181, 0, 17, 42, 17, 1, 32, 188, 10, 181, 0, 21, 42, 16, 54, 188, 10, 181, 0, 24, 42, 5, 188, 10]
abbrev dktX8_init_1 : List UInt8 := dkwX8_init_1 ++ dktX8_init_2
def dkwX8_init_0 : List UInt8 := [42, 183, 0, 3, 42, 2, 181, 0, 9, 42, 17, 3, 232, 188, 8, 181, 0, 13, 42, 16, 18, 188, 10]
abbrev dktX8_init_0 : List UInt8 := dkwX8_init_0 ++ dktX8_init_1
theorem dksX8_init_0 : cX8_init.data.toList.drop 0 = dktX8_init_0 := by decide +kernel
theorem dksX8_init_1 : cX8_init.data.toList.drop 23 = dktX8_init_1 := dk_seg dksX8_init_0 23 rfl rfl
theorem dksX8_init_2 : cX8_init.data.toList.drop 47 = dktX8_init_2 := dk_seg dksX8_init_1 24 rfl rfl
theorem dksX8_init_3 : cX8_init.data.toList.drop 70 = dktX8_init_3 := dk_seg dksX8_init_2 23 rfl rfl
theorem dksX8_init_4 : cX8_init.data.toList.drop 93 = dktX8_init_4 := dk_seg dksX8_init_3 23 rfl rfl
theorem dX8_init_0 : decode cX8_init 0 = .ok (.aload_n 0, 1) := dk_42 (dk_at dksX8_init_0 0 rfl rfl)
theorem dX8_init_1 : decode cX8_init 1 = .ok (.invokespecial 3, 3) := dk_183 0 3 (dk_at dksX8_init_0 1 rfl rfl)
theorem dX8_init_4 : decode cX8_init 4 = .ok (.aload_n 0, 1) := dk_42 (dk_at dksX8_init_0 4 rfl rfl)
theorem dX8_init_5 : decode cX8_init 5 = .ok (.iconst (-1), 1) := dk_2 (dk_at dksX8_init_0 5 rfl rfl)
theorem dX8_init_6 : decode cX8_init 6 = .ok (.putfield 9, 3) := dk_181 0 9 (dk_at dksX8_init_0 6 rfl rfl)
theorem dX8_init_9 : decode cX8_init 9 = .ok (.aload_n 0, 1) := dk_42 (dk_at dksX8_init_0 9 rfl rfl)
theorem dX8_init_10 : decode cX8_init 10 = .ok (.sipush 1000, 3) := dk_17 3 232 (dk_at dksX8_init_0 10 rfl rfl)
theorem dX8_init_13 : decode cX8_init 13 = .ok (.newarray .byte, 2) := dk_188_8 (dk_at dksX8_init_0 13 rfl rfl)
theorem dX8_init_15 : decode cX8_init 15 = .ok (.putfield 13, 3) := dk_181 0 13 (dk_at dksX8_init_0 15 rfl rfl)
theorem dX8_init_18 : decode cX8_init 18 = .ok (.aload_n 0, 1) := dk_42 (dk_at dksX8_init_0 18 rfl rfl)
theorem dX8_init_19 : decode cX8_init 19 = .ok (.bipush 18, 2) := dk_16 18 (dk_at dksX8_init_0 19 rfl rfl)
theorem dX8_init_21 : decode cX8_init 21 = .ok (.newarray .int, 2) := dk_188_10 (dk_at dksX8_init_0 21 rfl rfl)
theorem dX8_init_23 : decode cX8_init 23 = .ok (.putfield 17, 3) := dk_181 0 17 (dk_at dksX8_init_1 0 rfl rfl)
theorem dX8_init_26 : decode cX8_init 26 = .ok (.aload_n 0, 1) := dk_42 (dk_at dksX8_init_1 3 rfl rfl)
theorem dX8_init_27 : decode cX8_init 27 = .ok (.sipush 288, 3) := dk_17 1 32 (dk_at dksX8_init_1 4 rfl rfl)
theorem dX8_init_30 : decode cX8_init 30 = .ok (.newarray .int, 2) := dk_188_10 (dk_at dksX8_init_1 7 rfl rfl)
theorem dX8_init_32 : decode cX8_init 32 = .ok (.putfield 21, 3) := dk_181 0 21 (dk_at dksX8_init_1 9 rfl rfl)
theorem dX8_init_35 : decode cX8_init 35 = .ok (.aload_n 0, 1) := dk_42 (dk_at dksX8_init_1 12 rfl rfl)
theorem dX8_init_36 : decode cX8_init 36 = .ok (.bipush 54, 2) := dk_16 54 (dk_at dksX8_init_1 13 rfl rfl)
theorem dX8_init_38 : decode cX8_init 38 = .ok (.newarray .int, 2) := dk_188_10 (dk_at dksX8_init_1 15 rfl rfl)
theorem dX8_init_40 : decode cX8_init 40 = .ok (.putfield 24, 3) := dk_181 0 24 (dk_at dksX8_init_1 17 rfl rfl)
theorem dX8_init_43 : decode cX8_init 43 = .ok (.aload_n 0, 1) := dk_42 (dk_at dksX8_init_1 20 rfl rfl)
theorem dX8_init_44 : decode cX8_init 44 = .ok (.iconst 2, 1) := dk_5 (dk_at dksX8_init_1 21 rfl rfl)
theorem dX8_init_45 : decode cX8_init 45 = .ok (.newarray .int, 2) := dk_188_10 (dk_at dksX8_init_1 22 rfl rfl)
theorem dX8_init_47 : decode cX8_init 47 = .ok (.putfield 27, 3) := dk_181 0 27 (dk_at dksX8_init_2 0 rfl rfl)
theorem dX8_init_50 : decode cX8_init 50 = .ok (.aload_n 0, 1) := dk_42 (dk_at dksX8_init_2 3 rfl rfl)
theorem dX8_init_51 : decode cX8_init 51 = .ok (.iconst 2, 1) := dk_5 (dk_at dksX8_init_2 4 rfl rfl)
theorem dX8_init_52 : decode cX8_init 52 = .ok (.newarray .int, 2) := dk_188_10 (dk_at dksX8_init_2 5 rfl rfl)
theorem dX8_init_54 : decode cX8_init 54 = .ok (.putfield 30, 3) := dk_181 0 30 (dk_at dksX8_init_2 7 rfl rfl)
theorem dX8_init_57 : decode cX8_init 57 = .ok (.aload_n 0, 1) := dk_42 (dk_at dksX8_init_2 10 rfl rfl)
theorem dX8_init_58 : decode cX8_init 58 = .ok (.iconst 2, 1) := dk_5 (dk_at dksX8_init_2 11 rfl rfl)
theorem dX8_init_59 : decode cX8_init 59 = .ok (.newarray .boolean, 2) := dk_188_4 (dk_at dksX8_init_2 12 rfl rfl)
theorem dX8_init_61 : decode cX8_init 61 = .ok (.putfield 33, 3) := dk_181 0 33 (dk_at dksX8_init_2 14 rfl rfl)
theorem dX8_init_64 : decode cX8_init 64 = .ok (.aload_n 0, 1) := dk_42 (dk_at dksX8_init_2 17 rfl rfl)
theorem dX8_init_65 : decode cX8_init 65 = .ok (.sipush 144, 3) := dk_17 0 144 (dk_at dksX8_init_2 18 rfl rfl)
theorem dX8_init_68 : decode cX8_init 68 = .ok (.newarray .long, 2) := dk_188_11 (dk_at dksX8_init_2 21 rfl rfl)
theorem dX8_init_70 : decode cX8_init 70 = .ok (.putfield 37, 3) := dk_181 0 37 (dk_at dksX8_init_3 0 rfl rfl)
theorem dX8_init_73 : decode cX8_init 73 = .ok (.aload_n 0, 1) := dk_42 (dk_at dksX8_init_3 3 rfl rfl)
theorem dX8_init_74 : decode cX8_init 74 = .ok (.sipush 144, 3) := dk_17 0 144 (dk_at dksX8_init_3 4 rfl rfl)
theorem dX8_init_77 : decode cX8_init 77 = .ok (.newarray .long, 2) := dk_188_11 (dk_at dksX8_init_3 7 rfl rfl)
theorem dX8_init_79 : decode cX8_init 79 = .ok (.putfield 41, 3) := dk_181 0 41 (dk_at dksX8_init_3 9 rfl rfl)
theorem dX8_init_82 : decode cX8_init 82 = .ok (.aload_n 0, 1) := dk_42 (dk_at dksX8_init_3 12 rfl rfl)
theorem dX8_init_83 : decode cX8_init 83 = .ok (.bipush 9, 2) := dk_16 9 (dk_at dksX8_init_3 13 rfl rfl)
theorem dX8_init_85 : decode cX8_init 85 = .ok (.newarray .int, 2) := dk_188_10 (dk_at dksX8_init_3 15 rfl rfl)
theorem dX8_init_87 : decode cX8_init 87 = .ok (.putfield 44, 3) := dk_181 0 44 (dk_at dksX8_init_3 17 rfl rfl)
theorem dX8_init_90 : decode cX8_init 90 = .ok (.aload_n 0, 1) := dk_42 (dk_at dksX8_init_3 20 rfl rfl)
theorem dX8_init_91 : decode cX8_init 91 = .ok (.bipush 6, 2) := dk_16 6 (dk_at dksX8_init_3 21 rfl rfl)
theorem dX8_init_93 : decode cX8_init 93 = .ok (.newarray .int, 2) := dk_188_10 (dk_at dksX8_init_4 0 rfl rfl)
theorem dX8_init_95 : decode cX8_init 95 = .ok (.putfield 47, 3) := dk_181 0 47 (dk_at dksX8_init_4 2 rfl rfl)
theorem dX8_init_98 : decode cX8_init 98 = .ok (.aload_n 0, 1) := dk_42 (dk_at dksX8_init_4 5 rfl rfl)
theorem dX8_init_99 : decode cX8_init 99 = .ok (.bipush 6, 2) := dk_16 6 (dk_at dksX8_init_4 6 rfl rfl)
theorem dX8_init_101 : decode cX8_init 101 = .ok (.newarray .int, 2) := dk_188_10 (dk_at dksX8_init_4 8 rfl rfl)
theorem dX8_init_103 : decode cX8_init 103 = .ok (.putfield 50, 3) := dk_181 0 50 (dk_at dksX8_init_4 10 rfl rfl)
theorem dX8_init_106 : decode cX8_init 106 = .ok (.return_, 1) := dk_177 (dk_at dksX8_init_4 13 rfl rfl)
abbrev cX8_thrown : ByteArray := prog_20_method_2_code
def yX8_thrown : MethodName := ⟨RX8, "thrown", "()I"⟩
theorem dX8_thrown_0 : decode cX8_thrown 0 = .ok (.aload_n 0, 1) := by decide +kernel
theorem dX8_thrown_1 : decode cX8_thrown 1 = .ok (.getfield 53, 3) := by decide +kernel
theorem dX8_thrown_4 : decode cX8_thrown 4 = .ok (.ireturn, 1) := by decide +kernel
abbrev cX8_feed : ByteArray := prog_20_method_41_code
def yX8_feed : MethodName := ⟨RX8, "feed", "(IIIII)I"⟩
def dkwX8_feed_5 : List UInt8 := [180, 1, 110, 172]
abbrev dktX8_feed_5 : List UInt8 := dkwX8_feed_5 ++ []
def dkwX8_feed_4 : List UInt8 := [112, 104, 100, 122, 145, 84, 42, 89, 180, 1, 110, 4, 96, 181, 1, 110, 132, 6, 1, 167, 255, 165, 42]
abbrev dktX8_feed_4 : List UInt8 := dkwX8_feed_4 ++ dktX8_feed_5
def dkwX8_feed_3 : List UInt8 := [167, 0, 5, 21, 5, 54, 7, 42, 180, 0, 13, 42, 180, 1, 110, 21, 7, 16, 24, 16, 8, 21, 6, 7]
abbrev dktX8_feed_3 : List UInt8 := dkwX8_feed_3 ++ dktX8_feed_4
def dkwX8_feed_2 : List UInt8 := [28, 167, 0, 28, 21, 6, 16, 12, 162, 0, 7, 29, 167, 0, 17, 21, 6, 16, 16, 162, 0, 8, 21, 4]
abbrev dktX8_feed_2 : List UInt8 := dkwX8_feed_2 ++ dktX8_feed_3
def dkwX8_feed_1 : List UInt8 := [21, 6, 16, 20, 162, 0, 90, 21, 6, 7, 162, 0, 7, 27, 167, 0, 39, 21, 6, 16, 8, 162, 0, 7]
abbrev dktX8_feed_1 : List UInt8 := dkwX8_feed_1 ++ dktX8_feed_2
def dkwX8_feed_0 : List UInt8 := [42, 3, 181, 0, 53, 42, 180, 1, 110, 16, 20, 96, 17, 3, 232, 164, 0, 5, 2, 172, 3, 54, 6]
abbrev dktX8_feed_0 : List UInt8 := dkwX8_feed_0 ++ dktX8_feed_1
theorem dksX8_feed_0 : cX8_feed.data.toList.drop 0 = dktX8_feed_0 := by decide +kernel
theorem dksX8_feed_1 : cX8_feed.data.toList.drop 23 = dktX8_feed_1 := dk_seg dksX8_feed_0 23 rfl rfl
theorem dksX8_feed_2 : cX8_feed.data.toList.drop 47 = dktX8_feed_2 := dk_seg dksX8_feed_1 24 rfl rfl
theorem dksX8_feed_3 : cX8_feed.data.toList.drop 71 = dktX8_feed_3 := dk_seg dksX8_feed_2 24 rfl rfl
theorem dksX8_feed_4 : cX8_feed.data.toList.drop 95 = dktX8_feed_4 := dk_seg dksX8_feed_3 24 rfl rfl
theorem dksX8_feed_5 : cX8_feed.data.toList.drop 118 = dktX8_feed_5 := dk_seg dksX8_feed_4 23 rfl rfl
theorem dX8_feed_0 : decode cX8_feed 0 = .ok (.aload_n 0, 1) := dk_42 (dk_at dksX8_feed_0 0 rfl rfl)
theorem dX8_feed_1 : decode cX8_feed 1 = .ok (.iconst 0, 1) := dk_3 (dk_at dksX8_feed_0 1 rfl rfl)
theorem dX8_feed_2 : decode cX8_feed 2 = .ok (.putfield 53, 3) := dk_181 0 53 (dk_at dksX8_feed_0 2 rfl rfl)
theorem dX8_feed_5 : decode cX8_feed 5 = .ok (.aload_n 0, 1) := dk_42 (dk_at dksX8_feed_0 5 rfl rfl)
theorem dX8_feed_6 : decode cX8_feed 6 = .ok (.getfield 366, 3) := dk_180 1 110 (dk_at dksX8_feed_0 6 rfl rfl)
theorem dX8_feed_9 : decode cX8_feed 9 = .ok (.bipush 20, 2) := dk_16 20 (dk_at dksX8_feed_0 9 rfl rfl)
theorem dX8_feed_11 : decode cX8_feed 11 = .ok (.iadd, 1) := dk_96 (dk_at dksX8_feed_0 11 rfl rfl)
theorem dX8_feed_12 : decode cX8_feed 12 = .ok (.sipush 1000, 3) := dk_17 3 232 (dk_at dksX8_feed_0 12 rfl rfl)
theorem dX8_feed_15 : decode cX8_feed 15 = .ok (.if_icmp .le 5, 3) := dk_164 0 5 (dk_at dksX8_feed_0 15 rfl rfl)
theorem dX8_feed_18 : decode cX8_feed 18 = .ok (.iconst (-1), 1) := dk_2 (dk_at dksX8_feed_0 18 rfl rfl)
theorem dX8_feed_19 : decode cX8_feed 19 = .ok (.ireturn, 1) := dk_172 (dk_at dksX8_feed_0 19 rfl rfl)
theorem dX8_feed_20 : decode cX8_feed 20 = .ok (.iconst 0, 1) := dk_3 (dk_at dksX8_feed_0 20 rfl rfl)
theorem dX8_feed_21 : decode cX8_feed 21 = .ok (.istore 6, 2) := dk_54 6 (dk_at dksX8_feed_0 21 rfl rfl)
theorem dX8_feed_23 : decode cX8_feed 23 = .ok (.iload 6, 2) := dk_21 6 (dk_at dksX8_feed_1 0 rfl rfl)
theorem dX8_feed_25 : decode cX8_feed 25 = .ok (.bipush 20, 2) := dk_16 20 (dk_at dksX8_feed_1 2 rfl rfl)
theorem dX8_feed_27 : decode cX8_feed 27 = .ok (.if_icmp .ge 90, 3) := dk_162 0 90 (dk_at dksX8_feed_1 4 rfl rfl)
theorem dX8_feed_30 : decode cX8_feed 30 = .ok (.iload 6, 2) := dk_21 6 (dk_at dksX8_feed_1 7 rfl rfl)
theorem dX8_feed_32 : decode cX8_feed 32 = .ok (.iconst 4, 1) := dk_7 (dk_at dksX8_feed_1 9 rfl rfl)
theorem dX8_feed_33 : decode cX8_feed 33 = .ok (.if_icmp .ge 7, 3) := dk_162 0 7 (dk_at dksX8_feed_1 10 rfl rfl)
theorem dX8_feed_36 : decode cX8_feed 36 = .ok (.iload_n 1, 1) := dk_27 (dk_at dksX8_feed_1 13 rfl rfl)
theorem dX8_feed_37 : decode cX8_feed 37 = .ok (.goto 39, 3) := dk_167 0 39 (dk_at dksX8_feed_1 14 rfl rfl)
theorem dX8_feed_40 : decode cX8_feed 40 = .ok (.iload 6, 2) := dk_21 6 (dk_at dksX8_feed_1 17 rfl rfl)
theorem dX8_feed_42 : decode cX8_feed 42 = .ok (.bipush 8, 2) := dk_16 8 (dk_at dksX8_feed_1 19 rfl rfl)
theorem dX8_feed_44 : decode cX8_feed 44 = .ok (.if_icmp .ge 7, 3) := dk_162 0 7 (dk_at dksX8_feed_1 21 rfl rfl)
theorem dX8_feed_47 : decode cX8_feed 47 = .ok (.iload_n 2, 1) := dk_28 (dk_at dksX8_feed_2 0 rfl rfl)
theorem dX8_feed_48 : decode cX8_feed 48 = .ok (.goto 28, 3) := dk_167 0 28 (dk_at dksX8_feed_2 1 rfl rfl)
theorem dX8_feed_51 : decode cX8_feed 51 = .ok (.iload 6, 2) := dk_21 6 (dk_at dksX8_feed_2 4 rfl rfl)
theorem dX8_feed_53 : decode cX8_feed 53 = .ok (.bipush 12, 2) := dk_16 12 (dk_at dksX8_feed_2 6 rfl rfl)
theorem dX8_feed_55 : decode cX8_feed 55 = .ok (.if_icmp .ge 7, 3) := dk_162 0 7 (dk_at dksX8_feed_2 8 rfl rfl)
theorem dX8_feed_58 : decode cX8_feed 58 = .ok (.iload_n 3, 1) := dk_29 (dk_at dksX8_feed_2 11 rfl rfl)
theorem dX8_feed_59 : decode cX8_feed 59 = .ok (.goto 17, 3) := dk_167 0 17 (dk_at dksX8_feed_2 12 rfl rfl)
theorem dX8_feed_62 : decode cX8_feed 62 = .ok (.iload 6, 2) := dk_21 6 (dk_at dksX8_feed_2 15 rfl rfl)
theorem dX8_feed_64 : decode cX8_feed 64 = .ok (.bipush 16, 2) := dk_16 16 (dk_at dksX8_feed_2 17 rfl rfl)
theorem dX8_feed_66 : decode cX8_feed 66 = .ok (.if_icmp .ge 8, 3) := dk_162 0 8 (dk_at dksX8_feed_2 19 rfl rfl)
theorem dX8_feed_69 : decode cX8_feed 69 = .ok (.iload 4, 2) := dk_21 4 (dk_at dksX8_feed_2 22 rfl rfl)
theorem dX8_feed_71 : decode cX8_feed 71 = .ok (.goto 5, 3) := dk_167 0 5 (dk_at dksX8_feed_3 0 rfl rfl)
theorem dX8_feed_74 : decode cX8_feed 74 = .ok (.iload 5, 2) := dk_21 5 (dk_at dksX8_feed_3 3 rfl rfl)
theorem dX8_feed_76 : decode cX8_feed 76 = .ok (.istore 7, 2) := dk_54 7 (dk_at dksX8_feed_3 5 rfl rfl)
theorem dX8_feed_78 : decode cX8_feed 78 = .ok (.aload_n 0, 1) := dk_42 (dk_at dksX8_feed_3 7 rfl rfl)
theorem dX8_feed_79 : decode cX8_feed 79 = .ok (.getfield 13, 3) := dk_180 0 13 (dk_at dksX8_feed_3 8 rfl rfl)
theorem dX8_feed_82 : decode cX8_feed 82 = .ok (.aload_n 0, 1) := dk_42 (dk_at dksX8_feed_3 11 rfl rfl)
theorem dX8_feed_83 : decode cX8_feed 83 = .ok (.getfield 366, 3) := dk_180 1 110 (dk_at dksX8_feed_3 12 rfl rfl)
theorem dX8_feed_86 : decode cX8_feed 86 = .ok (.iload 7, 2) := dk_21 7 (dk_at dksX8_feed_3 15 rfl rfl)
theorem dX8_feed_88 : decode cX8_feed 88 = .ok (.bipush 24, 2) := dk_16 24 (dk_at dksX8_feed_3 17 rfl rfl)
theorem dX8_feed_90 : decode cX8_feed 90 = .ok (.bipush 8, 2) := dk_16 8 (dk_at dksX8_feed_3 19 rfl rfl)
theorem dX8_feed_92 : decode cX8_feed 92 = .ok (.iload 6, 2) := dk_21 6 (dk_at dksX8_feed_3 21 rfl rfl)
theorem dX8_feed_94 : decode cX8_feed 94 = .ok (.iconst 4, 1) := dk_7 (dk_at dksX8_feed_3 23 rfl rfl)
theorem dX8_feed_95 : decode cX8_feed 95 = .ok (.irem, 1) := dk_112 (dk_at dksX8_feed_4 0 rfl rfl)
theorem dX8_feed_96 : decode cX8_feed 96 = .ok (.imul, 1) := dk_104 (dk_at dksX8_feed_4 1 rfl rfl)
theorem dX8_feed_97 : decode cX8_feed 97 = .ok (.isub, 1) := dk_100 (dk_at dksX8_feed_4 2 rfl rfl)
theorem dX8_feed_98 : decode cX8_feed 98 = .ok (.ishr, 1) := dk_122 (dk_at dksX8_feed_4 3 rfl rfl)
theorem dX8_feed_99 : decode cX8_feed 99 = .ok (.i2b, 1) := dk_145 (dk_at dksX8_feed_4 4 rfl rfl)
theorem dX8_feed_100 : decode cX8_feed 100 = .ok (.bastore, 1) := dk_84 (dk_at dksX8_feed_4 5 rfl rfl)
theorem dX8_feed_101 : decode cX8_feed 101 = .ok (.aload_n 0, 1) := dk_42 (dk_at dksX8_feed_4 6 rfl rfl)
theorem dX8_feed_102 : decode cX8_feed 102 = .ok (.dup, 1) := dk_89 (dk_at dksX8_feed_4 7 rfl rfl)
theorem dX8_feed_103 : decode cX8_feed 103 = .ok (.getfield 366, 3) := dk_180 1 110 (dk_at dksX8_feed_4 8 rfl rfl)
theorem dX8_feed_106 : decode cX8_feed 106 = .ok (.iconst 1, 1) := dk_4 (dk_at dksX8_feed_4 11 rfl rfl)
theorem dX8_feed_107 : decode cX8_feed 107 = .ok (.iadd, 1) := dk_96 (dk_at dksX8_feed_4 12 rfl rfl)
theorem dX8_feed_108 : decode cX8_feed 108 = .ok (.putfield 366, 3) := dk_181 1 110 (dk_at dksX8_feed_4 13 rfl rfl)
theorem dX8_feed_111 : decode cX8_feed 111 = .ok (.iinc 6 1, 3) := dk_132 6 1 (dk_at dksX8_feed_4 16 rfl rfl)
theorem dX8_feed_114 : decode cX8_feed 114 = .ok (.goto (-91), 3) := dk_167 255 165 (dk_at dksX8_feed_4 19 rfl rfl)
theorem dX8_feed_117 : decode cX8_feed 117 = .ok (.aload_n 0, 1) := dk_42 (dk_at dksX8_feed_4 22 rfl rfl)
theorem dX8_feed_118 : decode cX8_feed 118 = .ok (.getfield 366, 3) := dk_180 1 110 (dk_at dksX8_feed_5 0 rfl rfl)
theorem dX8_feed_121 : decode cX8_feed 121 = .ok (.ireturn, 1) := dk_172 (dk_at dksX8_feed_5 3 rfl rfl)
abbrev cX8_kitchen : ByteArray := prog_20_method_42_code
def yX8_kitchen : MethodName := ⟨RX8, "kitchen", "(I)I"⟩
def dkwX8_kitchen_7 : List UInt8 := [3, 181, 1, 119, 42, 3, 181, 1, 122, 42, 42, 180, 1, 117, 180, 0, 210, 182, 0, 63, 172]
abbrev dktX8_kitchen_7 : List UInt8 := dkwX8_kitchen_7 ++ []
def dkwX8_kitchen_6 : List UInt8 := [42, 180, 0, 17, 8, 28, 96, 42, 180, 1, 117, 180, 1, 35, 28, 46, 79, 132, 2, 1, 167, 255, 214, 42]
abbrev dktX8_kitchen_6 : List UInt8 := dkwX8_kitchen_6 ++ dktX8_kitchen_7
def dkwX8_kitchen_5 : List UInt8 := [3, 61, 28, 8, 162, 0, 43, 42, 180, 0, 17, 3, 28, 96, 42, 180, 1, 117, 180, 1, 32, 28, 46, 79]
abbrev dktX8_kitchen_5 : List UInt8 := dkwX8_kitchen_5 ++ dktX8_kitchen_6
def dkwX8_kitchen_4 : List UInt8 := [181, 1, 117, 3, 61, 28, 16, 18, 162, 0, 16, 42, 180, 0, 17, 28, 3, 79, 132, 2, 1, 167, 255, 240]
abbrev dktX8_kitchen_4 : List UInt8 := dkwX8_kitchen_4 ++ dktX8_kitchen_5
def dkwX8_kitchen_3 : List UInt8 := [158, 0, 18, 42, 7, 181, 0, 56, 42, 42, 180, 0, 117, 181, 0, 9, 2, 172, 42, 42, 180, 0, 171]
abbrev dktX8_kitchen_3 : List UInt8 := dkwX8_kitchen_3 ++ dktX8_kitchen_4
def dkwX8_kitchen_2 : List UInt8 := [183, 1, 113, 181, 0, 171, 42, 3, 181, 0, 85, 42, 182, 0, 127, 42, 182, 1, 114, 42, 180, 0, 114]
abbrev dktX8_kitchen_2 : List UInt8 := dkwX8_kitchen_2 ++ dktX8_kitchen_3
def dkwX8_kitchen_1 : List UInt8 := [27, 181, 0, 70, 42, 3, 181, 1, 110, 42, 3, 181, 0, 88, 42, 3, 181, 0, 114, 42, 187, 0, 176, 89]
abbrev dktX8_kitchen_1 : List UInt8 := dkwX8_kitchen_1 ++ dktX8_kitchen_2
def dkwX8_kitchen_0 : List UInt8 := [42, 3, 181, 0, 53, 27, 155, 0, 11, 27, 42, 180, 1, 110, 164, 0, 9, 42, 5, 182, 0, 59, 172, 42]
abbrev dktX8_kitchen_0 : List UInt8 := dkwX8_kitchen_0 ++ dktX8_kitchen_1
theorem dksX8_kitchen_0 : cX8_kitchen.data.toList.drop 0 = dktX8_kitchen_0 := by decide +kernel
theorem dksX8_kitchen_1 : cX8_kitchen.data.toList.drop 24 = dktX8_kitchen_1 := dk_seg dksX8_kitchen_0 24 rfl rfl
theorem dksX8_kitchen_2 : cX8_kitchen.data.toList.drop 48 = dktX8_kitchen_2 := dk_seg dksX8_kitchen_1 24 rfl rfl
theorem dksX8_kitchen_3 : cX8_kitchen.data.toList.drop 71 = dktX8_kitchen_3 := dk_seg dksX8_kitchen_2 23 rfl rfl
theorem dksX8_kitchen_4 : cX8_kitchen.data.toList.drop 94 = dktX8_kitchen_4 := dk_seg dksX8_kitchen_3 23 rfl rfl
theorem dksX8_kitchen_5 : cX8_kitchen.data.toList.drop 118 = dktX8_kitchen_5 := dk_seg dksX8_kitchen_4 24 rfl rfl
theorem dksX8_kitchen_6 : cX8_kitchen.data.toList.drop 142 = dktX8_kitchen_6 := dk_seg dksX8_kitchen_5 24 rfl rfl
theorem dksX8_kitchen_7 : cX8_kitchen.data.toList.drop 166 = dktX8_kitchen_7 := dk_seg dksX8_kitchen_6 24 rfl rfl
theorem dX8_kitchen_0 : decode cX8_kitchen 0 = .ok (.aload_n 0, 1) := dk_42 (dk_at dksX8_kitchen_0 0 rfl rfl)
theorem dX8_kitchen_1 : decode cX8_kitchen 1 = .ok (.iconst 0, 1) := dk_3 (dk_at dksX8_kitchen_0 1 rfl rfl)
theorem dX8_kitchen_2 : decode cX8_kitchen 2 = .ok (.putfield 53, 3) := dk_181 0 53 (dk_at dksX8_kitchen_0 2 rfl rfl)
theorem dX8_kitchen_5 : decode cX8_kitchen 5 = .ok (.iload_n 1, 1) := dk_27 (dk_at dksX8_kitchen_0 5 rfl rfl)
theorem dX8_kitchen_6 : decode cX8_kitchen 6 = .ok (.ifCond .lt 11, 3) := dk_155 0 11 (dk_at dksX8_kitchen_0 6 rfl rfl)
theorem dX8_kitchen_9 : decode cX8_kitchen 9 = .ok (.iload_n 1, 1) := dk_27 (dk_at dksX8_kitchen_0 9 rfl rfl)
theorem dX8_kitchen_10 : decode cX8_kitchen 10 = .ok (.aload_n 0, 1) := dk_42 (dk_at dksX8_kitchen_0 10 rfl rfl)
theorem dX8_kitchen_11 : decode cX8_kitchen 11 = .ok (.getfield 366, 3) := dk_180 1 110 (dk_at dksX8_kitchen_0 11 rfl rfl)
theorem dX8_kitchen_14 : decode cX8_kitchen 14 = .ok (.if_icmp .le 9, 3) := dk_164 0 9 (dk_at dksX8_kitchen_0 14 rfl rfl)
theorem dX8_kitchen_17 : decode cX8_kitchen 17 = .ok (.aload_n 0, 1) := dk_42 (dk_at dksX8_kitchen_0 17 rfl rfl)
theorem dX8_kitchen_18 : decode cX8_kitchen 18 = .ok (.iconst 2, 1) := dk_5 (dk_at dksX8_kitchen_0 18 rfl rfl)
theorem dX8_kitchen_19 : decode cX8_kitchen 19 = .ok (.invokevirtual 59, 3) := dk_182 0 59 (dk_at dksX8_kitchen_0 19 rfl rfl)
theorem dX8_kitchen_22 : decode cX8_kitchen 22 = .ok (.ireturn, 1) := dk_172 (dk_at dksX8_kitchen_0 22 rfl rfl)
theorem dX8_kitchen_23 : decode cX8_kitchen 23 = .ok (.aload_n 0, 1) := dk_42 (dk_at dksX8_kitchen_0 23 rfl rfl)
theorem dX8_kitchen_24 : decode cX8_kitchen 24 = .ok (.iload_n 1, 1) := dk_27 (dk_at dksX8_kitchen_1 0 rfl rfl)
theorem dX8_kitchen_25 : decode cX8_kitchen 25 = .ok (.putfield 70, 3) := dk_181 0 70 (dk_at dksX8_kitchen_1 1 rfl rfl)
theorem dX8_kitchen_28 : decode cX8_kitchen 28 = .ok (.aload_n 0, 1) := dk_42 (dk_at dksX8_kitchen_1 4 rfl rfl)
theorem dX8_kitchen_29 : decode cX8_kitchen 29 = .ok (.iconst 0, 1) := dk_3 (dk_at dksX8_kitchen_1 5 rfl rfl)
theorem dX8_kitchen_30 : decode cX8_kitchen 30 = .ok (.putfield 366, 3) := dk_181 1 110 (dk_at dksX8_kitchen_1 6 rfl rfl)
theorem dX8_kitchen_33 : decode cX8_kitchen 33 = .ok (.aload_n 0, 1) := dk_42 (dk_at dksX8_kitchen_1 9 rfl rfl)
theorem dX8_kitchen_34 : decode cX8_kitchen 34 = .ok (.iconst 0, 1) := dk_3 (dk_at dksX8_kitchen_1 10 rfl rfl)
theorem dX8_kitchen_35 : decode cX8_kitchen 35 = .ok (.putfield 88, 3) := dk_181 0 88 (dk_at dksX8_kitchen_1 11 rfl rfl)
theorem dX8_kitchen_38 : decode cX8_kitchen 38 = .ok (.aload_n 0, 1) := dk_42 (dk_at dksX8_kitchen_1 14 rfl rfl)
theorem dX8_kitchen_39 : decode cX8_kitchen 39 = .ok (.iconst 0, 1) := dk_3 (dk_at dksX8_kitchen_1 15 rfl rfl)
theorem dX8_kitchen_40 : decode cX8_kitchen 40 = .ok (.putfield 114, 3) := dk_181 0 114 (dk_at dksX8_kitchen_1 16 rfl rfl)
theorem dX8_kitchen_43 : decode cX8_kitchen 43 = .ok (.aload_n 0, 1) := dk_42 (dk_at dksX8_kitchen_1 19 rfl rfl)
theorem dX8_kitchen_44 : decode cX8_kitchen 44 = .ok (.new 176, 3) := dk_187 0 176 (dk_at dksX8_kitchen_1 20 rfl rfl)
theorem dX8_kitchen_47 : decode cX8_kitchen 47 = .ok (.dup, 1) := dk_89 (dk_at dksX8_kitchen_1 23 rfl rfl)
theorem dX8_kitchen_48 : decode cX8_kitchen 48 = .ok (.invokespecial 369, 3) := dk_183 1 113 (dk_at dksX8_kitchen_2 0 rfl rfl)
theorem dX8_kitchen_51 : decode cX8_kitchen 51 = .ok (.putfield 171, 3) := dk_181 0 171 (dk_at dksX8_kitchen_2 3 rfl rfl)
theorem dX8_kitchen_54 : decode cX8_kitchen 54 = .ok (.aload_n 0, 1) := dk_42 (dk_at dksX8_kitchen_2 6 rfl rfl)
theorem dX8_kitchen_55 : decode cX8_kitchen 55 = .ok (.iconst 0, 1) := dk_3 (dk_at dksX8_kitchen_2 7 rfl rfl)
theorem dX8_kitchen_56 : decode cX8_kitchen 56 = .ok (.putfield 85, 3) := dk_181 0 85 (dk_at dksX8_kitchen_2 8 rfl rfl)
theorem dX8_kitchen_59 : decode cX8_kitchen 59 = .ok (.aload_n 0, 1) := dk_42 (dk_at dksX8_kitchen_2 11 rfl rfl)
theorem dX8_kitchen_60 : decode cX8_kitchen 60 = .ok (.invokevirtual 127, 3) := dk_182 0 127 (dk_at dksX8_kitchen_2 12 rfl rfl)
theorem dX8_kitchen_63 : decode cX8_kitchen 63 = .ok (.aload_n 0, 1) := dk_42 (dk_at dksX8_kitchen_2 15 rfl rfl)
theorem dX8_kitchen_64 : decode cX8_kitchen 64 = .ok (.invokevirtual 370, 3) := dk_182 1 114 (dk_at dksX8_kitchen_2 16 rfl rfl)
theorem dX8_kitchen_67 : decode cX8_kitchen 67 = .ok (.aload_n 0, 1) := dk_42 (dk_at dksX8_kitchen_2 19 rfl rfl)
theorem dX8_kitchen_68 : decode cX8_kitchen 68 = .ok (.getfield 114, 3) := dk_180 0 114 (dk_at dksX8_kitchen_2 20 rfl rfl)
theorem dX8_kitchen_71 : decode cX8_kitchen 71 = .ok (.ifCond .le 18, 3) := dk_158 0 18 (dk_at dksX8_kitchen_3 0 rfl rfl)
theorem dX8_kitchen_74 : decode cX8_kitchen 74 = .ok (.aload_n 0, 1) := dk_42 (dk_at dksX8_kitchen_3 3 rfl rfl)
theorem dX8_kitchen_75 : decode cX8_kitchen 75 = .ok (.iconst 4, 1) := dk_7 (dk_at dksX8_kitchen_3 4 rfl rfl)
theorem dX8_kitchen_76 : decode cX8_kitchen 76 = .ok (.putfield 56, 3) := dk_181 0 56 (dk_at dksX8_kitchen_3 5 rfl rfl)
theorem dX8_kitchen_79 : decode cX8_kitchen 79 = .ok (.aload_n 0, 1) := dk_42 (dk_at dksX8_kitchen_3 8 rfl rfl)
theorem dX8_kitchen_80 : decode cX8_kitchen 80 = .ok (.aload_n 0, 1) := dk_42 (dk_at dksX8_kitchen_3 9 rfl rfl)
theorem dX8_kitchen_81 : decode cX8_kitchen 81 = .ok (.getfield 117, 3) := dk_180 0 117 (dk_at dksX8_kitchen_3 10 rfl rfl)
theorem dX8_kitchen_84 : decode cX8_kitchen 84 = .ok (.putfield 9, 3) := dk_181 0 9 (dk_at dksX8_kitchen_3 13 rfl rfl)
theorem dX8_kitchen_87 : decode cX8_kitchen 87 = .ok (.iconst (-1), 1) := dk_2 (dk_at dksX8_kitchen_3 16 rfl rfl)
theorem dX8_kitchen_88 : decode cX8_kitchen 88 = .ok (.ireturn, 1) := dk_172 (dk_at dksX8_kitchen_3 17 rfl rfl)
theorem dX8_kitchen_89 : decode cX8_kitchen 89 = .ok (.aload_n 0, 1) := dk_42 (dk_at dksX8_kitchen_3 18 rfl rfl)
theorem dX8_kitchen_90 : decode cX8_kitchen 90 = .ok (.aload_n 0, 1) := dk_42 (dk_at dksX8_kitchen_3 19 rfl rfl)
theorem dX8_kitchen_91 : decode cX8_kitchen 91 = .ok (.getfield 171, 3) := dk_180 0 171 (dk_at dksX8_kitchen_3 20 rfl rfl)
theorem dX8_kitchen_94 : decode cX8_kitchen 94 = .ok (.putfield 373, 3) := dk_181 1 117 (dk_at dksX8_kitchen_4 0 rfl rfl)
theorem dX8_kitchen_97 : decode cX8_kitchen 97 = .ok (.iconst 0, 1) := dk_3 (dk_at dksX8_kitchen_4 3 rfl rfl)
theorem dX8_kitchen_98 : decode cX8_kitchen 98 = .ok (.istore_n 2, 1) := dk_61 (dk_at dksX8_kitchen_4 4 rfl rfl)
theorem dX8_kitchen_99 : decode cX8_kitchen 99 = .ok (.iload_n 2, 1) := dk_28 (dk_at dksX8_kitchen_4 5 rfl rfl)
theorem dX8_kitchen_100 : decode cX8_kitchen 100 = .ok (.bipush 18, 2) := dk_16 18 (dk_at dksX8_kitchen_4 6 rfl rfl)
theorem dX8_kitchen_102 : decode cX8_kitchen 102 = .ok (.if_icmp .ge 16, 3) := dk_162 0 16 (dk_at dksX8_kitchen_4 8 rfl rfl)
theorem dX8_kitchen_105 : decode cX8_kitchen 105 = .ok (.aload_n 0, 1) := dk_42 (dk_at dksX8_kitchen_4 11 rfl rfl)
theorem dX8_kitchen_106 : decode cX8_kitchen 106 = .ok (.getfield 17, 3) := dk_180 0 17 (dk_at dksX8_kitchen_4 12 rfl rfl)
theorem dX8_kitchen_109 : decode cX8_kitchen 109 = .ok (.iload_n 2, 1) := dk_28 (dk_at dksX8_kitchen_4 15 rfl rfl)
theorem dX8_kitchen_110 : decode cX8_kitchen 110 = .ok (.iconst 0, 1) := dk_3 (dk_at dksX8_kitchen_4 16 rfl rfl)
theorem dX8_kitchen_111 : decode cX8_kitchen 111 = .ok (.iastore, 1) := dk_79 (dk_at dksX8_kitchen_4 17 rfl rfl)
theorem dX8_kitchen_112 : decode cX8_kitchen 112 = .ok (.iinc 2 1, 3) := dk_132 2 1 (dk_at dksX8_kitchen_4 18 rfl rfl)
theorem dX8_kitchen_115 : decode cX8_kitchen 115 = .ok (.goto (-16), 3) := dk_167 255 240 (dk_at dksX8_kitchen_4 21 rfl rfl)
theorem dX8_kitchen_118 : decode cX8_kitchen 118 = .ok (.iconst 0, 1) := dk_3 (dk_at dksX8_kitchen_5 0 rfl rfl)
theorem dX8_kitchen_119 : decode cX8_kitchen 119 = .ok (.istore_n 2, 1) := dk_61 (dk_at dksX8_kitchen_5 1 rfl rfl)
theorem dX8_kitchen_120 : decode cX8_kitchen 120 = .ok (.iload_n 2, 1) := dk_28 (dk_at dksX8_kitchen_5 2 rfl rfl)
theorem dX8_kitchen_121 : decode cX8_kitchen 121 = .ok (.iconst 5, 1) := dk_8 (dk_at dksX8_kitchen_5 3 rfl rfl)
theorem dX8_kitchen_122 : decode cX8_kitchen 122 = .ok (.if_icmp .ge 43, 3) := dk_162 0 43 (dk_at dksX8_kitchen_5 4 rfl rfl)
theorem dX8_kitchen_125 : decode cX8_kitchen 125 = .ok (.aload_n 0, 1) := dk_42 (dk_at dksX8_kitchen_5 7 rfl rfl)
theorem dX8_kitchen_126 : decode cX8_kitchen 126 = .ok (.getfield 17, 3) := dk_180 0 17 (dk_at dksX8_kitchen_5 8 rfl rfl)
theorem dX8_kitchen_129 : decode cX8_kitchen 129 = .ok (.iconst 0, 1) := dk_3 (dk_at dksX8_kitchen_5 11 rfl rfl)
theorem dX8_kitchen_130 : decode cX8_kitchen 130 = .ok (.iload_n 2, 1) := dk_28 (dk_at dksX8_kitchen_5 12 rfl rfl)
theorem dX8_kitchen_131 : decode cX8_kitchen 131 = .ok (.iadd, 1) := dk_96 (dk_at dksX8_kitchen_5 13 rfl rfl)
theorem dX8_kitchen_132 : decode cX8_kitchen 132 = .ok (.aload_n 0, 1) := dk_42 (dk_at dksX8_kitchen_5 14 rfl rfl)
theorem dX8_kitchen_133 : decode cX8_kitchen 133 = .ok (.getfield 373, 3) := dk_180 1 117 (dk_at dksX8_kitchen_5 15 rfl rfl)
theorem dX8_kitchen_136 : decode cX8_kitchen 136 = .ok (.getfield 288, 3) := dk_180 1 32 (dk_at dksX8_kitchen_5 18 rfl rfl)
theorem dX8_kitchen_139 : decode cX8_kitchen 139 = .ok (.iload_n 2, 1) := dk_28 (dk_at dksX8_kitchen_5 21 rfl rfl)
theorem dX8_kitchen_140 : decode cX8_kitchen 140 = .ok (.iaload, 1) := dk_46 (dk_at dksX8_kitchen_5 22 rfl rfl)
theorem dX8_kitchen_141 : decode cX8_kitchen 141 = .ok (.iastore, 1) := dk_79 (dk_at dksX8_kitchen_5 23 rfl rfl)
theorem dX8_kitchen_142 : decode cX8_kitchen 142 = .ok (.aload_n 0, 1) := dk_42 (dk_at dksX8_kitchen_6 0 rfl rfl)
theorem dX8_kitchen_143 : decode cX8_kitchen 143 = .ok (.getfield 17, 3) := dk_180 0 17 (dk_at dksX8_kitchen_6 1 rfl rfl)
theorem dX8_kitchen_146 : decode cX8_kitchen 146 = .ok (.iconst 5, 1) := dk_8 (dk_at dksX8_kitchen_6 4 rfl rfl)
theorem dX8_kitchen_147 : decode cX8_kitchen 147 = .ok (.iload_n 2, 1) := dk_28 (dk_at dksX8_kitchen_6 5 rfl rfl)
theorem dX8_kitchen_148 : decode cX8_kitchen 148 = .ok (.iadd, 1) := dk_96 (dk_at dksX8_kitchen_6 6 rfl rfl)
theorem dX8_kitchen_149 : decode cX8_kitchen 149 = .ok (.aload_n 0, 1) := dk_42 (dk_at dksX8_kitchen_6 7 rfl rfl)
theorem dX8_kitchen_150 : decode cX8_kitchen 150 = .ok (.getfield 373, 3) := dk_180 1 117 (dk_at dksX8_kitchen_6 8 rfl rfl)
theorem dX8_kitchen_153 : decode cX8_kitchen 153 = .ok (.getfield 291, 3) := dk_180 1 35 (dk_at dksX8_kitchen_6 11 rfl rfl)
theorem dX8_kitchen_156 : decode cX8_kitchen 156 = .ok (.iload_n 2, 1) := dk_28 (dk_at dksX8_kitchen_6 14 rfl rfl)
theorem dX8_kitchen_157 : decode cX8_kitchen 157 = .ok (.iaload, 1) := dk_46 (dk_at dksX8_kitchen_6 15 rfl rfl)
theorem dX8_kitchen_158 : decode cX8_kitchen 158 = .ok (.iastore, 1) := dk_79 (dk_at dksX8_kitchen_6 16 rfl rfl)
theorem dX8_kitchen_159 : decode cX8_kitchen 159 = .ok (.iinc 2 1, 3) := dk_132 2 1 (dk_at dksX8_kitchen_6 17 rfl rfl)
theorem dX8_kitchen_162 : decode cX8_kitchen 162 = .ok (.goto (-42), 3) := dk_167 255 214 (dk_at dksX8_kitchen_6 20 rfl rfl)
theorem dX8_kitchen_165 : decode cX8_kitchen 165 = .ok (.aload_n 0, 1) := dk_42 (dk_at dksX8_kitchen_6 23 rfl rfl)
theorem dX8_kitchen_166 : decode cX8_kitchen 166 = .ok (.iconst 0, 1) := dk_3 (dk_at dksX8_kitchen_7 0 rfl rfl)
theorem dX8_kitchen_167 : decode cX8_kitchen 167 = .ok (.putfield 375, 3) := dk_181 1 119 (dk_at dksX8_kitchen_7 1 rfl rfl)
theorem dX8_kitchen_170 : decode cX8_kitchen 170 = .ok (.aload_n 0, 1) := dk_42 (dk_at dksX8_kitchen_7 4 rfl rfl)
theorem dX8_kitchen_171 : decode cX8_kitchen 171 = .ok (.iconst 0, 1) := dk_3 (dk_at dksX8_kitchen_7 5 rfl rfl)
theorem dX8_kitchen_172 : decode cX8_kitchen 172 = .ok (.putfield 378, 3) := dk_181 1 122 (dk_at dksX8_kitchen_7 6 rfl rfl)
theorem dX8_kitchen_175 : decode cX8_kitchen 175 = .ok (.aload_n 0, 1) := dk_42 (dk_at dksX8_kitchen_7 9 rfl rfl)
theorem dX8_kitchen_176 : decode cX8_kitchen 176 = .ok (.aload_n 0, 1) := dk_42 (dk_at dksX8_kitchen_7 10 rfl rfl)
theorem dX8_kitchen_177 : decode cX8_kitchen 177 = .ok (.getfield 373, 3) := dk_180 1 117 (dk_at dksX8_kitchen_7 11 rfl rfl)
theorem dX8_kitchen_180 : decode cX8_kitchen 180 = .ok (.getfield 210, 3) := dk_180 0 210 (dk_at dksX8_kitchen_7 14 rfl rfl)
theorem dX8_kitchen_183 : decode cX8_kitchen 183 = .ok (.invokevirtual 63, 3) := dk_182 0 63 (dk_at dksX8_kitchen_7 17 rfl rfl)
theorem dX8_kitchen_186 : decode cX8_kitchen 186 = .ok (.ireturn, 1) := dk_172 (dk_at dksX8_kitchen_7 20 rfl rfl)
abbrev cX8_refused : ByteArray := prog_20_method_3_code
def yX8_refused : MethodName := ⟨RX8, "refused", "(I)I"⟩
def dkwX8_refused_0 : List UInt8 := [42, 27, 181, 0, 56, 42, 2, 181, 0, 9, 2, 172]
abbrev dktX8_refused_0 : List UInt8 := dkwX8_refused_0 ++ []
theorem dksX8_refused_0 : cX8_refused.data.toList.drop 0 = dktX8_refused_0 := by decide +kernel
theorem dX8_refused_0 : decode cX8_refused 0 = .ok (.aload_n 0, 1) := dk_42 (dk_at dksX8_refused_0 0 rfl rfl)
theorem dX8_refused_1 : decode cX8_refused 1 = .ok (.iload_n 1, 1) := dk_27 (dk_at dksX8_refused_0 1 rfl rfl)
theorem dX8_refused_2 : decode cX8_refused 2 = .ok (.putfield 56, 3) := dk_181 0 56 (dk_at dksX8_refused_0 2 rfl rfl)
theorem dX8_refused_5 : decode cX8_refused 5 = .ok (.aload_n 0, 1) := dk_42 (dk_at dksX8_refused_0 5 rfl rfl)
theorem dX8_refused_6 : decode cX8_refused 6 = .ok (.iconst (-1), 1) := dk_2 (dk_at dksX8_refused_0 6 rfl rfl)
theorem dX8_refused_7 : decode cX8_refused 7 = .ok (.putfield 9, 3) := dk_181 0 9 (dk_at dksX8_refused_0 7 rfl rfl)
theorem dX8_refused_10 : decode cX8_refused 10 = .ok (.iconst (-1), 1) := dk_2 (dk_at dksX8_refused_0 10 rfl rfl)
theorem dX8_refused_11 : decode cX8_refused 11 = .ok (.ireturn, 1) := dk_172 (dk_at dksX8_refused_0 11 rfl rfl)
abbrev cX8_goesOn : ByteArray := prog_20_method_15_code
def yX8_goesOn : MethodName := ⟨RX8, "goesOn", "()V"⟩
def dkwX8_goesOn_12 : List UInt8 := [181, 0, 88, 177]
abbrev dktX8_goesOn_12 : List UInt8 := dkwX8_goesOn_12 ++ []
def dkwX8_goesOn_11 : List UInt8 := [16, 44, 160, 0, 23, 42, 7, 181, 0, 85, 42, 27, 181, 0, 97, 42, 89, 180, 0, 88, 4, 96]
abbrev dktX8_goesOn_11 : List UInt8 := dkwX8_goesOn_11 ++ dktX8_goesOn_12
def dkwX8_goesOn_10 : List UInt8 := [167, 255, 201, 28, 5, 163, 0, 43, 42, 6, 181, 0, 85, 167, 0, 35, 27, 16, 59, 159, 0, 9, 27]
abbrev dktX8_goesOn_10 : List UInt8 := dkwX8_goesOn_10 ++ dktX8_goesOn_11
def dkwX8_goesOn_9 : List UInt8 := [182, 0, 91, 96, 16, 48, 100, 181, 0, 111, 132, 2, 1, 42, 89, 180, 0, 88, 4, 96, 181, 0, 88]
abbrev dktX8_goesOn_9 : List UInt8 := dkwX8_goesOn_9 ++ dktX8_goesOn_10
def dkwX8_goesOn_8 : List UInt8 := [184, 0, 108, 153, 0, 47, 28, 5, 162, 0, 26, 42, 16, 10, 42, 180, 0, 111, 104, 42, 42, 180, 0, 88]
abbrev dktX8_goesOn_8 : List UInt8 := dkwX8_goesOn_8 ++ dktX8_goesOn_9
def dkwX8_goesOn_7 : List UInt8 := [167, 0, 118, 27, 184, 0, 108, 153, 0, 79, 42, 3, 181, 0, 111, 42, 42, 180, 0, 88, 182, 0, 91]
abbrev dktX8_goesOn_7 : List UInt8 := dkwX8_goesOn_7 ++ dktX8_goesOn_8
def dkwX8_goesOn_6 : List UInt8 := [180, 0, 88, 4, 96, 181, 0, 88, 167, 255, 196, 28, 16, 8, 163, 0, 126, 42, 5, 181, 0, 85]
abbrev dktX8_goesOn_6 : List UInt8 := dkwX8_goesOn_6 ++ dktX8_goesOn_7
def dkwX8_goesOn_5 : List UInt8 := [42, 42, 180, 0, 88, 182, 0, 91, 16, 97, 100, 4, 96, 133, 97, 181, 0, 104, 132, 2, 1, 42, 89]
abbrev dktX8_goesOn_5 : List UInt8 := dkwX8_goesOn_5 ++ dktX8_goesOn_6
def dkwX8_goesOn_4 : List UInt8 := [182, 0, 91, 184, 0, 100, 153, 0, 52, 28, 16, 8, 162, 0, 30, 42, 20, 0, 79, 42, 180, 0, 104, 105]
abbrev dktX8_goesOn_4 : List UInt8 := dkwX8_goesOn_4 ++ dktX8_goesOn_5
def dkwX8_goesOn_3 : List UInt8 := [181, 0, 85, 167, 0, 207, 27, 184, 0, 100, 153, 0, 85, 42, 9, 181, 0, 104, 42, 42, 180, 0, 88]
abbrev dktX8_goesOn_3 : List UInt8 := dkwX8_goesOn_3 ++ dktX8_goesOn_4
def dkwX8_goesOn_2 : List UInt8 := [42, 3, 181, 0, 97, 42, 42, 180, 0, 88, 182, 0, 91, 60, 3, 61, 27, 2, 160, 0, 11, 42, 4]
abbrev dktX8_goesOn_2 : List UInt8 := dkwX8_goesOn_2 ++ dktX8_goesOn_3
def dkwX8_goesOn_1 : List UInt8 := [180, 0, 88, 4, 96, 181, 0, 88, 167, 255, 233, 42, 42, 180, 0, 88, 181, 0, 94, 42, 3, 181, 0, 85]
abbrev dktX8_goesOn_1 : List UInt8 := dkwX8_goesOn_1 ++ dktX8_goesOn_2
def dkwX8_goesOn_0 : List UInt8 := [42, 180, 0, 85, 8, 160, 0, 4, 177, 42, 42, 180, 0, 88, 182, 0, 91, 16, 32, 160, 0, 16, 42, 89]
abbrev dktX8_goesOn_0 : List UInt8 := dkwX8_goesOn_0 ++ dktX8_goesOn_1
theorem dksX8_goesOn_0 : cX8_goesOn.data.toList.drop 0 = dktX8_goesOn_0 := by decide +kernel
theorem dksX8_goesOn_1 : cX8_goesOn.data.toList.drop 24 = dktX8_goesOn_1 := dk_seg dksX8_goesOn_0 24 rfl rfl
theorem dksX8_goesOn_2 : cX8_goesOn.data.toList.drop 48 = dktX8_goesOn_2 := dk_seg dksX8_goesOn_1 24 rfl rfl
theorem dksX8_goesOn_3 : cX8_goesOn.data.toList.drop 71 = dktX8_goesOn_3 := dk_seg dksX8_goesOn_2 23 rfl rfl
theorem dksX8_goesOn_4 : cX8_goesOn.data.toList.drop 94 = dktX8_goesOn_4 := dk_seg dksX8_goesOn_3 23 rfl rfl
theorem dksX8_goesOn_5 : cX8_goesOn.data.toList.drop 118 = dktX8_goesOn_5 := dk_seg dksX8_goesOn_4 24 rfl rfl
theorem dksX8_goesOn_6 : cX8_goesOn.data.toList.drop 141 = dktX8_goesOn_6 := dk_seg dksX8_goesOn_5 23 rfl rfl
theorem dksX8_goesOn_7 : cX8_goesOn.data.toList.drop 163 = dktX8_goesOn_7 := dk_seg dksX8_goesOn_6 22 rfl rfl
theorem dksX8_goesOn_8 : cX8_goesOn.data.toList.drop 186 = dktX8_goesOn_8 := dk_seg dksX8_goesOn_7 23 rfl rfl
theorem dksX8_goesOn_9 : cX8_goesOn.data.toList.drop 210 = dktX8_goesOn_9 := dk_seg dksX8_goesOn_8 24 rfl rfl
theorem dksX8_goesOn_10 : cX8_goesOn.data.toList.drop 233 = dktX8_goesOn_10 := dk_seg dksX8_goesOn_9 23 rfl rfl
theorem dksX8_goesOn_11 : cX8_goesOn.data.toList.drop 256 = dktX8_goesOn_11 := dk_seg dksX8_goesOn_10 23 rfl rfl
theorem dksX8_goesOn_12 : cX8_goesOn.data.toList.drop 278 = dktX8_goesOn_12 := dk_seg dksX8_goesOn_11 22 rfl rfl
theorem dX8_goesOn_0 : decode cX8_goesOn 0 = .ok (.aload_n 0, 1) := dk_42 (dk_at dksX8_goesOn_0 0 rfl rfl)
theorem dX8_goesOn_1 : decode cX8_goesOn 1 = .ok (.getfield 85, 3) := dk_180 0 85 (dk_at dksX8_goesOn_0 1 rfl rfl)
theorem dX8_goesOn_4 : decode cX8_goesOn 4 = .ok (.iconst 5, 1) := dk_8 (dk_at dksX8_goesOn_0 4 rfl rfl)
theorem dX8_goesOn_5 : decode cX8_goesOn 5 = .ok (.if_icmp .ne 4, 3) := dk_160 0 4 (dk_at dksX8_goesOn_0 5 rfl rfl)
theorem dX8_goesOn_8 : decode cX8_goesOn 8 = .ok (.return_, 1) := dk_177 (dk_at dksX8_goesOn_0 8 rfl rfl)
theorem dX8_goesOn_9 : decode cX8_goesOn 9 = .ok (.aload_n 0, 1) := dk_42 (dk_at dksX8_goesOn_0 9 rfl rfl)
theorem dX8_goesOn_10 : decode cX8_goesOn 10 = .ok (.aload_n 0, 1) := dk_42 (dk_at dksX8_goesOn_0 10 rfl rfl)
theorem dX8_goesOn_11 : decode cX8_goesOn 11 = .ok (.getfield 88, 3) := dk_180 0 88 (dk_at dksX8_goesOn_0 11 rfl rfl)
theorem dX8_goesOn_14 : decode cX8_goesOn 14 = .ok (.invokevirtual 91, 3) := dk_182 0 91 (dk_at dksX8_goesOn_0 14 rfl rfl)
theorem dX8_goesOn_17 : decode cX8_goesOn 17 = .ok (.bipush 32, 2) := dk_16 32 (dk_at dksX8_goesOn_0 17 rfl rfl)
theorem dX8_goesOn_19 : decode cX8_goesOn 19 = .ok (.if_icmp .ne 16, 3) := dk_160 0 16 (dk_at dksX8_goesOn_0 19 rfl rfl)
theorem dX8_goesOn_22 : decode cX8_goesOn 22 = .ok (.aload_n 0, 1) := dk_42 (dk_at dksX8_goesOn_0 22 rfl rfl)
theorem dX8_goesOn_23 : decode cX8_goesOn 23 = .ok (.dup, 1) := dk_89 (dk_at dksX8_goesOn_0 23 rfl rfl)
theorem dX8_goesOn_24 : decode cX8_goesOn 24 = .ok (.getfield 88, 3) := dk_180 0 88 (dk_at dksX8_goesOn_1 0 rfl rfl)
theorem dX8_goesOn_27 : decode cX8_goesOn 27 = .ok (.iconst 1, 1) := dk_4 (dk_at dksX8_goesOn_1 3 rfl rfl)
theorem dX8_goesOn_28 : decode cX8_goesOn 28 = .ok (.iadd, 1) := dk_96 (dk_at dksX8_goesOn_1 4 rfl rfl)
theorem dX8_goesOn_29 : decode cX8_goesOn 29 = .ok (.putfield 88, 3) := dk_181 0 88 (dk_at dksX8_goesOn_1 5 rfl rfl)
theorem dX8_goesOn_32 : decode cX8_goesOn 32 = .ok (.goto (-23), 3) := dk_167 255 233 (dk_at dksX8_goesOn_1 8 rfl rfl)
theorem dX8_goesOn_35 : decode cX8_goesOn 35 = .ok (.aload_n 0, 1) := dk_42 (dk_at dksX8_goesOn_1 11 rfl rfl)
theorem dX8_goesOn_36 : decode cX8_goesOn 36 = .ok (.aload_n 0, 1) := dk_42 (dk_at dksX8_goesOn_1 12 rfl rfl)
theorem dX8_goesOn_37 : decode cX8_goesOn 37 = .ok (.getfield 88, 3) := dk_180 0 88 (dk_at dksX8_goesOn_1 13 rfl rfl)
theorem dX8_goesOn_40 : decode cX8_goesOn 40 = .ok (.putfield 94, 3) := dk_181 0 94 (dk_at dksX8_goesOn_1 16 rfl rfl)
theorem dX8_goesOn_43 : decode cX8_goesOn 43 = .ok (.aload_n 0, 1) := dk_42 (dk_at dksX8_goesOn_1 19 rfl rfl)
theorem dX8_goesOn_44 : decode cX8_goesOn 44 = .ok (.iconst 0, 1) := dk_3 (dk_at dksX8_goesOn_1 20 rfl rfl)
theorem dX8_goesOn_45 : decode cX8_goesOn 45 = .ok (.putfield 85, 3) := dk_181 0 85 (dk_at dksX8_goesOn_1 21 rfl rfl)
theorem dX8_goesOn_48 : decode cX8_goesOn 48 = .ok (.aload_n 0, 1) := dk_42 (dk_at dksX8_goesOn_2 0 rfl rfl)
theorem dX8_goesOn_49 : decode cX8_goesOn 49 = .ok (.iconst 0, 1) := dk_3 (dk_at dksX8_goesOn_2 1 rfl rfl)
theorem dX8_goesOn_50 : decode cX8_goesOn 50 = .ok (.putfield 97, 3) := dk_181 0 97 (dk_at dksX8_goesOn_2 2 rfl rfl)
theorem dX8_goesOn_53 : decode cX8_goesOn 53 = .ok (.aload_n 0, 1) := dk_42 (dk_at dksX8_goesOn_2 5 rfl rfl)
theorem dX8_goesOn_54 : decode cX8_goesOn 54 = .ok (.aload_n 0, 1) := dk_42 (dk_at dksX8_goesOn_2 6 rfl rfl)
theorem dX8_goesOn_55 : decode cX8_goesOn 55 = .ok (.getfield 88, 3) := dk_180 0 88 (dk_at dksX8_goesOn_2 7 rfl rfl)
theorem dX8_goesOn_58 : decode cX8_goesOn 58 = .ok (.invokevirtual 91, 3) := dk_182 0 91 (dk_at dksX8_goesOn_2 10 rfl rfl)
theorem dX8_goesOn_61 : decode cX8_goesOn 61 = .ok (.istore_n 1, 1) := dk_60 (dk_at dksX8_goesOn_2 13 rfl rfl)
theorem dX8_goesOn_62 : decode cX8_goesOn 62 = .ok (.iconst 0, 1) := dk_3 (dk_at dksX8_goesOn_2 14 rfl rfl)
theorem dX8_goesOn_63 : decode cX8_goesOn 63 = .ok (.istore_n 2, 1) := dk_61 (dk_at dksX8_goesOn_2 15 rfl rfl)
theorem dX8_goesOn_64 : decode cX8_goesOn 64 = .ok (.iload_n 1, 1) := dk_27 (dk_at dksX8_goesOn_2 16 rfl rfl)
theorem dX8_goesOn_65 : decode cX8_goesOn 65 = .ok (.iconst (-1), 1) := dk_2 (dk_at dksX8_goesOn_2 17 rfl rfl)
theorem dX8_goesOn_66 : decode cX8_goesOn 66 = .ok (.if_icmp .ne 11, 3) := dk_160 0 11 (dk_at dksX8_goesOn_2 18 rfl rfl)
theorem dX8_goesOn_69 : decode cX8_goesOn 69 = .ok (.aload_n 0, 1) := dk_42 (dk_at dksX8_goesOn_2 21 rfl rfl)
theorem dX8_goesOn_70 : decode cX8_goesOn 70 = .ok (.iconst 1, 1) := dk_4 (dk_at dksX8_goesOn_2 22 rfl rfl)
theorem dX8_goesOn_71 : decode cX8_goesOn 71 = .ok (.putfield 85, 3) := dk_181 0 85 (dk_at dksX8_goesOn_3 0 rfl rfl)
theorem dX8_goesOn_74 : decode cX8_goesOn 74 = .ok (.goto 207, 3) := dk_167 0 207 (dk_at dksX8_goesOn_3 3 rfl rfl)
theorem dX8_goesOn_77 : decode cX8_goesOn 77 = .ok (.iload_n 1, 1) := dk_27 (dk_at dksX8_goesOn_3 6 rfl rfl)
theorem dX8_goesOn_78 : decode cX8_goesOn 78 = .ok (.invokestatic 100, 3) := dk_184 0 100 (dk_at dksX8_goesOn_3 7 rfl rfl)
theorem dX8_goesOn_81 : decode cX8_goesOn 81 = .ok (.ifCond .eq 85, 3) := dk_153 0 85 (dk_at dksX8_goesOn_3 10 rfl rfl)
theorem dX8_goesOn_84 : decode cX8_goesOn 84 = .ok (.aload_n 0, 1) := dk_42 (dk_at dksX8_goesOn_3 13 rfl rfl)
theorem dX8_goesOn_85 : decode cX8_goesOn 85 = .ok (.lconst 0, 1) := dk_9 (dk_at dksX8_goesOn_3 14 rfl rfl)
theorem dX8_goesOn_86 : decode cX8_goesOn 86 = .ok (.putfield 104, 3) := dk_181 0 104 (dk_at dksX8_goesOn_3 15 rfl rfl)
theorem dX8_goesOn_89 : decode cX8_goesOn 89 = .ok (.aload_n 0, 1) := dk_42 (dk_at dksX8_goesOn_3 18 rfl rfl)
theorem dX8_goesOn_90 : decode cX8_goesOn 90 = .ok (.aload_n 0, 1) := dk_42 (dk_at dksX8_goesOn_3 19 rfl rfl)
theorem dX8_goesOn_91 : decode cX8_goesOn 91 = .ok (.getfield 88, 3) := dk_180 0 88 (dk_at dksX8_goesOn_3 20 rfl rfl)
theorem dX8_goesOn_94 : decode cX8_goesOn 94 = .ok (.invokevirtual 91, 3) := dk_182 0 91 (dk_at dksX8_goesOn_4 0 rfl rfl)
theorem dX8_goesOn_97 : decode cX8_goesOn 97 = .ok (.invokestatic 100, 3) := dk_184 0 100 (dk_at dksX8_goesOn_4 3 rfl rfl)
theorem dX8_goesOn_100 : decode cX8_goesOn 100 = .ok (.ifCond .eq 52, 3) := dk_153 0 52 (dk_at dksX8_goesOn_4 6 rfl rfl)
theorem dX8_goesOn_103 : decode cX8_goesOn 103 = .ok (.iload_n 2, 1) := dk_28 (dk_at dksX8_goesOn_4 9 rfl rfl)
theorem dX8_goesOn_104 : decode cX8_goesOn 104 = .ok (.bipush 8, 2) := dk_16 8 (dk_at dksX8_goesOn_4 10 rfl rfl)
theorem dX8_goesOn_106 : decode cX8_goesOn 106 = .ok (.if_icmp .ge 30, 3) := dk_162 0 30 (dk_at dksX8_goesOn_4 12 rfl rfl)
theorem dX8_goesOn_109 : decode cX8_goesOn 109 = .ok (.aload_n 0, 1) := dk_42 (dk_at dksX8_goesOn_4 15 rfl rfl)
theorem dX8_goesOn_110 : decode cX8_goesOn 110 = .ok (.ldc2_w 79, 3) := dk_20 0 79 (dk_at dksX8_goesOn_4 16 rfl rfl)
theorem dX8_goesOn_113 : decode cX8_goesOn 113 = .ok (.aload_n 0, 1) := dk_42 (dk_at dksX8_goesOn_4 19 rfl rfl)
theorem dX8_goesOn_114 : decode cX8_goesOn 114 = .ok (.getfield 104, 3) := dk_180 0 104 (dk_at dksX8_goesOn_4 20 rfl rfl)
theorem dX8_goesOn_117 : decode cX8_goesOn 117 = .ok (.lmul, 1) := dk_105 (dk_at dksX8_goesOn_4 23 rfl rfl)
theorem dX8_goesOn_118 : decode cX8_goesOn 118 = .ok (.aload_n 0, 1) := dk_42 (dk_at dksX8_goesOn_5 0 rfl rfl)
theorem dX8_goesOn_119 : decode cX8_goesOn 119 = .ok (.aload_n 0, 1) := dk_42 (dk_at dksX8_goesOn_5 1 rfl rfl)
theorem dX8_goesOn_120 : decode cX8_goesOn 120 = .ok (.getfield 88, 3) := dk_180 0 88 (dk_at dksX8_goesOn_5 2 rfl rfl)
theorem dX8_goesOn_123 : decode cX8_goesOn 123 = .ok (.invokevirtual 91, 3) := dk_182 0 91 (dk_at dksX8_goesOn_5 5 rfl rfl)
theorem dX8_goesOn_126 : decode cX8_goesOn 126 = .ok (.bipush 97, 2) := dk_16 97 (dk_at dksX8_goesOn_5 8 rfl rfl)
theorem dX8_goesOn_128 : decode cX8_goesOn 128 = .ok (.isub, 1) := dk_100 (dk_at dksX8_goesOn_5 10 rfl rfl)
theorem dX8_goesOn_129 : decode cX8_goesOn 129 = .ok (.iconst 1, 1) := dk_4 (dk_at dksX8_goesOn_5 11 rfl rfl)
theorem dX8_goesOn_130 : decode cX8_goesOn 130 = .ok (.iadd, 1) := dk_96 (dk_at dksX8_goesOn_5 12 rfl rfl)
theorem dX8_goesOn_131 : decode cX8_goesOn 131 = .ok (.i2l, 1) := dk_133 (dk_at dksX8_goesOn_5 13 rfl rfl)
theorem dX8_goesOn_132 : decode cX8_goesOn 132 = .ok (.ladd, 1) := dk_97 (dk_at dksX8_goesOn_5 14 rfl rfl)
theorem dX8_goesOn_133 : decode cX8_goesOn 133 = .ok (.putfield 104, 3) := dk_181 0 104 (dk_at dksX8_goesOn_5 15 rfl rfl)
theorem dX8_goesOn_136 : decode cX8_goesOn 136 = .ok (.iinc 2 1, 3) := dk_132 2 1 (dk_at dksX8_goesOn_5 18 rfl rfl)
theorem dX8_goesOn_139 : decode cX8_goesOn 139 = .ok (.aload_n 0, 1) := dk_42 (dk_at dksX8_goesOn_5 21 rfl rfl)
theorem dX8_goesOn_140 : decode cX8_goesOn 140 = .ok (.dup, 1) := dk_89 (dk_at dksX8_goesOn_5 22 rfl rfl)
theorem dX8_goesOn_141 : decode cX8_goesOn 141 = .ok (.getfield 88, 3) := dk_180 0 88 (dk_at dksX8_goesOn_6 0 rfl rfl)
theorem dX8_goesOn_144 : decode cX8_goesOn 144 = .ok (.iconst 1, 1) := dk_4 (dk_at dksX8_goesOn_6 3 rfl rfl)
theorem dX8_goesOn_145 : decode cX8_goesOn 145 = .ok (.iadd, 1) := dk_96 (dk_at dksX8_goesOn_6 4 rfl rfl)
theorem dX8_goesOn_146 : decode cX8_goesOn 146 = .ok (.putfield 88, 3) := dk_181 0 88 (dk_at dksX8_goesOn_6 5 rfl rfl)
theorem dX8_goesOn_149 : decode cX8_goesOn 149 = .ok (.goto (-60), 3) := dk_167 255 196 (dk_at dksX8_goesOn_6 8 rfl rfl)
theorem dX8_goesOn_152 : decode cX8_goesOn 152 = .ok (.iload_n 2, 1) := dk_28 (dk_at dksX8_goesOn_6 11 rfl rfl)
theorem dX8_goesOn_153 : decode cX8_goesOn 153 = .ok (.bipush 8, 2) := dk_16 8 (dk_at dksX8_goesOn_6 12 rfl rfl)
theorem dX8_goesOn_155 : decode cX8_goesOn 155 = .ok (.if_icmp .gt 126, 3) := dk_163 0 126 (dk_at dksX8_goesOn_6 14 rfl rfl)
theorem dX8_goesOn_158 : decode cX8_goesOn 158 = .ok (.aload_n 0, 1) := dk_42 (dk_at dksX8_goesOn_6 17 rfl rfl)
theorem dX8_goesOn_159 : decode cX8_goesOn 159 = .ok (.iconst 2, 1) := dk_5 (dk_at dksX8_goesOn_6 18 rfl rfl)
theorem dX8_goesOn_160 : decode cX8_goesOn 160 = .ok (.putfield 85, 3) := dk_181 0 85 (dk_at dksX8_goesOn_6 19 rfl rfl)
theorem dX8_goesOn_163 : decode cX8_goesOn 163 = .ok (.goto 118, 3) := dk_167 0 118 (dk_at dksX8_goesOn_7 0 rfl rfl)
theorem dX8_goesOn_166 : decode cX8_goesOn 166 = .ok (.iload_n 1, 1) := dk_27 (dk_at dksX8_goesOn_7 3 rfl rfl)
theorem dX8_goesOn_167 : decode cX8_goesOn 167 = .ok (.invokestatic 108, 3) := dk_184 0 108 (dk_at dksX8_goesOn_7 4 rfl rfl)
theorem dX8_goesOn_170 : decode cX8_goesOn 170 = .ok (.ifCond .eq 79, 3) := dk_153 0 79 (dk_at dksX8_goesOn_7 7 rfl rfl)
theorem dX8_goesOn_173 : decode cX8_goesOn 173 = .ok (.aload_n 0, 1) := dk_42 (dk_at dksX8_goesOn_7 10 rfl rfl)
theorem dX8_goesOn_174 : decode cX8_goesOn 174 = .ok (.iconst 0, 1) := dk_3 (dk_at dksX8_goesOn_7 11 rfl rfl)
theorem dX8_goesOn_175 : decode cX8_goesOn 175 = .ok (.putfield 111, 3) := dk_181 0 111 (dk_at dksX8_goesOn_7 12 rfl rfl)
theorem dX8_goesOn_178 : decode cX8_goesOn 178 = .ok (.aload_n 0, 1) := dk_42 (dk_at dksX8_goesOn_7 15 rfl rfl)
theorem dX8_goesOn_179 : decode cX8_goesOn 179 = .ok (.aload_n 0, 1) := dk_42 (dk_at dksX8_goesOn_7 16 rfl rfl)
theorem dX8_goesOn_180 : decode cX8_goesOn 180 = .ok (.getfield 88, 3) := dk_180 0 88 (dk_at dksX8_goesOn_7 17 rfl rfl)
theorem dX8_goesOn_183 : decode cX8_goesOn 183 = .ok (.invokevirtual 91, 3) := dk_182 0 91 (dk_at dksX8_goesOn_7 20 rfl rfl)
theorem dX8_goesOn_186 : decode cX8_goesOn 186 = .ok (.invokestatic 108, 3) := dk_184 0 108 (dk_at dksX8_goesOn_8 0 rfl rfl)
theorem dX8_goesOn_189 : decode cX8_goesOn 189 = .ok (.ifCond .eq 47, 3) := dk_153 0 47 (dk_at dksX8_goesOn_8 3 rfl rfl)
theorem dX8_goesOn_192 : decode cX8_goesOn 192 = .ok (.iload_n 2, 1) := dk_28 (dk_at dksX8_goesOn_8 6 rfl rfl)
theorem dX8_goesOn_193 : decode cX8_goesOn 193 = .ok (.iconst 2, 1) := dk_5 (dk_at dksX8_goesOn_8 7 rfl rfl)
theorem dX8_goesOn_194 : decode cX8_goesOn 194 = .ok (.if_icmp .ge 26, 3) := dk_162 0 26 (dk_at dksX8_goesOn_8 8 rfl rfl)
theorem dX8_goesOn_197 : decode cX8_goesOn 197 = .ok (.aload_n 0, 1) := dk_42 (dk_at dksX8_goesOn_8 11 rfl rfl)
theorem dX8_goesOn_198 : decode cX8_goesOn 198 = .ok (.bipush 10, 2) := dk_16 10 (dk_at dksX8_goesOn_8 12 rfl rfl)
theorem dX8_goesOn_200 : decode cX8_goesOn 200 = .ok (.aload_n 0, 1) := dk_42 (dk_at dksX8_goesOn_8 14 rfl rfl)
theorem dX8_goesOn_201 : decode cX8_goesOn 201 = .ok (.getfield 111, 3) := dk_180 0 111 (dk_at dksX8_goesOn_8 15 rfl rfl)
theorem dX8_goesOn_204 : decode cX8_goesOn 204 = .ok (.imul, 1) := dk_104 (dk_at dksX8_goesOn_8 18 rfl rfl)
theorem dX8_goesOn_205 : decode cX8_goesOn 205 = .ok (.aload_n 0, 1) := dk_42 (dk_at dksX8_goesOn_8 19 rfl rfl)
theorem dX8_goesOn_206 : decode cX8_goesOn 206 = .ok (.aload_n 0, 1) := dk_42 (dk_at dksX8_goesOn_8 20 rfl rfl)
theorem dX8_goesOn_207 : decode cX8_goesOn 207 = .ok (.getfield 88, 3) := dk_180 0 88 (dk_at dksX8_goesOn_8 21 rfl rfl)
theorem dX8_goesOn_210 : decode cX8_goesOn 210 = .ok (.invokevirtual 91, 3) := dk_182 0 91 (dk_at dksX8_goesOn_9 0 rfl rfl)
theorem dX8_goesOn_213 : decode cX8_goesOn 213 = .ok (.iadd, 1) := dk_96 (dk_at dksX8_goesOn_9 3 rfl rfl)
theorem dX8_goesOn_214 : decode cX8_goesOn 214 = .ok (.bipush 48, 2) := dk_16 48 (dk_at dksX8_goesOn_9 4 rfl rfl)
theorem dX8_goesOn_216 : decode cX8_goesOn 216 = .ok (.isub, 1) := dk_100 (dk_at dksX8_goesOn_9 6 rfl rfl)
theorem dX8_goesOn_217 : decode cX8_goesOn 217 = .ok (.putfield 111, 3) := dk_181 0 111 (dk_at dksX8_goesOn_9 7 rfl rfl)
theorem dX8_goesOn_220 : decode cX8_goesOn 220 = .ok (.iinc 2 1, 3) := dk_132 2 1 (dk_at dksX8_goesOn_9 10 rfl rfl)
theorem dX8_goesOn_223 : decode cX8_goesOn 223 = .ok (.aload_n 0, 1) := dk_42 (dk_at dksX8_goesOn_9 13 rfl rfl)
theorem dX8_goesOn_224 : decode cX8_goesOn 224 = .ok (.dup, 1) := dk_89 (dk_at dksX8_goesOn_9 14 rfl rfl)
theorem dX8_goesOn_225 : decode cX8_goesOn 225 = .ok (.getfield 88, 3) := dk_180 0 88 (dk_at dksX8_goesOn_9 15 rfl rfl)
theorem dX8_goesOn_228 : decode cX8_goesOn 228 = .ok (.iconst 1, 1) := dk_4 (dk_at dksX8_goesOn_9 18 rfl rfl)
theorem dX8_goesOn_229 : decode cX8_goesOn 229 = .ok (.iadd, 1) := dk_96 (dk_at dksX8_goesOn_9 19 rfl rfl)
theorem dX8_goesOn_230 : decode cX8_goesOn 230 = .ok (.putfield 88, 3) := dk_181 0 88 (dk_at dksX8_goesOn_9 20 rfl rfl)
theorem dX8_goesOn_233 : decode cX8_goesOn 233 = .ok (.goto (-55), 3) := dk_167 255 201 (dk_at dksX8_goesOn_10 0 rfl rfl)
theorem dX8_goesOn_236 : decode cX8_goesOn 236 = .ok (.iload_n 2, 1) := dk_28 (dk_at dksX8_goesOn_10 3 rfl rfl)
theorem dX8_goesOn_237 : decode cX8_goesOn 237 = .ok (.iconst 2, 1) := dk_5 (dk_at dksX8_goesOn_10 4 rfl rfl)
theorem dX8_goesOn_238 : decode cX8_goesOn 238 = .ok (.if_icmp .gt 43, 3) := dk_163 0 43 (dk_at dksX8_goesOn_10 5 rfl rfl)
theorem dX8_goesOn_241 : decode cX8_goesOn 241 = .ok (.aload_n 0, 1) := dk_42 (dk_at dksX8_goesOn_10 8 rfl rfl)
theorem dX8_goesOn_242 : decode cX8_goesOn 242 = .ok (.iconst 3, 1) := dk_6 (dk_at dksX8_goesOn_10 9 rfl rfl)
theorem dX8_goesOn_243 : decode cX8_goesOn 243 = .ok (.putfield 85, 3) := dk_181 0 85 (dk_at dksX8_goesOn_10 10 rfl rfl)
theorem dX8_goesOn_246 : decode cX8_goesOn 246 = .ok (.goto 35, 3) := dk_167 0 35 (dk_at dksX8_goesOn_10 13 rfl rfl)
theorem dX8_goesOn_249 : decode cX8_goesOn 249 = .ok (.iload_n 1, 1) := dk_27 (dk_at dksX8_goesOn_10 16 rfl rfl)
theorem dX8_goesOn_250 : decode cX8_goesOn 250 = .ok (.bipush 59, 2) := dk_16 59 (dk_at dksX8_goesOn_10 17 rfl rfl)
theorem dX8_goesOn_252 : decode cX8_goesOn 252 = .ok (.if_icmp .eq 9, 3) := dk_159 0 9 (dk_at dksX8_goesOn_10 19 rfl rfl)
theorem dX8_goesOn_255 : decode cX8_goesOn 255 = .ok (.iload_n 1, 1) := dk_27 (dk_at dksX8_goesOn_10 22 rfl rfl)
theorem dX8_goesOn_256 : decode cX8_goesOn 256 = .ok (.bipush 44, 2) := dk_16 44 (dk_at dksX8_goesOn_11 0 rfl rfl)
theorem dX8_goesOn_258 : decode cX8_goesOn 258 = .ok (.if_icmp .ne 23, 3) := dk_160 0 23 (dk_at dksX8_goesOn_11 2 rfl rfl)
theorem dX8_goesOn_261 : decode cX8_goesOn 261 = .ok (.aload_n 0, 1) := dk_42 (dk_at dksX8_goesOn_11 5 rfl rfl)
theorem dX8_goesOn_262 : decode cX8_goesOn 262 = .ok (.iconst 4, 1) := dk_7 (dk_at dksX8_goesOn_11 6 rfl rfl)
theorem dX8_goesOn_263 : decode cX8_goesOn 263 = .ok (.putfield 85, 3) := dk_181 0 85 (dk_at dksX8_goesOn_11 7 rfl rfl)
theorem dX8_goesOn_266 : decode cX8_goesOn 266 = .ok (.aload_n 0, 1) := dk_42 (dk_at dksX8_goesOn_11 10 rfl rfl)
theorem dX8_goesOn_267 : decode cX8_goesOn 267 = .ok (.iload_n 1, 1) := dk_27 (dk_at dksX8_goesOn_11 11 rfl rfl)
theorem dX8_goesOn_268 : decode cX8_goesOn 268 = .ok (.putfield 97, 3) := dk_181 0 97 (dk_at dksX8_goesOn_11 12 rfl rfl)
theorem dX8_goesOn_271 : decode cX8_goesOn 271 = .ok (.aload_n 0, 1) := dk_42 (dk_at dksX8_goesOn_11 15 rfl rfl)
theorem dX8_goesOn_272 : decode cX8_goesOn 272 = .ok (.dup, 1) := dk_89 (dk_at dksX8_goesOn_11 16 rfl rfl)
theorem dX8_goesOn_273 : decode cX8_goesOn 273 = .ok (.getfield 88, 3) := dk_180 0 88 (dk_at dksX8_goesOn_11 17 rfl rfl)
theorem dX8_goesOn_276 : decode cX8_goesOn 276 = .ok (.iconst 1, 1) := dk_4 (dk_at dksX8_goesOn_11 20 rfl rfl)
theorem dX8_goesOn_277 : decode cX8_goesOn 277 = .ok (.iadd, 1) := dk_96 (dk_at dksX8_goesOn_11 21 rfl rfl)
theorem dX8_goesOn_278 : decode cX8_goesOn 278 = .ok (.putfield 88, 3) := dk_181 0 88 (dk_at dksX8_goesOn_12 0 rfl rfl)
theorem dX8_goesOn_281 : decode cX8_goesOn 281 = .ok (.return_, 1) := dk_177 (dk_at dksX8_goesOn_12 3 rfl rfl)
abbrev cX8_byteAt : ByteArray := prog_20_method_11_code
def yX8_byteAt : MethodName := ⟨RX8, "byteAt", "(I)I"⟩
def dkwX8_byteAt_0 : List UInt8 := [27, 42, 180, 0, 70, 162, 0, 16, 42, 180, 0, 13, 27, 51, 17, 0, 255, 126, 167, 0, 4, 2, 172]
abbrev dktX8_byteAt_0 : List UInt8 := dkwX8_byteAt_0 ++ []
theorem dksX8_byteAt_0 : cX8_byteAt.data.toList.drop 0 = dktX8_byteAt_0 := by decide +kernel
theorem dX8_byteAt_0 : decode cX8_byteAt 0 = .ok (.iload_n 1, 1) := dk_27 (dk_at dksX8_byteAt_0 0 rfl rfl)
theorem dX8_byteAt_1 : decode cX8_byteAt 1 = .ok (.aload_n 0, 1) := dk_42 (dk_at dksX8_byteAt_0 1 rfl rfl)
theorem dX8_byteAt_2 : decode cX8_byteAt 2 = .ok (.getfield 70, 3) := dk_180 0 70 (dk_at dksX8_byteAt_0 2 rfl rfl)
theorem dX8_byteAt_5 : decode cX8_byteAt 5 = .ok (.if_icmp .ge 16, 3) := dk_162 0 16 (dk_at dksX8_byteAt_0 5 rfl rfl)
theorem dX8_byteAt_8 : decode cX8_byteAt 8 = .ok (.aload_n 0, 1) := dk_42 (dk_at dksX8_byteAt_0 8 rfl rfl)
theorem dX8_byteAt_9 : decode cX8_byteAt 9 = .ok (.getfield 13, 3) := dk_180 0 13 (dk_at dksX8_byteAt_0 9 rfl rfl)
theorem dX8_byteAt_12 : decode cX8_byteAt 12 = .ok (.iload_n 1, 1) := dk_27 (dk_at dksX8_byteAt_0 12 rfl rfl)
theorem dX8_byteAt_13 : decode cX8_byteAt 13 = .ok (.baload, 1) := dk_51 (dk_at dksX8_byteAt_0 13 rfl rfl)
theorem dX8_byteAt_14 : decode cX8_byteAt 14 = .ok (.sipush 255, 3) := dk_17 0 255 (dk_at dksX8_byteAt_0 14 rfl rfl)
theorem dX8_byteAt_17 : decode cX8_byteAt 17 = .ok (.iand, 1) := dk_126 (dk_at dksX8_byteAt_0 17 rfl rfl)
theorem dX8_byteAt_18 : decode cX8_byteAt 18 = .ok (.goto 4, 3) := dk_167 0 4 (dk_at dksX8_byteAt_0 18 rfl rfl)
theorem dX8_byteAt_21 : decode cX8_byteAt 21 = .ok (.iconst (-1), 1) := dk_2 (dk_at dksX8_byteAt_0 21 rfl rfl)
theorem dX8_byteAt_22 : decode cX8_byteAt 22 = .ok (.ireturn, 1) := dk_172 (dk_at dksX8_byteAt_0 22 rfl rfl)
abbrev cX8_isLetter : ByteArray := prog_20_method_12_code
def yX8_isLetter : MethodName := ⟨RX8, "isLetter", "(I)Z"⟩
def dkwX8_isLetter_0 : List UInt8 := [26, 16, 97, 161, 0, 13, 26, 16, 122, 163, 0, 7, 4, 167, 0, 4, 3, 172]
abbrev dktX8_isLetter_0 : List UInt8 := dkwX8_isLetter_0 ++ []
theorem dksX8_isLetter_0 : cX8_isLetter.data.toList.drop 0 = dktX8_isLetter_0 := by decide +kernel
theorem dX8_isLetter_0 : decode cX8_isLetter 0 = .ok (.iload_n 0, 1) := dk_26 (dk_at dksX8_isLetter_0 0 rfl rfl)
theorem dX8_isLetter_1 : decode cX8_isLetter 1 = .ok (.bipush 97, 2) := dk_16 97 (dk_at dksX8_isLetter_0 1 rfl rfl)
theorem dX8_isLetter_3 : decode cX8_isLetter 3 = .ok (.if_icmp .lt 13, 3) := dk_161 0 13 (dk_at dksX8_isLetter_0 3 rfl rfl)
theorem dX8_isLetter_6 : decode cX8_isLetter 6 = .ok (.iload_n 0, 1) := dk_26 (dk_at dksX8_isLetter_0 6 rfl rfl)
theorem dX8_isLetter_7 : decode cX8_isLetter 7 = .ok (.bipush 122, 2) := dk_16 122 (dk_at dksX8_isLetter_0 7 rfl rfl)
theorem dX8_isLetter_9 : decode cX8_isLetter 9 = .ok (.if_icmp .gt 7, 3) := dk_163 0 7 (dk_at dksX8_isLetter_0 9 rfl rfl)
theorem dX8_isLetter_12 : decode cX8_isLetter 12 = .ok (.iconst 1, 1) := dk_4 (dk_at dksX8_isLetter_0 12 rfl rfl)
theorem dX8_isLetter_13 : decode cX8_isLetter 13 = .ok (.goto 4, 3) := dk_167 0 4 (dk_at dksX8_isLetter_0 13 rfl rfl)
theorem dX8_isLetter_16 : decode cX8_isLetter 16 = .ok (.iconst 0, 1) := dk_3 (dk_at dksX8_isLetter_0 16 rfl rfl)
theorem dX8_isLetter_17 : decode cX8_isLetter 17 = .ok (.ireturn, 1) := dk_172 (dk_at dksX8_isLetter_0 17 rfl rfl)
abbrev cX8_isDigit : ByteArray := prog_20_method_13_code
def yX8_isDigit : MethodName := ⟨RX8, "isDigit", "(I)Z"⟩
def dkwX8_isDigit_0 : List UInt8 := [26, 16, 48, 161, 0, 13, 26, 16, 57, 163, 0, 7, 4, 167, 0, 4, 3, 172]
abbrev dktX8_isDigit_0 : List UInt8 := dkwX8_isDigit_0 ++ []
theorem dksX8_isDigit_0 : cX8_isDigit.data.toList.drop 0 = dktX8_isDigit_0 := by decide +kernel
theorem dX8_isDigit_0 : decode cX8_isDigit 0 = .ok (.iload_n 0, 1) := dk_26 (dk_at dksX8_isDigit_0 0 rfl rfl)
theorem dX8_isDigit_1 : decode cX8_isDigit 1 = .ok (.bipush 48, 2) := dk_16 48 (dk_at dksX8_isDigit_0 1 rfl rfl)
theorem dX8_isDigit_3 : decode cX8_isDigit 3 = .ok (.if_icmp .lt 13, 3) := dk_161 0 13 (dk_at dksX8_isDigit_0 3 rfl rfl)
theorem dX8_isDigit_6 : decode cX8_isDigit 6 = .ok (.iload_n 0, 1) := dk_26 (dk_at dksX8_isDigit_0 6 rfl rfl)
theorem dX8_isDigit_7 : decode cX8_isDigit 7 = .ok (.bipush 57, 2) := dk_16 57 (dk_at dksX8_isDigit_0 7 rfl rfl)
theorem dX8_isDigit_9 : decode cX8_isDigit 9 = .ok (.if_icmp .gt 7, 3) := dk_163 0 7 (dk_at dksX8_isDigit_0 9 rfl rfl)
theorem dX8_isDigit_12 : decode cX8_isDigit 12 = .ok (.iconst 1, 1) := dk_4 (dk_at dksX8_isDigit_0 12 rfl rfl)
theorem dX8_isDigit_13 : decode cX8_isDigit 13 = .ok (.goto 4, 3) := dk_167 0 4 (dk_at dksX8_isDigit_0 13 rfl rfl)
theorem dX8_isDigit_16 : decode cX8_isDigit 16 = .ok (.iconst 0, 1) := dk_3 (dk_at dksX8_isDigit_0 16 rfl rfl)
theorem dX8_isDigit_17 : decode cX8_isDigit 17 = .ok (.ireturn, 1) := dk_172 (dk_at dksX8_isDigit_0 17 rfl rfl)
abbrev cX8_readAll : ByteArray := prog_20_method_31_code
def yX8_readAll : MethodName := ⟨RX8, "readAll", "()V"⟩
def dkwX8_readAll_2 : List UInt8 := [180, 0, 213, 5, 162, 0, 9, 42, 16, 6, 182, 0, 134, 177]
abbrev dktX8_readAll_2 : List UInt8 := dkwX8_readAll_2 ++ []
def dkwX8_readAll_1 : List UInt8 := [4, 159, 0, 8, 42, 4, 182, 0, 134, 42, 180, 0, 171, 180, 0, 210, 153, 0, 14, 42, 180, 0, 171]
abbrev dktX8_readAll_1 : List UInt8 := dkwX8_readAll_1 ++ dktX8_readAll_2
def dkwX8_readAll_0 : List UInt8 := [4, 60, 27, 153, 0, 17, 42, 182, 0, 204, 42, 16, 59, 182, 0, 207, 60, 167, 255, 241, 42, 180, 0, 85]
abbrev dktX8_readAll_0 : List UInt8 := dkwX8_readAll_0 ++ dktX8_readAll_1
theorem dksX8_readAll_0 : cX8_readAll.data.toList.drop 0 = dktX8_readAll_0 := by decide +kernel
theorem dksX8_readAll_1 : cX8_readAll.data.toList.drop 24 = dktX8_readAll_1 := dk_seg dksX8_readAll_0 24 rfl rfl
theorem dksX8_readAll_2 : cX8_readAll.data.toList.drop 47 = dktX8_readAll_2 := dk_seg dksX8_readAll_1 23 rfl rfl
theorem dX8_readAll_0 : decode cX8_readAll 0 = .ok (.iconst 1, 1) := dk_4 (dk_at dksX8_readAll_0 0 rfl rfl)
theorem dX8_readAll_1 : decode cX8_readAll 1 = .ok (.istore_n 1, 1) := dk_60 (dk_at dksX8_readAll_0 1 rfl rfl)
theorem dX8_readAll_2 : decode cX8_readAll 2 = .ok (.iload_n 1, 1) := dk_27 (dk_at dksX8_readAll_0 2 rfl rfl)
theorem dX8_readAll_3 : decode cX8_readAll 3 = .ok (.ifCond .eq 17, 3) := dk_153 0 17 (dk_at dksX8_readAll_0 3 rfl rfl)
theorem dX8_readAll_6 : decode cX8_readAll 6 = .ok (.aload_n 0, 1) := dk_42 (dk_at dksX8_readAll_0 6 rfl rfl)
theorem dX8_readAll_7 : decode cX8_readAll 7 = .ok (.invokevirtual 204, 3) := dk_182 0 204 (dk_at dksX8_readAll_0 7 rfl rfl)
theorem dX8_readAll_10 : decode cX8_readAll 10 = .ok (.aload_n 0, 1) := dk_42 (dk_at dksX8_readAll_0 10 rfl rfl)
theorem dX8_readAll_11 : decode cX8_readAll 11 = .ok (.bipush 59, 2) := dk_16 59 (dk_at dksX8_readAll_0 11 rfl rfl)
theorem dX8_readAll_13 : decode cX8_readAll 13 = .ok (.invokevirtual 207, 3) := dk_182 0 207 (dk_at dksX8_readAll_0 13 rfl rfl)
theorem dX8_readAll_16 : decode cX8_readAll 16 = .ok (.istore_n 1, 1) := dk_60 (dk_at dksX8_readAll_0 16 rfl rfl)
theorem dX8_readAll_17 : decode cX8_readAll 17 = .ok (.goto (-15), 3) := dk_167 255 241 (dk_at dksX8_readAll_0 17 rfl rfl)
theorem dX8_readAll_20 : decode cX8_readAll 20 = .ok (.aload_n 0, 1) := dk_42 (dk_at dksX8_readAll_0 20 rfl rfl)
theorem dX8_readAll_21 : decode cX8_readAll 21 = .ok (.getfield 85, 3) := dk_180 0 85 (dk_at dksX8_readAll_0 21 rfl rfl)
theorem dX8_readAll_24 : decode cX8_readAll 24 = .ok (.iconst 1, 1) := dk_4 (dk_at dksX8_readAll_1 0 rfl rfl)
theorem dX8_readAll_25 : decode cX8_readAll 25 = .ok (.if_icmp .eq 8, 3) := dk_159 0 8 (dk_at dksX8_readAll_1 1 rfl rfl)
theorem dX8_readAll_28 : decode cX8_readAll 28 = .ok (.aload_n 0, 1) := dk_42 (dk_at dksX8_readAll_1 4 rfl rfl)
theorem dX8_readAll_29 : decode cX8_readAll 29 = .ok (.iconst 1, 1) := dk_4 (dk_at dksX8_readAll_1 5 rfl rfl)
theorem dX8_readAll_30 : decode cX8_readAll 30 = .ok (.invokevirtual 134, 3) := dk_182 0 134 (dk_at dksX8_readAll_1 6 rfl rfl)
theorem dX8_readAll_33 : decode cX8_readAll 33 = .ok (.aload_n 0, 1) := dk_42 (dk_at dksX8_readAll_1 9 rfl rfl)
theorem dX8_readAll_34 : decode cX8_readAll 34 = .ok (.getfield 171, 3) := dk_180 0 171 (dk_at dksX8_readAll_1 10 rfl rfl)
theorem dX8_readAll_37 : decode cX8_readAll 37 = .ok (.getfield 210, 3) := dk_180 0 210 (dk_at dksX8_readAll_1 13 rfl rfl)
theorem dX8_readAll_40 : decode cX8_readAll 40 = .ok (.ifCond .eq 14, 3) := dk_153 0 14 (dk_at dksX8_readAll_1 16 rfl rfl)
theorem dX8_readAll_43 : decode cX8_readAll 43 = .ok (.aload_n 0, 1) := dk_42 (dk_at dksX8_readAll_1 19 rfl rfl)
theorem dX8_readAll_44 : decode cX8_readAll 44 = .ok (.getfield 171, 3) := dk_180 0 171 (dk_at dksX8_readAll_1 20 rfl rfl)
theorem dX8_readAll_47 : decode cX8_readAll 47 = .ok (.getfield 213, 3) := dk_180 0 213 (dk_at dksX8_readAll_2 0 rfl rfl)
theorem dX8_readAll_50 : decode cX8_readAll 50 = .ok (.iconst 2, 1) := dk_5 (dk_at dksX8_readAll_2 3 rfl rfl)
theorem dX8_readAll_51 : decode cX8_readAll 51 = .ok (.if_icmp .ge 9, 3) := dk_162 0 9 (dk_at dksX8_readAll_2 4 rfl rfl)
theorem dX8_readAll_54 : decode cX8_readAll 54 = .ok (.aload_n 0, 1) := dk_42 (dk_at dksX8_readAll_2 7 rfl rfl)
theorem dX8_readAll_55 : decode cX8_readAll 55 = .ok (.bipush 6, 2) := dk_16 6 (dk_at dksX8_readAll_2 8 rfl rfl)
theorem dX8_readAll_57 : decode cX8_readAll 57 = .ok (.invokevirtual 134, 3) := dk_182 0 134 (dk_at dksX8_readAll_2 10 rfl rfl)
theorem dX8_readAll_60 : decode cX8_readAll 60 = .ok (.return_, 1) := dk_177 (dk_at dksX8_readAll_2 13 rfl rfl)
abbrev cX8_readLine : ByteArray := prog_20_method_32_code
def yX8_readLine : MethodName := ⟨RX8, "readLine", "()V"⟩
def dkwX8_readLine_5 : List UInt8 := [182, 0, 134, 177]
abbrev dktX8_readLine_5 : List UInt8 := dkwX8_readLine_5 ++ []
def dkwX8_readLine_4 : List UInt8 := [182, 0, 231, 167, 0, 24, 42, 18, 165, 182, 0, 130, 153, 0, 10, 42, 182, 0, 234, 167, 0, 8, 42, 4]
abbrev dktX8_readLine_4 : List UInt8 := dkwX8_readLine_4 ++ dktX8_readLine_5
def dkwX8_readLine_3 : List UInt8 := [182, 0, 130, 153, 0, 10, 42, 182, 0, 228, 167, 0, 40, 42, 18, 163, 182, 0, 130, 153, 0, 10, 42]
abbrev dktX8_readLine_3 : List UInt8 := dkwX8_readLine_3 ++ dktX8_readLine_4
def dkwX8_readLine_2 : List UInt8 := [167, 0, 72, 42, 18, 159, 182, 0, 130, 153, 0, 10, 42, 182, 0, 225, 167, 0, 56, 42, 18, 161]
abbrev dktX8_readLine_2 : List UInt8 := dkwX8_readLine_2 ++ dktX8_readLine_3
def dkwX8_readLine_1 : List UInt8 := [153, 0, 10, 42, 182, 0, 219, 167, 0, 88, 42, 18, 157, 182, 0, 130, 153, 0, 10, 42, 182, 0, 222]
abbrev dktX8_readLine_1 : List UInt8 := dkwX8_readLine_1 ++ dktX8_readLine_2
def dkwX8_readLine_0 : List UInt8 := [42, 18, 153, 182, 0, 130, 153, 0, 10, 42, 182, 0, 216, 167, 0, 104, 42, 18, 155, 182, 0, 130]
abbrev dktX8_readLine_0 : List UInt8 := dkwX8_readLine_0 ++ dktX8_readLine_1
theorem dksX8_readLine_0 : cX8_readLine.data.toList.drop 0 = dktX8_readLine_0 := by decide +kernel
theorem dksX8_readLine_1 : cX8_readLine.data.toList.drop 22 = dktX8_readLine_1 := dk_seg dksX8_readLine_0 22 rfl rfl
theorem dksX8_readLine_2 : cX8_readLine.data.toList.drop 45 = dktX8_readLine_2 := dk_seg dksX8_readLine_1 23 rfl rfl
theorem dksX8_readLine_3 : cX8_readLine.data.toList.drop 67 = dktX8_readLine_3 := dk_seg dksX8_readLine_2 22 rfl rfl
theorem dksX8_readLine_4 : cX8_readLine.data.toList.drop 90 = dktX8_readLine_4 := dk_seg dksX8_readLine_3 23 rfl rfl
theorem dksX8_readLine_5 : cX8_readLine.data.toList.drop 114 = dktX8_readLine_5 := dk_seg dksX8_readLine_4 24 rfl rfl
theorem dX8_readLine_0 : decode cX8_readLine 0 = .ok (.aload_n 0, 1) := dk_42 (dk_at dksX8_readLine_0 0 rfl rfl)
theorem dX8_readLine_1 : decode cX8_readLine 1 = .ok (.ldc 153, 2) := dk_18 153 (dk_at dksX8_readLine_0 1 rfl rfl)
theorem dX8_readLine_3 : decode cX8_readLine 3 = .ok (.invokevirtual 130, 3) := dk_182 0 130 (dk_at dksX8_readLine_0 3 rfl rfl)
theorem dX8_readLine_6 : decode cX8_readLine 6 = .ok (.ifCond .eq 10, 3) := dk_153 0 10 (dk_at dksX8_readLine_0 6 rfl rfl)
theorem dX8_readLine_9 : decode cX8_readLine 9 = .ok (.aload_n 0, 1) := dk_42 (dk_at dksX8_readLine_0 9 rfl rfl)
theorem dX8_readLine_10 : decode cX8_readLine 10 = .ok (.invokevirtual 216, 3) := dk_182 0 216 (dk_at dksX8_readLine_0 10 rfl rfl)
theorem dX8_readLine_13 : decode cX8_readLine 13 = .ok (.goto 104, 3) := dk_167 0 104 (dk_at dksX8_readLine_0 13 rfl rfl)
theorem dX8_readLine_16 : decode cX8_readLine 16 = .ok (.aload_n 0, 1) := dk_42 (dk_at dksX8_readLine_0 16 rfl rfl)
theorem dX8_readLine_17 : decode cX8_readLine 17 = .ok (.ldc 155, 2) := dk_18 155 (dk_at dksX8_readLine_0 17 rfl rfl)
theorem dX8_readLine_19 : decode cX8_readLine 19 = .ok (.invokevirtual 130, 3) := dk_182 0 130 (dk_at dksX8_readLine_0 19 rfl rfl)
theorem dX8_readLine_22 : decode cX8_readLine 22 = .ok (.ifCond .eq 10, 3) := dk_153 0 10 (dk_at dksX8_readLine_1 0 rfl rfl)
theorem dX8_readLine_25 : decode cX8_readLine 25 = .ok (.aload_n 0, 1) := dk_42 (dk_at dksX8_readLine_1 3 rfl rfl)
theorem dX8_readLine_26 : decode cX8_readLine 26 = .ok (.invokevirtual 219, 3) := dk_182 0 219 (dk_at dksX8_readLine_1 4 rfl rfl)
theorem dX8_readLine_29 : decode cX8_readLine 29 = .ok (.goto 88, 3) := dk_167 0 88 (dk_at dksX8_readLine_1 7 rfl rfl)
theorem dX8_readLine_32 : decode cX8_readLine 32 = .ok (.aload_n 0, 1) := dk_42 (dk_at dksX8_readLine_1 10 rfl rfl)
theorem dX8_readLine_33 : decode cX8_readLine 33 = .ok (.ldc 157, 2) := dk_18 157 (dk_at dksX8_readLine_1 11 rfl rfl)
theorem dX8_readLine_35 : decode cX8_readLine 35 = .ok (.invokevirtual 130, 3) := dk_182 0 130 (dk_at dksX8_readLine_1 13 rfl rfl)
theorem dX8_readLine_38 : decode cX8_readLine 38 = .ok (.ifCond .eq 10, 3) := dk_153 0 10 (dk_at dksX8_readLine_1 16 rfl rfl)
theorem dX8_readLine_41 : decode cX8_readLine 41 = .ok (.aload_n 0, 1) := dk_42 (dk_at dksX8_readLine_1 19 rfl rfl)
theorem dX8_readLine_42 : decode cX8_readLine 42 = .ok (.invokevirtual 222, 3) := dk_182 0 222 (dk_at dksX8_readLine_1 20 rfl rfl)
theorem dX8_readLine_45 : decode cX8_readLine 45 = .ok (.goto 72, 3) := dk_167 0 72 (dk_at dksX8_readLine_2 0 rfl rfl)
theorem dX8_readLine_48 : decode cX8_readLine 48 = .ok (.aload_n 0, 1) := dk_42 (dk_at dksX8_readLine_2 3 rfl rfl)
theorem dX8_readLine_49 : decode cX8_readLine 49 = .ok (.ldc 159, 2) := dk_18 159 (dk_at dksX8_readLine_2 4 rfl rfl)
theorem dX8_readLine_51 : decode cX8_readLine 51 = .ok (.invokevirtual 130, 3) := dk_182 0 130 (dk_at dksX8_readLine_2 6 rfl rfl)
theorem dX8_readLine_54 : decode cX8_readLine 54 = .ok (.ifCond .eq 10, 3) := dk_153 0 10 (dk_at dksX8_readLine_2 9 rfl rfl)
theorem dX8_readLine_57 : decode cX8_readLine 57 = .ok (.aload_n 0, 1) := dk_42 (dk_at dksX8_readLine_2 12 rfl rfl)
theorem dX8_readLine_58 : decode cX8_readLine 58 = .ok (.invokevirtual 225, 3) := dk_182 0 225 (dk_at dksX8_readLine_2 13 rfl rfl)
theorem dX8_readLine_61 : decode cX8_readLine 61 = .ok (.goto 56, 3) := dk_167 0 56 (dk_at dksX8_readLine_2 16 rfl rfl)
theorem dX8_readLine_64 : decode cX8_readLine 64 = .ok (.aload_n 0, 1) := dk_42 (dk_at dksX8_readLine_2 19 rfl rfl)
theorem dX8_readLine_65 : decode cX8_readLine 65 = .ok (.ldc 161, 2) := dk_18 161 (dk_at dksX8_readLine_2 20 rfl rfl)
theorem dX8_readLine_67 : decode cX8_readLine 67 = .ok (.invokevirtual 130, 3) := dk_182 0 130 (dk_at dksX8_readLine_3 0 rfl rfl)
theorem dX8_readLine_70 : decode cX8_readLine 70 = .ok (.ifCond .eq 10, 3) := dk_153 0 10 (dk_at dksX8_readLine_3 3 rfl rfl)
theorem dX8_readLine_73 : decode cX8_readLine 73 = .ok (.aload_n 0, 1) := dk_42 (dk_at dksX8_readLine_3 6 rfl rfl)
theorem dX8_readLine_74 : decode cX8_readLine 74 = .ok (.invokevirtual 228, 3) := dk_182 0 228 (dk_at dksX8_readLine_3 7 rfl rfl)
theorem dX8_readLine_77 : decode cX8_readLine 77 = .ok (.goto 40, 3) := dk_167 0 40 (dk_at dksX8_readLine_3 10 rfl rfl)
theorem dX8_readLine_80 : decode cX8_readLine 80 = .ok (.aload_n 0, 1) := dk_42 (dk_at dksX8_readLine_3 13 rfl rfl)
theorem dX8_readLine_81 : decode cX8_readLine 81 = .ok (.ldc 163, 2) := dk_18 163 (dk_at dksX8_readLine_3 14 rfl rfl)
theorem dX8_readLine_83 : decode cX8_readLine 83 = .ok (.invokevirtual 130, 3) := dk_182 0 130 (dk_at dksX8_readLine_3 16 rfl rfl)
theorem dX8_readLine_86 : decode cX8_readLine 86 = .ok (.ifCond .eq 10, 3) := dk_153 0 10 (dk_at dksX8_readLine_3 19 rfl rfl)
theorem dX8_readLine_89 : decode cX8_readLine 89 = .ok (.aload_n 0, 1) := dk_42 (dk_at dksX8_readLine_3 22 rfl rfl)
theorem dX8_readLine_90 : decode cX8_readLine 90 = .ok (.invokevirtual 231, 3) := dk_182 0 231 (dk_at dksX8_readLine_4 0 rfl rfl)
theorem dX8_readLine_93 : decode cX8_readLine 93 = .ok (.goto 24, 3) := dk_167 0 24 (dk_at dksX8_readLine_4 3 rfl rfl)
theorem dX8_readLine_96 : decode cX8_readLine 96 = .ok (.aload_n 0, 1) := dk_42 (dk_at dksX8_readLine_4 6 rfl rfl)
theorem dX8_readLine_97 : decode cX8_readLine 97 = .ok (.ldc 165, 2) := dk_18 165 (dk_at dksX8_readLine_4 7 rfl rfl)
theorem dX8_readLine_99 : decode cX8_readLine 99 = .ok (.invokevirtual 130, 3) := dk_182 0 130 (dk_at dksX8_readLine_4 9 rfl rfl)
theorem dX8_readLine_102 : decode cX8_readLine 102 = .ok (.ifCond .eq 10, 3) := dk_153 0 10 (dk_at dksX8_readLine_4 12 rfl rfl)
theorem dX8_readLine_105 : decode cX8_readLine 105 = .ok (.aload_n 0, 1) := dk_42 (dk_at dksX8_readLine_4 15 rfl rfl)
theorem dX8_readLine_106 : decode cX8_readLine 106 = .ok (.invokevirtual 234, 3) := dk_182 0 234 (dk_at dksX8_readLine_4 16 rfl rfl)
theorem dX8_readLine_109 : decode cX8_readLine 109 = .ok (.goto 8, 3) := dk_167 0 8 (dk_at dksX8_readLine_4 19 rfl rfl)
theorem dX8_readLine_112 : decode cX8_readLine 112 = .ok (.aload_n 0, 1) := dk_42 (dk_at dksX8_readLine_4 22 rfl rfl)
theorem dX8_readLine_113 : decode cX8_readLine 113 = .ok (.iconst 1, 1) := dk_4 (dk_at dksX8_readLine_4 23 rfl rfl)
theorem dX8_readLine_114 : decode cX8_readLine 114 = .ok (.invokevirtual 134, 3) := dk_182 0 134 (dk_at dksX8_readLine_5 0 rfl rfl)
theorem dX8_readLine_117 : decode cX8_readLine 117 = .ok (.return_, 1) := dk_177 (dk_at dksX8_readLine_5 3 rfl rfl)
abbrev cX8_isWord : ByteArray := prog_20_method_17_code
def yX8_isWord : MethodName := ⟨RX8, "isWord", "(Ljava/lang/String;)Z"⟩
def dkwX8_isWord_1 : List UInt8 := [3, 172]
abbrev dktX8_isWord_1 : List UInt8 := dkwX8_isWord_1 ++ []
def dkwX8_isWord_0 : List UInt8 := [42, 180, 0, 85, 5, 160, 0, 19, 42, 180, 0, 104, 43, 184, 0, 120, 148, 154, 0, 7, 4, 167, 0, 4]
abbrev dktX8_isWord_0 : List UInt8 := dkwX8_isWord_0 ++ dktX8_isWord_1
theorem dksX8_isWord_0 : cX8_isWord.data.toList.drop 0 = dktX8_isWord_0 := by decide +kernel
theorem dksX8_isWord_1 : cX8_isWord.data.toList.drop 24 = dktX8_isWord_1 := dk_seg dksX8_isWord_0 24 rfl rfl
theorem dX8_isWord_0 : decode cX8_isWord 0 = .ok (.aload_n 0, 1) := dk_42 (dk_at dksX8_isWord_0 0 rfl rfl)
theorem dX8_isWord_1 : decode cX8_isWord 1 = .ok (.getfield 85, 3) := dk_180 0 85 (dk_at dksX8_isWord_0 1 rfl rfl)
theorem dX8_isWord_4 : decode cX8_isWord 4 = .ok (.iconst 2, 1) := dk_5 (dk_at dksX8_isWord_0 4 rfl rfl)
theorem dX8_isWord_5 : decode cX8_isWord 5 = .ok (.if_icmp .ne 19, 3) := dk_160 0 19 (dk_at dksX8_isWord_0 5 rfl rfl)
theorem dX8_isWord_8 : decode cX8_isWord 8 = .ok (.aload_n 0, 1) := dk_42 (dk_at dksX8_isWord_0 8 rfl rfl)
theorem dX8_isWord_9 : decode cX8_isWord 9 = .ok (.getfield 104, 3) := dk_180 0 104 (dk_at dksX8_isWord_0 9 rfl rfl)
theorem dX8_isWord_12 : decode cX8_isWord 12 = .ok (.aload_n 1, 1) := dk_43 (dk_at dksX8_isWord_0 12 rfl rfl)
theorem dX8_isWord_13 : decode cX8_isWord 13 = .ok (.invokestatic 120, 3) := dk_184 0 120 (dk_at dksX8_isWord_0 13 rfl rfl)
theorem dX8_isWord_16 : decode cX8_isWord 16 = .ok (.lcmp, 1) := dk_148 (dk_at dksX8_isWord_0 16 rfl rfl)
theorem dX8_isWord_17 : decode cX8_isWord 17 = .ok (.ifCond .ne 7, 3) := dk_154 0 7 (dk_at dksX8_isWord_0 17 rfl rfl)
theorem dX8_isWord_20 : decode cX8_isWord 20 = .ok (.iconst 1, 1) := dk_4 (dk_at dksX8_isWord_0 20 rfl rfl)
theorem dX8_isWord_21 : decode cX8_isWord 21 = .ok (.goto 4, 3) := dk_167 0 4 (dk_at dksX8_isWord_0 21 rfl rfl)
theorem dX8_isWord_24 : decode cX8_isWord 24 = .ok (.iconst 0, 1) := dk_3 (dk_at dksX8_isWord_1 0 rfl rfl)
theorem dX8_isWord_25 : decode cX8_isWord 25 = .ok (.ireturn, 1) := dk_172 (dk_at dksX8_isWord_1 1 rfl rfl)
abbrev cX8_wordOf : ByteArray := prog_20_method_14_code
def yX8_wordOf : MethodName := ⟨RX8, "wordOf", "(Ljava/lang/String;)J"⟩
def dkwX8_wordOf_1 : List UInt8 := [100, 4, 96, 133, 97, 64, 132, 3, 1, 167, 255, 227, 31, 173]
abbrev dktX8_wordOf_1 : List UInt8 := dkwX8_wordOf_1 ++ []
def dkwX8_wordOf_0 : List UInt8 := [9, 64, 3, 62, 29, 42, 182, 0, 73, 162, 0, 27, 20, 0, 79, 31, 105, 42, 29, 182, 0, 81, 16, 97]
abbrev dktX8_wordOf_0 : List UInt8 := dkwX8_wordOf_0 ++ dktX8_wordOf_1
theorem dksX8_wordOf_0 : cX8_wordOf.data.toList.drop 0 = dktX8_wordOf_0 := by decide +kernel
theorem dksX8_wordOf_1 : cX8_wordOf.data.toList.drop 24 = dktX8_wordOf_1 := dk_seg dksX8_wordOf_0 24 rfl rfl
theorem dX8_wordOf_0 : decode cX8_wordOf 0 = .ok (.lconst 0, 1) := dk_9 (dk_at dksX8_wordOf_0 0 rfl rfl)
theorem dX8_wordOf_1 : decode cX8_wordOf 1 = .ok (.lstore_n 1, 1) := dk_64 (dk_at dksX8_wordOf_0 1 rfl rfl)
theorem dX8_wordOf_2 : decode cX8_wordOf 2 = .ok (.iconst 0, 1) := dk_3 (dk_at dksX8_wordOf_0 2 rfl rfl)
theorem dX8_wordOf_3 : decode cX8_wordOf 3 = .ok (.istore_n 3, 1) := dk_62 (dk_at dksX8_wordOf_0 3 rfl rfl)
theorem dX8_wordOf_4 : decode cX8_wordOf 4 = .ok (.iload_n 3, 1) := dk_29 (dk_at dksX8_wordOf_0 4 rfl rfl)
theorem dX8_wordOf_5 : decode cX8_wordOf 5 = .ok (.aload_n 0, 1) := dk_42 (dk_at dksX8_wordOf_0 5 rfl rfl)
theorem dX8_wordOf_6 : decode cX8_wordOf 6 = .ok (.invokevirtual 73, 3) := dk_182 0 73 (dk_at dksX8_wordOf_0 6 rfl rfl)
theorem dX8_wordOf_9 : decode cX8_wordOf 9 = .ok (.if_icmp .ge 27, 3) := dk_162 0 27 (dk_at dksX8_wordOf_0 9 rfl rfl)
theorem dX8_wordOf_12 : decode cX8_wordOf 12 = .ok (.ldc2_w 79, 3) := dk_20 0 79 (dk_at dksX8_wordOf_0 12 rfl rfl)
theorem dX8_wordOf_15 : decode cX8_wordOf 15 = .ok (.lload_n 1, 1) := dk_31 (dk_at dksX8_wordOf_0 15 rfl rfl)
theorem dX8_wordOf_16 : decode cX8_wordOf 16 = .ok (.lmul, 1) := dk_105 (dk_at dksX8_wordOf_0 16 rfl rfl)
theorem dX8_wordOf_17 : decode cX8_wordOf 17 = .ok (.aload_n 0, 1) := dk_42 (dk_at dksX8_wordOf_0 17 rfl rfl)
theorem dX8_wordOf_18 : decode cX8_wordOf 18 = .ok (.iload_n 3, 1) := dk_29 (dk_at dksX8_wordOf_0 18 rfl rfl)
theorem dX8_wordOf_19 : decode cX8_wordOf 19 = .ok (.invokevirtual 81, 3) := dk_182 0 81 (dk_at dksX8_wordOf_0 19 rfl rfl)
theorem dX8_wordOf_22 : decode cX8_wordOf 22 = .ok (.bipush 97, 2) := dk_16 97 (dk_at dksX8_wordOf_0 22 rfl rfl)
theorem dX8_wordOf_24 : decode cX8_wordOf 24 = .ok (.isub, 1) := dk_100 (dk_at dksX8_wordOf_1 0 rfl rfl)
theorem dX8_wordOf_25 : decode cX8_wordOf 25 = .ok (.iconst 1, 1) := dk_4 (dk_at dksX8_wordOf_1 1 rfl rfl)
theorem dX8_wordOf_26 : decode cX8_wordOf 26 = .ok (.iadd, 1) := dk_96 (dk_at dksX8_wordOf_1 2 rfl rfl)
theorem dX8_wordOf_27 : decode cX8_wordOf 27 = .ok (.i2l, 1) := dk_133 (dk_at dksX8_wordOf_1 3 rfl rfl)
theorem dX8_wordOf_28 : decode cX8_wordOf 28 = .ok (.ladd, 1) := dk_97 (dk_at dksX8_wordOf_1 4 rfl rfl)
theorem dX8_wordOf_29 : decode cX8_wordOf 29 = .ok (.lstore_n 1, 1) := dk_64 (dk_at dksX8_wordOf_1 5 rfl rfl)
theorem dX8_wordOf_30 : decode cX8_wordOf 30 = .ok (.iinc 3 1, 3) := dk_132 3 1 (dk_at dksX8_wordOf_1 6 rfl rfl)
theorem dX8_wordOf_33 : decode cX8_wordOf 33 = .ok (.goto (-29), 3) := dk_167 255 227 (dk_at dksX8_wordOf_1 9 rfl rfl)
theorem dX8_wordOf_36 : decode cX8_wordOf 36 = .ok (.lload_n 1, 1) := dk_31 (dk_at dksX8_wordOf_1 12 rfl rfl)
theorem dX8_wordOf_37 : decode cX8_wordOf 37 = .ok (.lreturn, 1) := dk_173 (dk_at dksX8_wordOf_1 13 rfl rfl)
abbrev cX8_readKitchen : ByteArray := prog_20_method_33_code
def yX8_readKitchen : MethodName := ⟨RX8, "readKitchen", "()V"⟩
def dkwX8_readKitchen_5 : List UInt8 := [21, 4, 181, 1, 0, 42, 180, 0, 171, 21, 5, 181, 1, 2, 177]
abbrev dktX8_readKitchen_5 : List UInt8 := dkwX8_readKitchen_5 ++ []
def dkwX8_readKitchen_4 : List UInt8 := [181, 0, 250, 42, 180, 0, 171, 28, 181, 0, 252, 42, 180, 0, 171, 29, 181, 0, 254, 42, 180, 0, 171]
abbrev dktX8_readKitchen_4 : List UInt8 := dkwX8_readKitchen_4 ++ dktX8_readKitchen_5
def dkwX8_readKitchen_3 : List UInt8 := [54, 5, 42, 180, 0, 85, 8, 160, 0, 4, 177, 42, 180, 0, 171, 4, 181, 0, 175, 42, 180, 0, 171, 27]
abbrev dktX8_readKitchen_3 : List UInt8 := dkwX8_readKitchen_3 ++ dktX8_readKitchen_4
def dkwX8_readKitchen_2 : List UInt8 := [182, 0, 239, 62, 42, 18, 247, 3, 16, 99, 182, 0, 239, 54, 4, 42, 18, 249, 3, 16, 99, 182, 0, 239]
abbrev dktX8_readKitchen_2 : List UInt8 := dkwX8_readKitchen_2 ++ dktX8_readKitchen_3
def dkwX8_readKitchen_1 : List UInt8 := [16, 9, 182, 0, 239, 60, 42, 18, 243, 16, 25, 16, 60, 182, 0, 239, 61, 42, 18, 245, 3, 16, 99]
abbrev dktX8_readKitchen_1 : List UInt8 := dkwX8_readKitchen_1 ++ dktX8_readKitchen_2
def dkwX8_readKitchen_0 : List UInt8 := [42, 180, 0, 171, 180, 0, 175, 153, 0, 8, 42, 6, 182, 0, 134, 42, 182, 0, 127, 42, 18, 237, 3]
abbrev dktX8_readKitchen_0 : List UInt8 := dkwX8_readKitchen_0 ++ dktX8_readKitchen_1
theorem dksX8_readKitchen_0 : cX8_readKitchen.data.toList.drop 0 = dktX8_readKitchen_0 := by decide +kernel
theorem dksX8_readKitchen_1 : cX8_readKitchen.data.toList.drop 23 = dktX8_readKitchen_1 := dk_seg dksX8_readKitchen_0 23 rfl rfl
theorem dksX8_readKitchen_2 : cX8_readKitchen.data.toList.drop 46 = dktX8_readKitchen_2 := dk_seg dksX8_readKitchen_1 23 rfl rfl
theorem dksX8_readKitchen_3 : cX8_readKitchen.data.toList.drop 70 = dktX8_readKitchen_3 := dk_seg dksX8_readKitchen_2 24 rfl rfl
theorem dksX8_readKitchen_4 : cX8_readKitchen.data.toList.drop 94 = dktX8_readKitchen_4 := dk_seg dksX8_readKitchen_3 24 rfl rfl
theorem dksX8_readKitchen_5 : cX8_readKitchen.data.toList.drop 117 = dktX8_readKitchen_5 := dk_seg dksX8_readKitchen_4 23 rfl rfl
theorem dX8_readKitchen_0 : decode cX8_readKitchen 0 = .ok (.aload_n 0, 1) := dk_42 (dk_at dksX8_readKitchen_0 0 rfl rfl)
theorem dX8_readKitchen_1 : decode cX8_readKitchen 1 = .ok (.getfield 171, 3) := dk_180 0 171 (dk_at dksX8_readKitchen_0 1 rfl rfl)
theorem dX8_readKitchen_4 : decode cX8_readKitchen 4 = .ok (.getfield 175, 3) := dk_180 0 175 (dk_at dksX8_readKitchen_0 4 rfl rfl)
theorem dX8_readKitchen_7 : decode cX8_readKitchen 7 = .ok (.ifCond .eq 8, 3) := dk_153 0 8 (dk_at dksX8_readKitchen_0 7 rfl rfl)
theorem dX8_readKitchen_10 : decode cX8_readKitchen 10 = .ok (.aload_n 0, 1) := dk_42 (dk_at dksX8_readKitchen_0 10 rfl rfl)
theorem dX8_readKitchen_11 : decode cX8_readKitchen 11 = .ok (.iconst 3, 1) := dk_6 (dk_at dksX8_readKitchen_0 11 rfl rfl)
theorem dX8_readKitchen_12 : decode cX8_readKitchen 12 = .ok (.invokevirtual 134, 3) := dk_182 0 134 (dk_at dksX8_readKitchen_0 12 rfl rfl)
theorem dX8_readKitchen_15 : decode cX8_readKitchen 15 = .ok (.aload_n 0, 1) := dk_42 (dk_at dksX8_readKitchen_0 15 rfl rfl)
theorem dX8_readKitchen_16 : decode cX8_readKitchen 16 = .ok (.invokevirtual 127, 3) := dk_182 0 127 (dk_at dksX8_readKitchen_0 16 rfl rfl)
theorem dX8_readKitchen_19 : decode cX8_readKitchen 19 = .ok (.aload_n 0, 1) := dk_42 (dk_at dksX8_readKitchen_0 19 rfl rfl)
theorem dX8_readKitchen_20 : decode cX8_readKitchen 20 = .ok (.ldc 237, 2) := dk_18 237 (dk_at dksX8_readKitchen_0 20 rfl rfl)
theorem dX8_readKitchen_22 : decode cX8_readKitchen 22 = .ok (.iconst 0, 1) := dk_3 (dk_at dksX8_readKitchen_0 22 rfl rfl)
theorem dX8_readKitchen_23 : decode cX8_readKitchen 23 = .ok (.bipush 9, 2) := dk_16 9 (dk_at dksX8_readKitchen_1 0 rfl rfl)
theorem dX8_readKitchen_25 : decode cX8_readKitchen 25 = .ok (.invokevirtual 239, 3) := dk_182 0 239 (dk_at dksX8_readKitchen_1 2 rfl rfl)
theorem dX8_readKitchen_28 : decode cX8_readKitchen 28 = .ok (.istore_n 1, 1) := dk_60 (dk_at dksX8_readKitchen_1 5 rfl rfl)
theorem dX8_readKitchen_29 : decode cX8_readKitchen 29 = .ok (.aload_n 0, 1) := dk_42 (dk_at dksX8_readKitchen_1 6 rfl rfl)
theorem dX8_readKitchen_30 : decode cX8_readKitchen 30 = .ok (.ldc 243, 2) := dk_18 243 (dk_at dksX8_readKitchen_1 7 rfl rfl)
theorem dX8_readKitchen_32 : decode cX8_readKitchen 32 = .ok (.bipush 25, 2) := dk_16 25 (dk_at dksX8_readKitchen_1 9 rfl rfl)
theorem dX8_readKitchen_34 : decode cX8_readKitchen 34 = .ok (.bipush 60, 2) := dk_16 60 (dk_at dksX8_readKitchen_1 11 rfl rfl)
theorem dX8_readKitchen_36 : decode cX8_readKitchen 36 = .ok (.invokevirtual 239, 3) := dk_182 0 239 (dk_at dksX8_readKitchen_1 13 rfl rfl)
theorem dX8_readKitchen_39 : decode cX8_readKitchen 39 = .ok (.istore_n 2, 1) := dk_61 (dk_at dksX8_readKitchen_1 16 rfl rfl)
theorem dX8_readKitchen_40 : decode cX8_readKitchen 40 = .ok (.aload_n 0, 1) := dk_42 (dk_at dksX8_readKitchen_1 17 rfl rfl)
theorem dX8_readKitchen_41 : decode cX8_readKitchen 41 = .ok (.ldc 245, 2) := dk_18 245 (dk_at dksX8_readKitchen_1 18 rfl rfl)
theorem dX8_readKitchen_43 : decode cX8_readKitchen 43 = .ok (.iconst 0, 1) := dk_3 (dk_at dksX8_readKitchen_1 20 rfl rfl)
theorem dX8_readKitchen_44 : decode cX8_readKitchen 44 = .ok (.bipush 99, 2) := dk_16 99 (dk_at dksX8_readKitchen_1 21 rfl rfl)
theorem dX8_readKitchen_46 : decode cX8_readKitchen 46 = .ok (.invokevirtual 239, 3) := dk_182 0 239 (dk_at dksX8_readKitchen_2 0 rfl rfl)
theorem dX8_readKitchen_49 : decode cX8_readKitchen 49 = .ok (.istore_n 3, 1) := dk_62 (dk_at dksX8_readKitchen_2 3 rfl rfl)
theorem dX8_readKitchen_50 : decode cX8_readKitchen 50 = .ok (.aload_n 0, 1) := dk_42 (dk_at dksX8_readKitchen_2 4 rfl rfl)
theorem dX8_readKitchen_51 : decode cX8_readKitchen 51 = .ok (.ldc 247, 2) := dk_18 247 (dk_at dksX8_readKitchen_2 5 rfl rfl)
theorem dX8_readKitchen_53 : decode cX8_readKitchen 53 = .ok (.iconst 0, 1) := dk_3 (dk_at dksX8_readKitchen_2 7 rfl rfl)
theorem dX8_readKitchen_54 : decode cX8_readKitchen 54 = .ok (.bipush 99, 2) := dk_16 99 (dk_at dksX8_readKitchen_2 8 rfl rfl)
theorem dX8_readKitchen_56 : decode cX8_readKitchen 56 = .ok (.invokevirtual 239, 3) := dk_182 0 239 (dk_at dksX8_readKitchen_2 10 rfl rfl)
theorem dX8_readKitchen_59 : decode cX8_readKitchen 59 = .ok (.istore 4, 2) := dk_54 4 (dk_at dksX8_readKitchen_2 13 rfl rfl)
theorem dX8_readKitchen_61 : decode cX8_readKitchen 61 = .ok (.aload_n 0, 1) := dk_42 (dk_at dksX8_readKitchen_2 15 rfl rfl)
theorem dX8_readKitchen_62 : decode cX8_readKitchen 62 = .ok (.ldc 249, 2) := dk_18 249 (dk_at dksX8_readKitchen_2 16 rfl rfl)
theorem dX8_readKitchen_64 : decode cX8_readKitchen 64 = .ok (.iconst 0, 1) := dk_3 (dk_at dksX8_readKitchen_2 18 rfl rfl)
theorem dX8_readKitchen_65 : decode cX8_readKitchen 65 = .ok (.bipush 99, 2) := dk_16 99 (dk_at dksX8_readKitchen_2 19 rfl rfl)
theorem dX8_readKitchen_67 : decode cX8_readKitchen 67 = .ok (.invokevirtual 239, 3) := dk_182 0 239 (dk_at dksX8_readKitchen_2 21 rfl rfl)
theorem dX8_readKitchen_70 : decode cX8_readKitchen 70 = .ok (.istore 5, 2) := dk_54 5 (dk_at dksX8_readKitchen_3 0 rfl rfl)
theorem dX8_readKitchen_72 : decode cX8_readKitchen 72 = .ok (.aload_n 0, 1) := dk_42 (dk_at dksX8_readKitchen_3 2 rfl rfl)
theorem dX8_readKitchen_73 : decode cX8_readKitchen 73 = .ok (.getfield 85, 3) := dk_180 0 85 (dk_at dksX8_readKitchen_3 3 rfl rfl)
theorem dX8_readKitchen_76 : decode cX8_readKitchen 76 = .ok (.iconst 5, 1) := dk_8 (dk_at dksX8_readKitchen_3 6 rfl rfl)
theorem dX8_readKitchen_77 : decode cX8_readKitchen 77 = .ok (.if_icmp .ne 4, 3) := dk_160 0 4 (dk_at dksX8_readKitchen_3 7 rfl rfl)
theorem dX8_readKitchen_80 : decode cX8_readKitchen 80 = .ok (.return_, 1) := dk_177 (dk_at dksX8_readKitchen_3 10 rfl rfl)
theorem dX8_readKitchen_81 : decode cX8_readKitchen 81 = .ok (.aload_n 0, 1) := dk_42 (dk_at dksX8_readKitchen_3 11 rfl rfl)
theorem dX8_readKitchen_82 : decode cX8_readKitchen 82 = .ok (.getfield 171, 3) := dk_180 0 171 (dk_at dksX8_readKitchen_3 12 rfl rfl)
theorem dX8_readKitchen_85 : decode cX8_readKitchen 85 = .ok (.iconst 1, 1) := dk_4 (dk_at dksX8_readKitchen_3 15 rfl rfl)
theorem dX8_readKitchen_86 : decode cX8_readKitchen 86 = .ok (.putfield 175, 3) := dk_181 0 175 (dk_at dksX8_readKitchen_3 16 rfl rfl)
theorem dX8_readKitchen_89 : decode cX8_readKitchen 89 = .ok (.aload_n 0, 1) := dk_42 (dk_at dksX8_readKitchen_3 19 rfl rfl)
theorem dX8_readKitchen_90 : decode cX8_readKitchen 90 = .ok (.getfield 171, 3) := dk_180 0 171 (dk_at dksX8_readKitchen_3 20 rfl rfl)
theorem dX8_readKitchen_93 : decode cX8_readKitchen 93 = .ok (.iload_n 1, 1) := dk_27 (dk_at dksX8_readKitchen_3 23 rfl rfl)
theorem dX8_readKitchen_94 : decode cX8_readKitchen 94 = .ok (.putfield 250, 3) := dk_181 0 250 (dk_at dksX8_readKitchen_4 0 rfl rfl)
theorem dX8_readKitchen_97 : decode cX8_readKitchen 97 = .ok (.aload_n 0, 1) := dk_42 (dk_at dksX8_readKitchen_4 3 rfl rfl)
theorem dX8_readKitchen_98 : decode cX8_readKitchen 98 = .ok (.getfield 171, 3) := dk_180 0 171 (dk_at dksX8_readKitchen_4 4 rfl rfl)
theorem dX8_readKitchen_101 : decode cX8_readKitchen 101 = .ok (.iload_n 2, 1) := dk_28 (dk_at dksX8_readKitchen_4 7 rfl rfl)
theorem dX8_readKitchen_102 : decode cX8_readKitchen 102 = .ok (.putfield 252, 3) := dk_181 0 252 (dk_at dksX8_readKitchen_4 8 rfl rfl)
theorem dX8_readKitchen_105 : decode cX8_readKitchen 105 = .ok (.aload_n 0, 1) := dk_42 (dk_at dksX8_readKitchen_4 11 rfl rfl)
theorem dX8_readKitchen_106 : decode cX8_readKitchen 106 = .ok (.getfield 171, 3) := dk_180 0 171 (dk_at dksX8_readKitchen_4 12 rfl rfl)
theorem dX8_readKitchen_109 : decode cX8_readKitchen 109 = .ok (.iload_n 3, 1) := dk_29 (dk_at dksX8_readKitchen_4 15 rfl rfl)
theorem dX8_readKitchen_110 : decode cX8_readKitchen 110 = .ok (.putfield 254, 3) := dk_181 0 254 (dk_at dksX8_readKitchen_4 16 rfl rfl)
theorem dX8_readKitchen_113 : decode cX8_readKitchen 113 = .ok (.aload_n 0, 1) := dk_42 (dk_at dksX8_readKitchen_4 19 rfl rfl)
theorem dX8_readKitchen_114 : decode cX8_readKitchen 114 = .ok (.getfield 171, 3) := dk_180 0 171 (dk_at dksX8_readKitchen_4 20 rfl rfl)
theorem dX8_readKitchen_117 : decode cX8_readKitchen 117 = .ok (.iload 4, 2) := dk_21 4 (dk_at dksX8_readKitchen_5 0 rfl rfl)
theorem dX8_readKitchen_119 : decode cX8_readKitchen 119 = .ok (.putfield 256, 3) := dk_181 1 0 (dk_at dksX8_readKitchen_5 2 rfl rfl)
theorem dX8_readKitchen_122 : decode cX8_readKitchen 122 = .ok (.aload_n 0, 1) := dk_42 (dk_at dksX8_readKitchen_5 5 rfl rfl)
theorem dX8_readKitchen_123 : decode cX8_readKitchen 123 = .ok (.getfield 171, 3) := dk_180 0 171 (dk_at dksX8_readKitchen_5 6 rfl rfl)
theorem dX8_readKitchen_126 : decode cX8_readKitchen 126 = .ok (.iload 5, 2) := dk_21 5 (dk_at dksX8_readKitchen_5 9 rfl rfl)
theorem dX8_readKitchen_128 : decode cX8_readKitchen 128 = .ok (.putfield 258, 3) := dk_181 1 2 (dk_at dksX8_readKitchen_5 11 rfl rfl)
theorem dX8_readKitchen_131 : decode cX8_readKitchen 131 = .ok (.return_, 1) := dk_177 (dk_at dksX8_readKitchen_5 14 rfl rfl)
abbrev cX8_flaw : ByteArray := prog_20_method_16_code
def yX8_flaw : MethodName := ⟨RX8, "flaw", "(I)V"⟩
def dkwX8_flaw_1 : List UInt8 := [181, 0, 85, 177]
abbrev dktX8_flaw_1 : List UInt8 := dkwX8_flaw_1 ++ []
def dkwX8_flaw_0 : List UInt8 := [42, 180, 0, 85, 8, 160, 0, 4, 177, 42, 27, 181, 0, 114, 42, 42, 180, 0, 94, 181, 0, 117, 42, 8]
abbrev dktX8_flaw_0 : List UInt8 := dkwX8_flaw_0 ++ dktX8_flaw_1
theorem dksX8_flaw_0 : cX8_flaw.data.toList.drop 0 = dktX8_flaw_0 := by decide +kernel
theorem dksX8_flaw_1 : cX8_flaw.data.toList.drop 24 = dktX8_flaw_1 := dk_seg dksX8_flaw_0 24 rfl rfl
theorem dX8_flaw_0 : decode cX8_flaw 0 = .ok (.aload_n 0, 1) := dk_42 (dk_at dksX8_flaw_0 0 rfl rfl)
theorem dX8_flaw_1 : decode cX8_flaw 1 = .ok (.getfield 85, 3) := dk_180 0 85 (dk_at dksX8_flaw_0 1 rfl rfl)
theorem dX8_flaw_4 : decode cX8_flaw 4 = .ok (.iconst 5, 1) := dk_8 (dk_at dksX8_flaw_0 4 rfl rfl)
theorem dX8_flaw_5 : decode cX8_flaw 5 = .ok (.if_icmp .ne 4, 3) := dk_160 0 4 (dk_at dksX8_flaw_0 5 rfl rfl)
theorem dX8_flaw_8 : decode cX8_flaw 8 = .ok (.return_, 1) := dk_177 (dk_at dksX8_flaw_0 8 rfl rfl)
theorem dX8_flaw_9 : decode cX8_flaw 9 = .ok (.aload_n 0, 1) := dk_42 (dk_at dksX8_flaw_0 9 rfl rfl)
theorem dX8_flaw_10 : decode cX8_flaw 10 = .ok (.iload_n 1, 1) := dk_27 (dk_at dksX8_flaw_0 10 rfl rfl)
theorem dX8_flaw_11 : decode cX8_flaw 11 = .ok (.putfield 114, 3) := dk_181 0 114 (dk_at dksX8_flaw_0 11 rfl rfl)
theorem dX8_flaw_14 : decode cX8_flaw 14 = .ok (.aload_n 0, 1) := dk_42 (dk_at dksX8_flaw_0 14 rfl rfl)
theorem dX8_flaw_15 : decode cX8_flaw 15 = .ok (.aload_n 0, 1) := dk_42 (dk_at dksX8_flaw_0 15 rfl rfl)
theorem dX8_flaw_16 : decode cX8_flaw 16 = .ok (.getfield 94, 3) := dk_180 0 94 (dk_at dksX8_flaw_0 16 rfl rfl)
theorem dX8_flaw_19 : decode cX8_flaw 19 = .ok (.putfield 117, 3) := dk_181 0 117 (dk_at dksX8_flaw_0 19 rfl rfl)
theorem dX8_flaw_22 : decode cX8_flaw 22 = .ok (.aload_n 0, 1) := dk_42 (dk_at dksX8_flaw_0 22 rfl rfl)
theorem dX8_flaw_23 : decode cX8_flaw 23 = .ok (.iconst 5, 1) := dk_8 (dk_at dksX8_flaw_0 23 rfl rfl)
theorem dX8_flaw_24 : decode cX8_flaw 24 = .ok (.putfield 85, 3) := dk_181 0 85 (dk_at dksX8_flaw_1 0 rfl rfl)
theorem dX8_flaw_27 : decode cX8_flaw 27 = .ok (.return_, 1) := dk_177 (dk_at dksX8_flaw_1 3 rfl rfl)
abbrev cX8_readPart : ByteArray := prog_20_method_23_code
def yX8_readPart : MethodName := ⟨RX8, "readPart", "(Ljava/lang/String;II)I"⟩
def dkwX8_readPart_0 : List UInt8 := [42, 43, 182, 0, 146, 42, 28, 29, 182, 0, 150, 172]
abbrev dktX8_readPart_0 : List UInt8 := dkwX8_readPart_0 ++ []
theorem dksX8_readPart_0 : cX8_readPart.data.toList.drop 0 = dktX8_readPart_0 := by decide +kernel
theorem dX8_readPart_0 : decode cX8_readPart 0 = .ok (.aload_n 0, 1) := dk_42 (dk_at dksX8_readPart_0 0 rfl rfl)
theorem dX8_readPart_1 : decode cX8_readPart 1 = .ok (.aload_n 1, 1) := dk_43 (dk_at dksX8_readPart_0 1 rfl rfl)
theorem dX8_readPart_2 : decode cX8_readPart 2 = .ok (.invokevirtual 146, 3) := dk_182 0 146 (dk_at dksX8_readPart_0 2 rfl rfl)
theorem dX8_readPart_5 : decode cX8_readPart 5 = .ok (.aload_n 0, 1) := dk_42 (dk_at dksX8_readPart_0 5 rfl rfl)
theorem dX8_readPart_6 : decode cX8_readPart 6 = .ok (.iload_n 2, 1) := dk_28 (dk_at dksX8_readPart_0 6 rfl rfl)
theorem dX8_readPart_7 : decode cX8_readPart 7 = .ok (.iload_n 3, 1) := dk_29 (dk_at dksX8_readPart_0 7 rfl rfl)
theorem dX8_readPart_8 : decode cX8_readPart 8 = .ok (.invokevirtual 150, 3) := dk_182 0 150 (dk_at dksX8_readPart_0 8 rfl rfl)
theorem dX8_readPart_11 : decode cX8_readPart 11 = .ok (.ireturn, 1) := dk_172 (dk_at dksX8_readPart_0 11 rfl rfl)
abbrev cX8_needs : ByteArray := prog_20_method_20_code
def yX8_needs : MethodName := ⟨RX8, "needs", "(Ljava/lang/String;)V"⟩
def dkwX8_needs_0 : List UInt8 := [42, 43, 182, 0, 130, 154, 0, 8, 42, 4, 182, 0, 134, 42, 182, 0, 127, 177]
abbrev dktX8_needs_0 : List UInt8 := dkwX8_needs_0 ++ []
theorem dksX8_needs_0 : cX8_needs.data.toList.drop 0 = dktX8_needs_0 := by decide +kernel
theorem dX8_needs_0 : decode cX8_needs 0 = .ok (.aload_n 0, 1) := dk_42 (dk_at dksX8_needs_0 0 rfl rfl)
theorem dX8_needs_1 : decode cX8_needs 1 = .ok (.aload_n 1, 1) := dk_43 (dk_at dksX8_needs_0 1 rfl rfl)
theorem dX8_needs_2 : decode cX8_needs 2 = .ok (.invokevirtual 130, 3) := dk_182 0 130 (dk_at dksX8_needs_0 2 rfl rfl)
theorem dX8_needs_5 : decode cX8_needs 5 = .ok (.ifCond .ne 8, 3) := dk_154 0 8 (dk_at dksX8_needs_0 5 rfl rfl)
theorem dX8_needs_8 : decode cX8_needs 8 = .ok (.aload_n 0, 1) := dk_42 (dk_at dksX8_needs_0 8 rfl rfl)
theorem dX8_needs_9 : decode cX8_needs 9 = .ok (.iconst 1, 1) := dk_4 (dk_at dksX8_needs_0 9 rfl rfl)
theorem dX8_needs_10 : decode cX8_needs 10 = .ok (.invokevirtual 134, 3) := dk_182 0 134 (dk_at dksX8_needs_0 10 rfl rfl)
theorem dX8_needs_13 : decode cX8_needs 13 = .ok (.aload_n 0, 1) := dk_42 (dk_at dksX8_needs_0 13 rfl rfl)
theorem dX8_needs_14 : decode cX8_needs 14 = .ok (.invokevirtual 127, 3) := dk_182 0 127 (dk_at dksX8_needs_0 14 rfl rfl)
theorem dX8_needs_17 : decode cX8_needs 17 = .ok (.return_, 1) := dk_177 (dk_at dksX8_needs_0 17 rfl rfl)
abbrev cX8_readWhole : ByteArray := prog_20_method_22_code
def yX8_readWhole : MethodName := ⟨RX8, "readWhole", "(II)I"⟩
def dkwX8_readWhole_0 : List UInt8 := [42, 27, 28, 182, 0, 142, 62, 42, 182, 0, 127, 29, 172]
abbrev dktX8_readWhole_0 : List UInt8 := dkwX8_readWhole_0 ++ []
theorem dksX8_readWhole_0 : cX8_readWhole.data.toList.drop 0 = dktX8_readWhole_0 := by decide +kernel
theorem dX8_readWhole_0 : decode cX8_readWhole 0 = .ok (.aload_n 0, 1) := dk_42 (dk_at dksX8_readWhole_0 0 rfl rfl)
theorem dX8_readWhole_1 : decode cX8_readWhole 1 = .ok (.iload_n 1, 1) := dk_27 (dk_at dksX8_readWhole_0 1 rfl rfl)
theorem dX8_readWhole_2 : decode cX8_readWhole 2 = .ok (.iload_n 2, 1) := dk_28 (dk_at dksX8_readWhole_0 2 rfl rfl)
theorem dX8_readWhole_3 : decode cX8_readWhole 3 = .ok (.invokevirtual 142, 3) := dk_182 0 142 (dk_at dksX8_readWhole_0 3 rfl rfl)
theorem dX8_readWhole_6 : decode cX8_readWhole 6 = .ok (.istore_n 3, 1) := dk_62 (dk_at dksX8_readWhole_0 6 rfl rfl)
theorem dX8_readWhole_7 : decode cX8_readWhole 7 = .ok (.aload_n 0, 1) := dk_42 (dk_at dksX8_readWhole_0 7 rfl rfl)
theorem dX8_readWhole_8 : decode cX8_readWhole 8 = .ok (.invokevirtual 127, 3) := dk_182 0 127 (dk_at dksX8_readWhole_0 8 rfl rfl)
theorem dX8_readWhole_11 : decode cX8_readWhole 11 = .ok (.iload_n 3, 1) := dk_29 (dk_at dksX8_readWhole_0 11 rfl rfl)
theorem dX8_readWhole_12 : decode cX8_readWhole 12 = .ok (.ireturn, 1) := dk_172 (dk_at dksX8_readWhole_0 12 rfl rfl)
abbrev cX8_bounded : ByteArray := prog_20_method_21_code
def yX8_bounded : MethodName := ⟨RX8, "bounded", "(II)I"⟩
def dkwX8_bounded_2 : List UInt8 := [180, 0, 111, 172]
abbrev dktX8_bounded_2 : List UInt8 := dkwX8_bounded_2 ++ []
def dkwX8_bounded_1 : List UInt8 := [184, 0, 138, 154, 0, 8, 42, 7, 182, 0, 134, 42, 180, 0, 85, 8, 160, 0, 7, 27, 167, 0, 7, 42]
abbrev dktX8_bounded_1 : List UInt8 := dkwX8_bounded_1 ++ dktX8_bounded_2
def dkwX8_bounded_0 : List UInt8 := [42, 180, 0, 85, 6, 159, 0, 11, 42, 4, 182, 0, 134, 167, 0, 20, 42, 180, 0, 111, 27, 28]
abbrev dktX8_bounded_0 : List UInt8 := dkwX8_bounded_0 ++ dktX8_bounded_1
theorem dksX8_bounded_0 : cX8_bounded.data.toList.drop 0 = dktX8_bounded_0 := by decide +kernel
theorem dksX8_bounded_1 : cX8_bounded.data.toList.drop 22 = dktX8_bounded_1 := dk_seg dksX8_bounded_0 22 rfl rfl
theorem dksX8_bounded_2 : cX8_bounded.data.toList.drop 46 = dktX8_bounded_2 := dk_seg dksX8_bounded_1 24 rfl rfl
theorem dX8_bounded_0 : decode cX8_bounded 0 = .ok (.aload_n 0, 1) := dk_42 (dk_at dksX8_bounded_0 0 rfl rfl)
theorem dX8_bounded_1 : decode cX8_bounded 1 = .ok (.getfield 85, 3) := dk_180 0 85 (dk_at dksX8_bounded_0 1 rfl rfl)
theorem dX8_bounded_4 : decode cX8_bounded 4 = .ok (.iconst 3, 1) := dk_6 (dk_at dksX8_bounded_0 4 rfl rfl)
theorem dX8_bounded_5 : decode cX8_bounded 5 = .ok (.if_icmp .eq 11, 3) := dk_159 0 11 (dk_at dksX8_bounded_0 5 rfl rfl)
theorem dX8_bounded_8 : decode cX8_bounded 8 = .ok (.aload_n 0, 1) := dk_42 (dk_at dksX8_bounded_0 8 rfl rfl)
theorem dX8_bounded_9 : decode cX8_bounded 9 = .ok (.iconst 1, 1) := dk_4 (dk_at dksX8_bounded_0 9 rfl rfl)
theorem dX8_bounded_10 : decode cX8_bounded 10 = .ok (.invokevirtual 134, 3) := dk_182 0 134 (dk_at dksX8_bounded_0 10 rfl rfl)
theorem dX8_bounded_13 : decode cX8_bounded 13 = .ok (.goto 20, 3) := dk_167 0 20 (dk_at dksX8_bounded_0 13 rfl rfl)
theorem dX8_bounded_16 : decode cX8_bounded 16 = .ok (.aload_n 0, 1) := dk_42 (dk_at dksX8_bounded_0 16 rfl rfl)
theorem dX8_bounded_17 : decode cX8_bounded 17 = .ok (.getfield 111, 3) := dk_180 0 111 (dk_at dksX8_bounded_0 17 rfl rfl)
theorem dX8_bounded_20 : decode cX8_bounded 20 = .ok (.iload_n 1, 1) := dk_27 (dk_at dksX8_bounded_0 20 rfl rfl)
theorem dX8_bounded_21 : decode cX8_bounded 21 = .ok (.iload_n 2, 1) := dk_28 (dk_at dksX8_bounded_0 21 rfl rfl)
theorem dX8_bounded_22 : decode cX8_bounded 22 = .ok (.invokestatic 138, 3) := dk_184 0 138 (dk_at dksX8_bounded_1 0 rfl rfl)
theorem dX8_bounded_25 : decode cX8_bounded 25 = .ok (.ifCond .ne 8, 3) := dk_154 0 8 (dk_at dksX8_bounded_1 3 rfl rfl)
theorem dX8_bounded_28 : decode cX8_bounded 28 = .ok (.aload_n 0, 1) := dk_42 (dk_at dksX8_bounded_1 6 rfl rfl)
theorem dX8_bounded_29 : decode cX8_bounded 29 = .ok (.iconst 4, 1) := dk_7 (dk_at dksX8_bounded_1 7 rfl rfl)
theorem dX8_bounded_30 : decode cX8_bounded 30 = .ok (.invokevirtual 134, 3) := dk_182 0 134 (dk_at dksX8_bounded_1 8 rfl rfl)
theorem dX8_bounded_33 : decode cX8_bounded 33 = .ok (.aload_n 0, 1) := dk_42 (dk_at dksX8_bounded_1 11 rfl rfl)
theorem dX8_bounded_34 : decode cX8_bounded 34 = .ok (.getfield 85, 3) := dk_180 0 85 (dk_at dksX8_bounded_1 12 rfl rfl)
theorem dX8_bounded_37 : decode cX8_bounded 37 = .ok (.iconst 5, 1) := dk_8 (dk_at dksX8_bounded_1 15 rfl rfl)
theorem dX8_bounded_38 : decode cX8_bounded 38 = .ok (.if_icmp .ne 7, 3) := dk_160 0 7 (dk_at dksX8_bounded_1 16 rfl rfl)
theorem dX8_bounded_41 : decode cX8_bounded 41 = .ok (.iload_n 1, 1) := dk_27 (dk_at dksX8_bounded_1 19 rfl rfl)
theorem dX8_bounded_42 : decode cX8_bounded 42 = .ok (.goto 7, 3) := dk_167 0 7 (dk_at dksX8_bounded_1 20 rfl rfl)
theorem dX8_bounded_45 : decode cX8_bounded 45 = .ok (.aload_n 0, 1) := dk_42 (dk_at dksX8_bounded_1 23 rfl rfl)
theorem dX8_bounded_46 : decode cX8_bounded 46 = .ok (.getfield 111, 3) := dk_180 0 111 (dk_at dksX8_bounded_2 0 rfl rfl)
theorem dX8_bounded_49 : decode cX8_bounded 49 = .ok (.ireturn, 1) := dk_172 (dk_at dksX8_bounded_2 3 rfl rfl)
abbrev cX8_in : ByteArray := prog_20_method_7_code
def yX8_in : MethodName := ⟨RX8, "in", "(III)Z"⟩
def dkwX8_in_0 : List UInt8 := [26, 27, 161, 0, 12, 26, 28, 163, 0, 7, 4, 167, 0, 4, 3, 172]
abbrev dktX8_in_0 : List UInt8 := dkwX8_in_0 ++ []
theorem dksX8_in_0 : cX8_in.data.toList.drop 0 = dktX8_in_0 := by decide +kernel
theorem dX8_in_0 : decode cX8_in 0 = .ok (.iload_n 0, 1) := dk_26 (dk_at dksX8_in_0 0 rfl rfl)
theorem dX8_in_1 : decode cX8_in 1 = .ok (.iload_n 1, 1) := dk_27 (dk_at dksX8_in_0 1 rfl rfl)
theorem dX8_in_2 : decode cX8_in 2 = .ok (.if_icmp .lt 12, 3) := dk_161 0 12 (dk_at dksX8_in_0 2 rfl rfl)
theorem dX8_in_5 : decode cX8_in 5 = .ok (.iload_n 0, 1) := dk_26 (dk_at dksX8_in_0 5 rfl rfl)
theorem dX8_in_6 : decode cX8_in 6 = .ok (.iload_n 2, 1) := dk_28 (dk_at dksX8_in_0 6 rfl rfl)
theorem dX8_in_7 : decode cX8_in 7 = .ok (.if_icmp .gt 7, 3) := dk_163 0 7 (dk_at dksX8_in_0 7 rfl rfl)
theorem dX8_in_10 : decode cX8_in 10 = .ok (.iconst 1, 1) := dk_4 (dk_at dksX8_in_0 10 rfl rfl)
theorem dX8_in_11 : decode cX8_in 11 = .ok (.goto 4, 3) := dk_167 0 4 (dk_at dksX8_in_0 11 rfl rfl)
theorem dX8_in_14 : decode cX8_in 14 = .ok (.iconst 0, 1) := dk_3 (dk_at dksX8_in_0 14 rfl rfl)
theorem dX8_in_15 : decode cX8_in 15 = .ok (.ireturn, 1) := dk_172 (dk_at dksX8_in_0 15 rfl rfl)
abbrev cX8_readBone : ByteArray := prog_20_method_35_code
def yX8_readBone : MethodName := ⟨RX8, "readBone", "()V"⟩
def dkwX8_readBone_7 : List UInt8 := [181, 0, 210, 177]
abbrev dktX8_readBone_7 : List UInt8 := dkwX8_readBone_7 ++ []
def dkwX8_readBone_6 : List UInt8 := [180, 1, 35, 42, 180, 0, 171, 180, 0, 210, 21, 4, 79, 42, 180, 0, 171, 89, 180, 0, 210, 4, 96]
abbrev dktX8_readBone_6 : List UInt8 := dkwX8_readBone_6 ++ dktX8_readBone_7
def dkwX8_readBone_5 : List UInt8 := [182, 1, 29, 42, 180, 0, 171, 180, 1, 32, 42, 180, 0, 171, 180, 0, 210, 29, 79, 42, 180, 0, 171]
abbrev dktX8_readBone_5 : List UInt8 := dkwX8_readBone_5 ++ dktX8_readBone_6
def dkwX8_readBone_4 : List UInt8 := [42, 4, 182, 1, 26, 42, 180, 0, 85, 8, 160, 0, 4, 177, 42, 31, 4, 42, 180, 0, 171, 180, 0, 210]
abbrev dktX8_readBone_4 : List UInt8 := dkwX8_readBone_4 ++ dktX8_readBone_5
def dkwX8_readBone_3 : List UInt8 := [182, 0, 134, 42, 182, 0, 127, 42, 19, 1, 24, 3, 16, 24, 182, 0, 239, 54, 4, 42, 3, 182, 1, 26]
abbrev dktX8_readBone_3 : List UInt8 := dkwX8_readBone_3 ++ dktX8_readBone_4
def dkwX8_readBone_2 : List UInt8 := [19, 1, 22, 182, 0, 130, 153, 0, 7, 5, 167, 0, 4, 2, 62, 29, 2, 160, 0, 8, 42, 4]
abbrev dktX8_readBone_2 : List UInt8 := dkwX8_readBone_2 ++ dktX8_readBone_3
def dkwX8_readBone_1 : List UInt8 := [153, 0, 7, 3, 167, 0, 32, 42, 19, 1, 20, 182, 0, 130, 153, 0, 7, 4, 167, 0, 18, 42]
abbrev dktX8_readBone_1 : List UInt8 := dkwX8_readBone_1 ++ dktX8_readBone_2
def dkwX8_readBone_0 : List UInt8 := [42, 42, 180, 0, 171, 180, 0, 210, 8, 182, 1, 10, 42, 182, 1, 14, 64, 42, 19, 1, 18, 182, 0, 130]
abbrev dktX8_readBone_0 : List UInt8 := dkwX8_readBone_0 ++ dktX8_readBone_1
theorem dksX8_readBone_0 : cX8_readBone.data.toList.drop 0 = dktX8_readBone_0 := by decide +kernel
theorem dksX8_readBone_1 : cX8_readBone.data.toList.drop 24 = dktX8_readBone_1 := dk_seg dksX8_readBone_0 24 rfl rfl
theorem dksX8_readBone_2 : cX8_readBone.data.toList.drop 46 = dktX8_readBone_2 := dk_seg dksX8_readBone_1 22 rfl rfl
theorem dksX8_readBone_3 : cX8_readBone.data.toList.drop 68 = dktX8_readBone_3 := dk_seg dksX8_readBone_2 22 rfl rfl
theorem dksX8_readBone_4 : cX8_readBone.data.toList.drop 92 = dktX8_readBone_4 := dk_seg dksX8_readBone_3 24 rfl rfl
theorem dksX8_readBone_5 : cX8_readBone.data.toList.drop 116 = dktX8_readBone_5 := dk_seg dksX8_readBone_4 24 rfl rfl
theorem dksX8_readBone_6 : cX8_readBone.data.toList.drop 139 = dktX8_readBone_6 := dk_seg dksX8_readBone_5 23 rfl rfl
theorem dksX8_readBone_7 : cX8_readBone.data.toList.drop 162 = dktX8_readBone_7 := dk_seg dksX8_readBone_6 23 rfl rfl
theorem dX8_readBone_0 : decode cX8_readBone 0 = .ok (.aload_n 0, 1) := dk_42 (dk_at dksX8_readBone_0 0 rfl rfl)
theorem dX8_readBone_1 : decode cX8_readBone 1 = .ok (.aload_n 0, 1) := dk_42 (dk_at dksX8_readBone_0 1 rfl rfl)
theorem dX8_readBone_2 : decode cX8_readBone 2 = .ok (.getfield 171, 3) := dk_180 0 171 (dk_at dksX8_readBone_0 2 rfl rfl)
theorem dX8_readBone_5 : decode cX8_readBone 5 = .ok (.getfield 210, 3) := dk_180 0 210 (dk_at dksX8_readBone_0 5 rfl rfl)
theorem dX8_readBone_8 : decode cX8_readBone 8 = .ok (.iconst 5, 1) := dk_8 (dk_at dksX8_readBone_0 8 rfl rfl)
theorem dX8_readBone_9 : decode cX8_readBone 9 = .ok (.invokevirtual 266, 3) := dk_182 1 10 (dk_at dksX8_readBone_0 9 rfl rfl)
theorem dX8_readBone_12 : decode cX8_readBone 12 = .ok (.aload_n 0, 1) := dk_42 (dk_at dksX8_readBone_0 12 rfl rfl)
theorem dX8_readBone_13 : decode cX8_readBone 13 = .ok (.invokevirtual 270, 3) := dk_182 1 14 (dk_at dksX8_readBone_0 13 rfl rfl)
theorem dX8_readBone_16 : decode cX8_readBone 16 = .ok (.lstore_n 1, 1) := dk_64 (dk_at dksX8_readBone_0 16 rfl rfl)
theorem dX8_readBone_17 : decode cX8_readBone 17 = .ok (.aload_n 0, 1) := dk_42 (dk_at dksX8_readBone_0 17 rfl rfl)
theorem dX8_readBone_18 : decode cX8_readBone 18 = .ok (.ldc_w 274, 3) := dk_19 1 18 (dk_at dksX8_readBone_0 18 rfl rfl)
theorem dX8_readBone_21 : decode cX8_readBone 21 = .ok (.invokevirtual 130, 3) := dk_182 0 130 (dk_at dksX8_readBone_0 21 rfl rfl)
theorem dX8_readBone_24 : decode cX8_readBone 24 = .ok (.ifCond .eq 7, 3) := dk_153 0 7 (dk_at dksX8_readBone_1 0 rfl rfl)
theorem dX8_readBone_27 : decode cX8_readBone 27 = .ok (.iconst 0, 1) := dk_3 (dk_at dksX8_readBone_1 3 rfl rfl)
theorem dX8_readBone_28 : decode cX8_readBone 28 = .ok (.goto 32, 3) := dk_167 0 32 (dk_at dksX8_readBone_1 4 rfl rfl)
theorem dX8_readBone_31 : decode cX8_readBone 31 = .ok (.aload_n 0, 1) := dk_42 (dk_at dksX8_readBone_1 7 rfl rfl)
theorem dX8_readBone_32 : decode cX8_readBone 32 = .ok (.ldc_w 276, 3) := dk_19 1 20 (dk_at dksX8_readBone_1 8 rfl rfl)
theorem dX8_readBone_35 : decode cX8_readBone 35 = .ok (.invokevirtual 130, 3) := dk_182 0 130 (dk_at dksX8_readBone_1 11 rfl rfl)
theorem dX8_readBone_38 : decode cX8_readBone 38 = .ok (.ifCond .eq 7, 3) := dk_153 0 7 (dk_at dksX8_readBone_1 14 rfl rfl)
theorem dX8_readBone_41 : decode cX8_readBone 41 = .ok (.iconst 1, 1) := dk_4 (dk_at dksX8_readBone_1 17 rfl rfl)
theorem dX8_readBone_42 : decode cX8_readBone 42 = .ok (.goto 18, 3) := dk_167 0 18 (dk_at dksX8_readBone_1 18 rfl rfl)
theorem dX8_readBone_45 : decode cX8_readBone 45 = .ok (.aload_n 0, 1) := dk_42 (dk_at dksX8_readBone_1 21 rfl rfl)
theorem dX8_readBone_46 : decode cX8_readBone 46 = .ok (.ldc_w 278, 3) := dk_19 1 22 (dk_at dksX8_readBone_2 0 rfl rfl)
theorem dX8_readBone_49 : decode cX8_readBone 49 = .ok (.invokevirtual 130, 3) := dk_182 0 130 (dk_at dksX8_readBone_2 3 rfl rfl)
theorem dX8_readBone_52 : decode cX8_readBone 52 = .ok (.ifCond .eq 7, 3) := dk_153 0 7 (dk_at dksX8_readBone_2 6 rfl rfl)
theorem dX8_readBone_55 : decode cX8_readBone 55 = .ok (.iconst 2, 1) := dk_5 (dk_at dksX8_readBone_2 9 rfl rfl)
theorem dX8_readBone_56 : decode cX8_readBone 56 = .ok (.goto 4, 3) := dk_167 0 4 (dk_at dksX8_readBone_2 10 rfl rfl)
theorem dX8_readBone_59 : decode cX8_readBone 59 = .ok (.iconst (-1), 1) := dk_2 (dk_at dksX8_readBone_2 13 rfl rfl)
theorem dX8_readBone_60 : decode cX8_readBone 60 = .ok (.istore_n 3, 1) := dk_62 (dk_at dksX8_readBone_2 14 rfl rfl)
theorem dX8_readBone_61 : decode cX8_readBone 61 = .ok (.iload_n 3, 1) := dk_29 (dk_at dksX8_readBone_2 15 rfl rfl)
theorem dX8_readBone_62 : decode cX8_readBone 62 = .ok (.iconst (-1), 1) := dk_2 (dk_at dksX8_readBone_2 16 rfl rfl)
theorem dX8_readBone_63 : decode cX8_readBone 63 = .ok (.if_icmp .ne 8, 3) := dk_160 0 8 (dk_at dksX8_readBone_2 17 rfl rfl)
theorem dX8_readBone_66 : decode cX8_readBone 66 = .ok (.aload_n 0, 1) := dk_42 (dk_at dksX8_readBone_2 20 rfl rfl)
theorem dX8_readBone_67 : decode cX8_readBone 67 = .ok (.iconst 1, 1) := dk_4 (dk_at dksX8_readBone_2 21 rfl rfl)
theorem dX8_readBone_68 : decode cX8_readBone 68 = .ok (.invokevirtual 134, 3) := dk_182 0 134 (dk_at dksX8_readBone_3 0 rfl rfl)
theorem dX8_readBone_71 : decode cX8_readBone 71 = .ok (.aload_n 0, 1) := dk_42 (dk_at dksX8_readBone_3 3 rfl rfl)
theorem dX8_readBone_72 : decode cX8_readBone 72 = .ok (.invokevirtual 127, 3) := dk_182 0 127 (dk_at dksX8_readBone_3 4 rfl rfl)
theorem dX8_readBone_75 : decode cX8_readBone 75 = .ok (.aload_n 0, 1) := dk_42 (dk_at dksX8_readBone_3 7 rfl rfl)
theorem dX8_readBone_76 : decode cX8_readBone 76 = .ok (.ldc_w 280, 3) := dk_19 1 24 (dk_at dksX8_readBone_3 8 rfl rfl)
theorem dX8_readBone_79 : decode cX8_readBone 79 = .ok (.iconst 0, 1) := dk_3 (dk_at dksX8_readBone_3 11 rfl rfl)
theorem dX8_readBone_80 : decode cX8_readBone 80 = .ok (.bipush 24, 2) := dk_16 24 (dk_at dksX8_readBone_3 12 rfl rfl)
theorem dX8_readBone_82 : decode cX8_readBone 82 = .ok (.invokevirtual 239, 3) := dk_182 0 239 (dk_at dksX8_readBone_3 14 rfl rfl)
theorem dX8_readBone_85 : decode cX8_readBone 85 = .ok (.istore 4, 2) := dk_54 4 (dk_at dksX8_readBone_3 17 rfl rfl)
theorem dX8_readBone_87 : decode cX8_readBone 87 = .ok (.aload_n 0, 1) := dk_42 (dk_at dksX8_readBone_3 19 rfl rfl)
theorem dX8_readBone_88 : decode cX8_readBone 88 = .ok (.iconst 0, 1) := dk_3 (dk_at dksX8_readBone_3 20 rfl rfl)
theorem dX8_readBone_89 : decode cX8_readBone 89 = .ok (.invokevirtual 282, 3) := dk_182 1 26 (dk_at dksX8_readBone_3 21 rfl rfl)
theorem dX8_readBone_92 : decode cX8_readBone 92 = .ok (.aload_n 0, 1) := dk_42 (dk_at dksX8_readBone_4 0 rfl rfl)
theorem dX8_readBone_93 : decode cX8_readBone 93 = .ok (.iconst 1, 1) := dk_4 (dk_at dksX8_readBone_4 1 rfl rfl)
theorem dX8_readBone_94 : decode cX8_readBone 94 = .ok (.invokevirtual 282, 3) := dk_182 1 26 (dk_at dksX8_readBone_4 2 rfl rfl)
theorem dX8_readBone_97 : decode cX8_readBone 97 = .ok (.aload_n 0, 1) := dk_42 (dk_at dksX8_readBone_4 5 rfl rfl)
theorem dX8_readBone_98 : decode cX8_readBone 98 = .ok (.getfield 85, 3) := dk_180 0 85 (dk_at dksX8_readBone_4 6 rfl rfl)
theorem dX8_readBone_101 : decode cX8_readBone 101 = .ok (.iconst 5, 1) := dk_8 (dk_at dksX8_readBone_4 9 rfl rfl)
theorem dX8_readBone_102 : decode cX8_readBone 102 = .ok (.if_icmp .ne 4, 3) := dk_160 0 4 (dk_at dksX8_readBone_4 10 rfl rfl)
theorem dX8_readBone_105 : decode cX8_readBone 105 = .ok (.return_, 1) := dk_177 (dk_at dksX8_readBone_4 13 rfl rfl)
theorem dX8_readBone_106 : decode cX8_readBone 106 = .ok (.aload_n 0, 1) := dk_42 (dk_at dksX8_readBone_4 14 rfl rfl)
theorem dX8_readBone_107 : decode cX8_readBone 107 = .ok (.lload_n 1, 1) := dk_31 (dk_at dksX8_readBone_4 15 rfl rfl)
theorem dX8_readBone_108 : decode cX8_readBone 108 = .ok (.iconst 1, 1) := dk_4 (dk_at dksX8_readBone_4 16 rfl rfl)
theorem dX8_readBone_109 : decode cX8_readBone 109 = .ok (.aload_n 0, 1) := dk_42 (dk_at dksX8_readBone_4 17 rfl rfl)
theorem dX8_readBone_110 : decode cX8_readBone 110 = .ok (.getfield 171, 3) := dk_180 0 171 (dk_at dksX8_readBone_4 18 rfl rfl)
theorem dX8_readBone_113 : decode cX8_readBone 113 = .ok (.getfield 210, 3) := dk_180 0 210 (dk_at dksX8_readBone_4 21 rfl rfl)
theorem dX8_readBone_116 : decode cX8_readBone 116 = .ok (.invokevirtual 285, 3) := dk_182 1 29 (dk_at dksX8_readBone_5 0 rfl rfl)
theorem dX8_readBone_119 : decode cX8_readBone 119 = .ok (.aload_n 0, 1) := dk_42 (dk_at dksX8_readBone_5 3 rfl rfl)
theorem dX8_readBone_120 : decode cX8_readBone 120 = .ok (.getfield 171, 3) := dk_180 0 171 (dk_at dksX8_readBone_5 4 rfl rfl)
theorem dX8_readBone_123 : decode cX8_readBone 123 = .ok (.getfield 288, 3) := dk_180 1 32 (dk_at dksX8_readBone_5 7 rfl rfl)
theorem dX8_readBone_126 : decode cX8_readBone 126 = .ok (.aload_n 0, 1) := dk_42 (dk_at dksX8_readBone_5 10 rfl rfl)
theorem dX8_readBone_127 : decode cX8_readBone 127 = .ok (.getfield 171, 3) := dk_180 0 171 (dk_at dksX8_readBone_5 11 rfl rfl)
theorem dX8_readBone_130 : decode cX8_readBone 130 = .ok (.getfield 210, 3) := dk_180 0 210 (dk_at dksX8_readBone_5 14 rfl rfl)
theorem dX8_readBone_133 : decode cX8_readBone 133 = .ok (.iload_n 3, 1) := dk_29 (dk_at dksX8_readBone_5 17 rfl rfl)
theorem dX8_readBone_134 : decode cX8_readBone 134 = .ok (.iastore, 1) := dk_79 (dk_at dksX8_readBone_5 18 rfl rfl)
theorem dX8_readBone_135 : decode cX8_readBone 135 = .ok (.aload_n 0, 1) := dk_42 (dk_at dksX8_readBone_5 19 rfl rfl)
theorem dX8_readBone_136 : decode cX8_readBone 136 = .ok (.getfield 171, 3) := dk_180 0 171 (dk_at dksX8_readBone_5 20 rfl rfl)
theorem dX8_readBone_139 : decode cX8_readBone 139 = .ok (.getfield 291, 3) := dk_180 1 35 (dk_at dksX8_readBone_6 0 rfl rfl)
theorem dX8_readBone_142 : decode cX8_readBone 142 = .ok (.aload_n 0, 1) := dk_42 (dk_at dksX8_readBone_6 3 rfl rfl)
theorem dX8_readBone_143 : decode cX8_readBone 143 = .ok (.getfield 171, 3) := dk_180 0 171 (dk_at dksX8_readBone_6 4 rfl rfl)
theorem dX8_readBone_146 : decode cX8_readBone 146 = .ok (.getfield 210, 3) := dk_180 0 210 (dk_at dksX8_readBone_6 7 rfl rfl)
theorem dX8_readBone_149 : decode cX8_readBone 149 = .ok (.iload 4, 2) := dk_21 4 (dk_at dksX8_readBone_6 10 rfl rfl)
theorem dX8_readBone_151 : decode cX8_readBone 151 = .ok (.iastore, 1) := dk_79 (dk_at dksX8_readBone_6 12 rfl rfl)
theorem dX8_readBone_152 : decode cX8_readBone 152 = .ok (.aload_n 0, 1) := dk_42 (dk_at dksX8_readBone_6 13 rfl rfl)
theorem dX8_readBone_153 : decode cX8_readBone 153 = .ok (.getfield 171, 3) := dk_180 0 171 (dk_at dksX8_readBone_6 14 rfl rfl)
theorem dX8_readBone_156 : decode cX8_readBone 156 = .ok (.dup, 1) := dk_89 (dk_at dksX8_readBone_6 17 rfl rfl)
theorem dX8_readBone_157 : decode cX8_readBone 157 = .ok (.getfield 210, 3) := dk_180 0 210 (dk_at dksX8_readBone_6 18 rfl rfl)
theorem dX8_readBone_160 : decode cX8_readBone 160 = .ok (.iconst 1, 1) := dk_4 (dk_at dksX8_readBone_6 21 rfl rfl)
theorem dX8_readBone_161 : decode cX8_readBone 161 = .ok (.iadd, 1) := dk_96 (dk_at dksX8_readBone_6 22 rfl rfl)
theorem dX8_readBone_162 : decode cX8_readBone 162 = .ok (.putfield 210, 3) := dk_181 0 210 (dk_at dksX8_readBone_7 0 rfl rfl)
theorem dX8_readBone_165 : decode cX8_readBone 165 = .ok (.return_, 1) := dk_177 (dk_at dksX8_readBone_7 3 rfl rfl)
abbrev cX8_begins : ByteArray := prog_20_method_25_code
def yX8_begins : MethodName := ⟨RX8, "begins", "(II)V"⟩
def dkwX8_begins_1 : List UInt8 := [182, 0, 134, 42, 182, 0, 127, 177]
abbrev dktX8_begins_1 : List UInt8 := dkwX8_begins_1 ++ []
def dkwX8_begins_0 : List UInt8 := [27, 28, 160, 0, 8, 42, 8, 182, 0, 134, 42, 180, 0, 171, 180, 0, 175, 154, 0, 9, 42, 16, 6]
abbrev dktX8_begins_0 : List UInt8 := dkwX8_begins_0 ++ dktX8_begins_1
theorem dksX8_begins_0 : cX8_begins.data.toList.drop 0 = dktX8_begins_0 := by decide +kernel
theorem dksX8_begins_1 : cX8_begins.data.toList.drop 23 = dktX8_begins_1 := dk_seg dksX8_begins_0 23 rfl rfl
theorem dX8_begins_0 : decode cX8_begins 0 = .ok (.iload_n 1, 1) := dk_27 (dk_at dksX8_begins_0 0 rfl rfl)
theorem dX8_begins_1 : decode cX8_begins 1 = .ok (.iload_n 2, 1) := dk_28 (dk_at dksX8_begins_0 1 rfl rfl)
theorem dX8_begins_2 : decode cX8_begins 2 = .ok (.if_icmp .ne 8, 3) := dk_160 0 8 (dk_at dksX8_begins_0 2 rfl rfl)
theorem dX8_begins_5 : decode cX8_begins 5 = .ok (.aload_n 0, 1) := dk_42 (dk_at dksX8_begins_0 5 rfl rfl)
theorem dX8_begins_6 : decode cX8_begins 6 = .ok (.iconst 5, 1) := dk_8 (dk_at dksX8_begins_0 6 rfl rfl)
theorem dX8_begins_7 : decode cX8_begins 7 = .ok (.invokevirtual 134, 3) := dk_182 0 134 (dk_at dksX8_begins_0 7 rfl rfl)
theorem dX8_begins_10 : decode cX8_begins 10 = .ok (.aload_n 0, 1) := dk_42 (dk_at dksX8_begins_0 10 rfl rfl)
theorem dX8_begins_11 : decode cX8_begins 11 = .ok (.getfield 171, 3) := dk_180 0 171 (dk_at dksX8_begins_0 11 rfl rfl)
theorem dX8_begins_14 : decode cX8_begins 14 = .ok (.getfield 175, 3) := dk_180 0 175 (dk_at dksX8_begins_0 14 rfl rfl)
theorem dX8_begins_17 : decode cX8_begins 17 = .ok (.ifCond .ne 9, 3) := dk_154 0 9 (dk_at dksX8_begins_0 17 rfl rfl)
theorem dX8_begins_20 : decode cX8_begins 20 = .ok (.aload_n 0, 1) := dk_42 (dk_at dksX8_begins_0 20 rfl rfl)
theorem dX8_begins_21 : decode cX8_begins 21 = .ok (.bipush 6, 2) := dk_16 6 (dk_at dksX8_begins_0 21 rfl rfl)
theorem dX8_begins_23 : decode cX8_begins 23 = .ok (.invokevirtual 134, 3) := dk_182 0 134 (dk_at dksX8_begins_1 0 rfl rfl)
theorem dX8_begins_26 : decode cX8_begins 26 = .ok (.aload_n 0, 1) := dk_42 (dk_at dksX8_begins_1 3 rfl rfl)
theorem dX8_begins_27 : decode cX8_begins 27 = .ok (.invokevirtual 127, 3) := dk_182 0 127 (dk_at dksX8_begins_1 4 rfl rfl)
theorem dX8_begins_30 : decode cX8_begins 30 = .ok (.return_, 1) := dk_177 (dk_at dksX8_begins_1 7 rfl rfl)
abbrev cX8_readFresh : ByteArray := prog_20_method_26_code
def yX8_readFresh : MethodName := ⟨RX8, "readFresh", "()J"⟩
def dkwX8_readFresh_1 : List UInt8 := [159, 0, 8, 42, 6, 182, 0, 134, 42, 180, 0, 104, 64, 42, 182, 0, 127, 31, 173]
abbrev dktX8_readFresh_1 : List UInt8 := dkwX8_readFresh_1 ++ []
def dkwX8_readFresh_0 : List UInt8 := [42, 182, 0, 181, 154, 0, 8, 42, 4, 182, 0, 134, 42, 180, 0, 171, 42, 180, 0, 104, 182, 0, 185, 2]
abbrev dktX8_readFresh_0 : List UInt8 := dkwX8_readFresh_0 ++ dktX8_readFresh_1
theorem dksX8_readFresh_0 : cX8_readFresh.data.toList.drop 0 = dktX8_readFresh_0 := by decide +kernel
theorem dksX8_readFresh_1 : cX8_readFresh.data.toList.drop 24 = dktX8_readFresh_1 := dk_seg dksX8_readFresh_0 24 rfl rfl
theorem dX8_readFresh_0 : decode cX8_readFresh 0 = .ok (.aload_n 0, 1) := dk_42 (dk_at dksX8_readFresh_0 0 rfl rfl)
theorem dX8_readFresh_1 : decode cX8_readFresh 1 = .ok (.invokevirtual 181, 3) := dk_182 0 181 (dk_at dksX8_readFresh_0 1 rfl rfl)
theorem dX8_readFresh_4 : decode cX8_readFresh 4 = .ok (.ifCond .ne 8, 3) := dk_154 0 8 (dk_at dksX8_readFresh_0 4 rfl rfl)
theorem dX8_readFresh_7 : decode cX8_readFresh 7 = .ok (.aload_n 0, 1) := dk_42 (dk_at dksX8_readFresh_0 7 rfl rfl)
theorem dX8_readFresh_8 : decode cX8_readFresh 8 = .ok (.iconst 1, 1) := dk_4 (dk_at dksX8_readFresh_0 8 rfl rfl)
theorem dX8_readFresh_9 : decode cX8_readFresh 9 = .ok (.invokevirtual 134, 3) := dk_182 0 134 (dk_at dksX8_readFresh_0 9 rfl rfl)
theorem dX8_readFresh_12 : decode cX8_readFresh 12 = .ok (.aload_n 0, 1) := dk_42 (dk_at dksX8_readFresh_0 12 rfl rfl)
theorem dX8_readFresh_13 : decode cX8_readFresh 13 = .ok (.getfield 171, 3) := dk_180 0 171 (dk_at dksX8_readFresh_0 13 rfl rfl)
theorem dX8_readFresh_16 : decode cX8_readFresh 16 = .ok (.aload_n 0, 1) := dk_42 (dk_at dksX8_readFresh_0 16 rfl rfl)
theorem dX8_readFresh_17 : decode cX8_readFresh 17 = .ok (.getfield 104, 3) := dk_180 0 104 (dk_at dksX8_readFresh_0 17 rfl rfl)
theorem dX8_readFresh_20 : decode cX8_readFresh 20 = .ok (.invokevirtual 185, 3) := dk_182 0 185 (dk_at dksX8_readFresh_0 20 rfl rfl)
theorem dX8_readFresh_23 : decode cX8_readFresh 23 = .ok (.iconst (-1), 1) := dk_2 (dk_at dksX8_readFresh_0 23 rfl rfl)
theorem dX8_readFresh_24 : decode cX8_readFresh 24 = .ok (.if_icmp .eq 8, 3) := dk_159 0 8 (dk_at dksX8_readFresh_1 0 rfl rfl)
theorem dX8_readFresh_27 : decode cX8_readFresh 27 = .ok (.aload_n 0, 1) := dk_42 (dk_at dksX8_readFresh_1 3 rfl rfl)
theorem dX8_readFresh_28 : decode cX8_readFresh 28 = .ok (.iconst 3, 1) := dk_6 (dk_at dksX8_readFresh_1 4 rfl rfl)
theorem dX8_readFresh_29 : decode cX8_readFresh 29 = .ok (.invokevirtual 134, 3) := dk_182 0 134 (dk_at dksX8_readFresh_1 5 rfl rfl)
theorem dX8_readFresh_32 : decode cX8_readFresh 32 = .ok (.aload_n 0, 1) := dk_42 (dk_at dksX8_readFresh_1 8 rfl rfl)
theorem dX8_readFresh_33 : decode cX8_readFresh 33 = .ok (.getfield 104, 3) := dk_180 0 104 (dk_at dksX8_readFresh_1 9 rfl rfl)
theorem dX8_readFresh_36 : decode cX8_readFresh 36 = .ok (.lstore_n 1, 1) := dk_64 (dk_at dksX8_readFresh_1 12 rfl rfl)
theorem dX8_readFresh_37 : decode cX8_readFresh 37 = .ok (.aload_n 0, 1) := dk_42 (dk_at dksX8_readFresh_1 13 rfl rfl)
theorem dX8_readFresh_38 : decode cX8_readFresh 38 = .ok (.invokevirtual 127, 3) := dk_182 0 127 (dk_at dksX8_readFresh_1 14 rfl rfl)
theorem dX8_readFresh_41 : decode cX8_readFresh 41 = .ok (.lload_n 1, 1) := dk_31 (dk_at dksX8_readFresh_1 17 rfl rfl)
theorem dX8_readFresh_42 : decode cX8_readFresh 42 = .ok (.lreturn, 1) := dk_173 (dk_at dksX8_readFresh_1 18 rfl rfl)
abbrev cX8_isName : ByteArray := prog_20_method_24_code
def yX8_isName : MethodName := ⟨RX8, "isName", "()Z"⟩
def dkwX8_isName_4 : List UInt8 := [167, 0, 4, 3, 172]
abbrev dktX8_isName_4 : List UInt8 := dkwX8_isName_4 ++ []
def dkwX8_isName_3 : List UInt8 := [154, 0, 25, 42, 18, 167, 182, 0, 130, 154, 0, 16, 42, 18, 169, 182, 0, 130, 154, 0, 7, 4]
abbrev dktX8_isName_3 : List UInt8 := dkwX8_isName_3 ++ dktX8_isName_4
def dkwX8_isName_2 : List UInt8 := [182, 0, 130, 153, 0, 5, 3, 172, 42, 18, 163, 182, 0, 130, 154, 0, 34, 42, 18, 165, 182, 0, 130]
abbrev dktX8_isName_2 : List UInt8 := dkwX8_isName_2 ++ dktX8_isName_3
def dkwX8_isName_1 : List UInt8 := [154, 0, 30, 42, 18, 157, 182, 0, 130, 154, 0, 21, 42, 18, 159, 182, 0, 130, 154, 0, 12, 42, 18, 161]
abbrev dktX8_isName_1 : List UInt8 := dkwX8_isName_1 ++ dktX8_isName_2
def dkwX8_isName_0 : List UInt8 := [42, 180, 0, 85, 5, 160, 0, 48, 42, 18, 153, 182, 0, 130, 154, 0, 39, 42, 18, 155, 182, 0, 130]
abbrev dktX8_isName_0 : List UInt8 := dkwX8_isName_0 ++ dktX8_isName_1
theorem dksX8_isName_0 : cX8_isName.data.toList.drop 0 = dktX8_isName_0 := by decide +kernel
theorem dksX8_isName_1 : cX8_isName.data.toList.drop 23 = dktX8_isName_1 := dk_seg dksX8_isName_0 23 rfl rfl
theorem dksX8_isName_2 : cX8_isName.data.toList.drop 47 = dktX8_isName_2 := dk_seg dksX8_isName_1 24 rfl rfl
theorem dksX8_isName_3 : cX8_isName.data.toList.drop 70 = dktX8_isName_3 := dk_seg dksX8_isName_2 23 rfl rfl
theorem dksX8_isName_4 : cX8_isName.data.toList.drop 92 = dktX8_isName_4 := dk_seg dksX8_isName_3 22 rfl rfl
theorem dX8_isName_0 : decode cX8_isName 0 = .ok (.aload_n 0, 1) := dk_42 (dk_at dksX8_isName_0 0 rfl rfl)
theorem dX8_isName_1 : decode cX8_isName 1 = .ok (.getfield 85, 3) := dk_180 0 85 (dk_at dksX8_isName_0 1 rfl rfl)
theorem dX8_isName_4 : decode cX8_isName 4 = .ok (.iconst 2, 1) := dk_5 (dk_at dksX8_isName_0 4 rfl rfl)
theorem dX8_isName_5 : decode cX8_isName 5 = .ok (.if_icmp .ne 48, 3) := dk_160 0 48 (dk_at dksX8_isName_0 5 rfl rfl)
theorem dX8_isName_8 : decode cX8_isName 8 = .ok (.aload_n 0, 1) := dk_42 (dk_at dksX8_isName_0 8 rfl rfl)
theorem dX8_isName_9 : decode cX8_isName 9 = .ok (.ldc 153, 2) := dk_18 153 (dk_at dksX8_isName_0 9 rfl rfl)
theorem dX8_isName_11 : decode cX8_isName 11 = .ok (.invokevirtual 130, 3) := dk_182 0 130 (dk_at dksX8_isName_0 11 rfl rfl)
theorem dX8_isName_14 : decode cX8_isName 14 = .ok (.ifCond .ne 39, 3) := dk_154 0 39 (dk_at dksX8_isName_0 14 rfl rfl)
theorem dX8_isName_17 : decode cX8_isName 17 = .ok (.aload_n 0, 1) := dk_42 (dk_at dksX8_isName_0 17 rfl rfl)
theorem dX8_isName_18 : decode cX8_isName 18 = .ok (.ldc 155, 2) := dk_18 155 (dk_at dksX8_isName_0 18 rfl rfl)
theorem dX8_isName_20 : decode cX8_isName 20 = .ok (.invokevirtual 130, 3) := dk_182 0 130 (dk_at dksX8_isName_0 20 rfl rfl)
theorem dX8_isName_23 : decode cX8_isName 23 = .ok (.ifCond .ne 30, 3) := dk_154 0 30 (dk_at dksX8_isName_1 0 rfl rfl)
theorem dX8_isName_26 : decode cX8_isName 26 = .ok (.aload_n 0, 1) := dk_42 (dk_at dksX8_isName_1 3 rfl rfl)
theorem dX8_isName_27 : decode cX8_isName 27 = .ok (.ldc 157, 2) := dk_18 157 (dk_at dksX8_isName_1 4 rfl rfl)
theorem dX8_isName_29 : decode cX8_isName 29 = .ok (.invokevirtual 130, 3) := dk_182 0 130 (dk_at dksX8_isName_1 6 rfl rfl)
theorem dX8_isName_32 : decode cX8_isName 32 = .ok (.ifCond .ne 21, 3) := dk_154 0 21 (dk_at dksX8_isName_1 9 rfl rfl)
theorem dX8_isName_35 : decode cX8_isName 35 = .ok (.aload_n 0, 1) := dk_42 (dk_at dksX8_isName_1 12 rfl rfl)
theorem dX8_isName_36 : decode cX8_isName 36 = .ok (.ldc 159, 2) := dk_18 159 (dk_at dksX8_isName_1 13 rfl rfl)
theorem dX8_isName_38 : decode cX8_isName 38 = .ok (.invokevirtual 130, 3) := dk_182 0 130 (dk_at dksX8_isName_1 15 rfl rfl)
theorem dX8_isName_41 : decode cX8_isName 41 = .ok (.ifCond .ne 12, 3) := dk_154 0 12 (dk_at dksX8_isName_1 18 rfl rfl)
theorem dX8_isName_44 : decode cX8_isName 44 = .ok (.aload_n 0, 1) := dk_42 (dk_at dksX8_isName_1 21 rfl rfl)
theorem dX8_isName_45 : decode cX8_isName 45 = .ok (.ldc 161, 2) := dk_18 161 (dk_at dksX8_isName_1 22 rfl rfl)
theorem dX8_isName_47 : decode cX8_isName 47 = .ok (.invokevirtual 130, 3) := dk_182 0 130 (dk_at dksX8_isName_2 0 rfl rfl)
theorem dX8_isName_50 : decode cX8_isName 50 = .ok (.ifCond .eq 5, 3) := dk_153 0 5 (dk_at dksX8_isName_2 3 rfl rfl)
theorem dX8_isName_53 : decode cX8_isName 53 = .ok (.iconst 0, 1) := dk_3 (dk_at dksX8_isName_2 6 rfl rfl)
theorem dX8_isName_54 : decode cX8_isName 54 = .ok (.ireturn, 1) := dk_172 (dk_at dksX8_isName_2 7 rfl rfl)
theorem dX8_isName_55 : decode cX8_isName 55 = .ok (.aload_n 0, 1) := dk_42 (dk_at dksX8_isName_2 8 rfl rfl)
theorem dX8_isName_56 : decode cX8_isName 56 = .ok (.ldc 163, 2) := dk_18 163 (dk_at dksX8_isName_2 9 rfl rfl)
theorem dX8_isName_58 : decode cX8_isName 58 = .ok (.invokevirtual 130, 3) := dk_182 0 130 (dk_at dksX8_isName_2 11 rfl rfl)
theorem dX8_isName_61 : decode cX8_isName 61 = .ok (.ifCond .ne 34, 3) := dk_154 0 34 (dk_at dksX8_isName_2 14 rfl rfl)
theorem dX8_isName_64 : decode cX8_isName 64 = .ok (.aload_n 0, 1) := dk_42 (dk_at dksX8_isName_2 17 rfl rfl)
theorem dX8_isName_65 : decode cX8_isName 65 = .ok (.ldc 165, 2) := dk_18 165 (dk_at dksX8_isName_2 18 rfl rfl)
theorem dX8_isName_67 : decode cX8_isName 67 = .ok (.invokevirtual 130, 3) := dk_182 0 130 (dk_at dksX8_isName_2 20 rfl rfl)
theorem dX8_isName_70 : decode cX8_isName 70 = .ok (.ifCond .ne 25, 3) := dk_154 0 25 (dk_at dksX8_isName_3 0 rfl rfl)
theorem dX8_isName_73 : decode cX8_isName 73 = .ok (.aload_n 0, 1) := dk_42 (dk_at dksX8_isName_3 3 rfl rfl)
theorem dX8_isName_74 : decode cX8_isName 74 = .ok (.ldc 167, 2) := dk_18 167 (dk_at dksX8_isName_3 4 rfl rfl)
theorem dX8_isName_76 : decode cX8_isName 76 = .ok (.invokevirtual 130, 3) := dk_182 0 130 (dk_at dksX8_isName_3 6 rfl rfl)
theorem dX8_isName_79 : decode cX8_isName 79 = .ok (.ifCond .ne 16, 3) := dk_154 0 16 (dk_at dksX8_isName_3 9 rfl rfl)
theorem dX8_isName_82 : decode cX8_isName 82 = .ok (.aload_n 0, 1) := dk_42 (dk_at dksX8_isName_3 12 rfl rfl)
theorem dX8_isName_83 : decode cX8_isName 83 = .ok (.ldc 169, 2) := dk_18 169 (dk_at dksX8_isName_3 13 rfl rfl)
theorem dX8_isName_85 : decode cX8_isName 85 = .ok (.invokevirtual 130, 3) := dk_182 0 130 (dk_at dksX8_isName_3 15 rfl rfl)
theorem dX8_isName_88 : decode cX8_isName 88 = .ok (.ifCond .ne 7, 3) := dk_154 0 7 (dk_at dksX8_isName_3 18 rfl rfl)
theorem dX8_isName_91 : decode cX8_isName 91 = .ok (.iconst 1, 1) := dk_4 (dk_at dksX8_isName_3 21 rfl rfl)
theorem dX8_isName_92 : decode cX8_isName 92 = .ok (.goto 4, 3) := dk_167 0 4 (dk_at dksX8_isName_4 0 rfl rfl)
theorem dX8_isName_95 : decode cX8_isName 95 = .ok (.iconst 0, 1) := dk_3 (dk_at dksX8_isName_4 3 rfl rfl)
theorem dX8_isName_96 : decode cX8_isName 96 = .ok (.ireturn, 1) := dk_172 (dk_at dksX8_isName_4 4 rfl rfl)
abbrev cX8_readArm : ByteArray := prog_20_method_34_code
def yX8_readArm : MethodName := ⟨RX8, "readArm", "(I)V"⟩
def dkwX8_readArm_8 : List UInt8 := [182, 0, 134, 177]
abbrev dktX8_readArm_8 : List UInt8 := dkwX8_readArm_8 ++ []
def dkwX8_readArm_7 : List UInt8 := [160, 0, 7, 4, 167, 0, 4, 3, 54, 5, 42, 21, 5, 153, 0, 8, 16, 6, 167, 0, 4, 4]
abbrev dktX8_readArm_7 : List UInt8 := dkwX8_readArm_7 ++ dktX8_readArm_8
def dkwX8_readArm_6 : List UInt8 := [18, 169, 182, 0, 130, 167, 0, 25, 42, 16, 59, 182, 0, 124, 154, 0, 11, 42, 180, 0, 85, 4]
abbrev dktX8_readArm_6 : List UInt8 := dkwX8_readArm_6 ++ dktX8_readArm_7
def dkwX8_readArm_5 : List UInt8 := [180, 0, 171, 180, 1, 7, 5, 28, 104, 27, 96, 29, 79, 29, 4, 164, 0, 4, 177, 27, 154, 0, 12, 42]
abbrev dktX8_readArm_5 : List UInt8 := dkwX8_readArm_5 ++ dktX8_readArm_6
def dkwX8_readArm_4 : List UInt8 := [27, 96, 104, 29, 96, 21, 5, 79, 132, 3, 1, 42, 16, 44, 182, 0, 207, 54, 4, 167, 255, 187, 42]
abbrev dktX8_readArm_4 : List UInt8 := dkwX8_readArm_4 ++ dktX8_readArm_5
def dkwX8_readArm_3 : List UInt8 := [182, 0, 127, 42, 180, 0, 85, 8, 160, 0, 4, 177, 42, 180, 0, 171, 180, 1, 4, 16, 6, 5, 28, 104]
abbrev dktX8_readArm_3 : List UInt8 := dkwX8_readArm_3 ++ dktX8_readArm_4
def dkwX8_readArm_2 : List UInt8 := [153, 0, 70, 42, 4, 16, 9, 182, 0, 142, 54, 5, 29, 16, 6, 160, 0, 8, 42, 8, 182, 0, 134, 42]
abbrev dktX8_readArm_2 : List UInt8 := dkwX8_readArm_2 ++ dktX8_readArm_3
def dkwX8_readArm_1 : List UInt8 := [162, 0, 13, 42, 180, 0, 171, 180, 0, 210, 167, 0, 4, 3, 61, 3, 62, 4, 54, 4, 21, 4]
abbrev dktX8_readArm_1 : List UInt8 := dkwX8_readArm_1 ++ dktX8_readArm_2
def dkwX8_readArm_0 : List UInt8 := [42, 27, 154, 0, 8, 18, 167, 167, 0, 5, 18, 169, 182, 0, 146, 42, 180, 0, 171, 180, 0, 210, 8]
abbrev dktX8_readArm_0 : List UInt8 := dkwX8_readArm_0 ++ dktX8_readArm_1
theorem dksX8_readArm_0 : cX8_readArm.data.toList.drop 0 = dktX8_readArm_0 := by decide +kernel
theorem dksX8_readArm_1 : cX8_readArm.data.toList.drop 23 = dktX8_readArm_1 := dk_seg dksX8_readArm_0 23 rfl rfl
theorem dksX8_readArm_2 : cX8_readArm.data.toList.drop 45 = dktX8_readArm_2 := dk_seg dksX8_readArm_1 22 rfl rfl
theorem dksX8_readArm_3 : cX8_readArm.data.toList.drop 69 = dktX8_readArm_3 := dk_seg dksX8_readArm_2 24 rfl rfl
theorem dksX8_readArm_4 : cX8_readArm.data.toList.drop 93 = dktX8_readArm_4 := dk_seg dksX8_readArm_3 24 rfl rfl
theorem dksX8_readArm_5 : cX8_readArm.data.toList.drop 116 = dktX8_readArm_5 := dk_seg dksX8_readArm_4 23 rfl rfl
theorem dksX8_readArm_6 : cX8_readArm.data.toList.drop 140 = dktX8_readArm_6 := dk_seg dksX8_readArm_5 24 rfl rfl
theorem dksX8_readArm_7 : cX8_readArm.data.toList.drop 162 = dktX8_readArm_7 := dk_seg dksX8_readArm_6 22 rfl rfl
theorem dksX8_readArm_8 : cX8_readArm.data.toList.drop 184 = dktX8_readArm_8 := dk_seg dksX8_readArm_7 22 rfl rfl
theorem dX8_readArm_0 : decode cX8_readArm 0 = .ok (.aload_n 0, 1) := dk_42 (dk_at dksX8_readArm_0 0 rfl rfl)
theorem dX8_readArm_1 : decode cX8_readArm 1 = .ok (.iload_n 1, 1) := dk_27 (dk_at dksX8_readArm_0 1 rfl rfl)
theorem dX8_readArm_2 : decode cX8_readArm 2 = .ok (.ifCond .ne 8, 3) := dk_154 0 8 (dk_at dksX8_readArm_0 2 rfl rfl)
theorem dX8_readArm_5 : decode cX8_readArm 5 = .ok (.ldc 167, 2) := dk_18 167 (dk_at dksX8_readArm_0 5 rfl rfl)
theorem dX8_readArm_7 : decode cX8_readArm 7 = .ok (.goto 5, 3) := dk_167 0 5 (dk_at dksX8_readArm_0 7 rfl rfl)
theorem dX8_readArm_10 : decode cX8_readArm 10 = .ok (.ldc 169, 2) := dk_18 169 (dk_at dksX8_readArm_0 10 rfl rfl)
theorem dX8_readArm_12 : decode cX8_readArm 12 = .ok (.invokevirtual 146, 3) := dk_182 0 146 (dk_at dksX8_readArm_0 12 rfl rfl)
theorem dX8_readArm_15 : decode cX8_readArm 15 = .ok (.aload_n 0, 1) := dk_42 (dk_at dksX8_readArm_0 15 rfl rfl)
theorem dX8_readArm_16 : decode cX8_readArm 16 = .ok (.getfield 171, 3) := dk_180 0 171 (dk_at dksX8_readArm_0 16 rfl rfl)
theorem dX8_readArm_19 : decode cX8_readArm 19 = .ok (.getfield 210, 3) := dk_180 0 210 (dk_at dksX8_readArm_0 19 rfl rfl)
theorem dX8_readArm_22 : decode cX8_readArm 22 = .ok (.iconst 5, 1) := dk_8 (dk_at dksX8_readArm_0 22 rfl rfl)
theorem dX8_readArm_23 : decode cX8_readArm 23 = .ok (.if_icmp .ge 13, 3) := dk_162 0 13 (dk_at dksX8_readArm_1 0 rfl rfl)
theorem dX8_readArm_26 : decode cX8_readArm 26 = .ok (.aload_n 0, 1) := dk_42 (dk_at dksX8_readArm_1 3 rfl rfl)
theorem dX8_readArm_27 : decode cX8_readArm 27 = .ok (.getfield 171, 3) := dk_180 0 171 (dk_at dksX8_readArm_1 4 rfl rfl)
theorem dX8_readArm_30 : decode cX8_readArm 30 = .ok (.getfield 210, 3) := dk_180 0 210 (dk_at dksX8_readArm_1 7 rfl rfl)
theorem dX8_readArm_33 : decode cX8_readArm 33 = .ok (.goto 4, 3) := dk_167 0 4 (dk_at dksX8_readArm_1 10 rfl rfl)
theorem dX8_readArm_36 : decode cX8_readArm 36 = .ok (.iconst 0, 1) := dk_3 (dk_at dksX8_readArm_1 13 rfl rfl)
theorem dX8_readArm_37 : decode cX8_readArm 37 = .ok (.istore_n 2, 1) := dk_61 (dk_at dksX8_readArm_1 14 rfl rfl)
theorem dX8_readArm_38 : decode cX8_readArm 38 = .ok (.iconst 0, 1) := dk_3 (dk_at dksX8_readArm_1 15 rfl rfl)
theorem dX8_readArm_39 : decode cX8_readArm 39 = .ok (.istore_n 3, 1) := dk_62 (dk_at dksX8_readArm_1 16 rfl rfl)
theorem dX8_readArm_40 : decode cX8_readArm 40 = .ok (.iconst 1, 1) := dk_4 (dk_at dksX8_readArm_1 17 rfl rfl)
theorem dX8_readArm_41 : decode cX8_readArm 41 = .ok (.istore 4, 2) := dk_54 4 (dk_at dksX8_readArm_1 18 rfl rfl)
theorem dX8_readArm_43 : decode cX8_readArm 43 = .ok (.iload 4, 2) := dk_21 4 (dk_at dksX8_readArm_1 20 rfl rfl)
theorem dX8_readArm_45 : decode cX8_readArm 45 = .ok (.ifCond .eq 70, 3) := dk_153 0 70 (dk_at dksX8_readArm_2 0 rfl rfl)
theorem dX8_readArm_48 : decode cX8_readArm 48 = .ok (.aload_n 0, 1) := dk_42 (dk_at dksX8_readArm_2 3 rfl rfl)
theorem dX8_readArm_49 : decode cX8_readArm 49 = .ok (.iconst 1, 1) := dk_4 (dk_at dksX8_readArm_2 4 rfl rfl)
theorem dX8_readArm_50 : decode cX8_readArm 50 = .ok (.bipush 9, 2) := dk_16 9 (dk_at dksX8_readArm_2 5 rfl rfl)
theorem dX8_readArm_52 : decode cX8_readArm 52 = .ok (.invokevirtual 142, 3) := dk_182 0 142 (dk_at dksX8_readArm_2 7 rfl rfl)
theorem dX8_readArm_55 : decode cX8_readArm 55 = .ok (.istore 5, 2) := dk_54 5 (dk_at dksX8_readArm_2 10 rfl rfl)
theorem dX8_readArm_57 : decode cX8_readArm 57 = .ok (.iload_n 3, 1) := dk_29 (dk_at dksX8_readArm_2 12 rfl rfl)
theorem dX8_readArm_58 : decode cX8_readArm 58 = .ok (.bipush 6, 2) := dk_16 6 (dk_at dksX8_readArm_2 13 rfl rfl)
theorem dX8_readArm_60 : decode cX8_readArm 60 = .ok (.if_icmp .ne 8, 3) := dk_160 0 8 (dk_at dksX8_readArm_2 15 rfl rfl)
theorem dX8_readArm_63 : decode cX8_readArm 63 = .ok (.aload_n 0, 1) := dk_42 (dk_at dksX8_readArm_2 18 rfl rfl)
theorem dX8_readArm_64 : decode cX8_readArm 64 = .ok (.iconst 5, 1) := dk_8 (dk_at dksX8_readArm_2 19 rfl rfl)
theorem dX8_readArm_65 : decode cX8_readArm 65 = .ok (.invokevirtual 134, 3) := dk_182 0 134 (dk_at dksX8_readArm_2 20 rfl rfl)
theorem dX8_readArm_68 : decode cX8_readArm 68 = .ok (.aload_n 0, 1) := dk_42 (dk_at dksX8_readArm_2 23 rfl rfl)
theorem dX8_readArm_69 : decode cX8_readArm 69 = .ok (.invokevirtual 127, 3) := dk_182 0 127 (dk_at dksX8_readArm_3 0 rfl rfl)
theorem dX8_readArm_72 : decode cX8_readArm 72 = .ok (.aload_n 0, 1) := dk_42 (dk_at dksX8_readArm_3 3 rfl rfl)
theorem dX8_readArm_73 : decode cX8_readArm 73 = .ok (.getfield 85, 3) := dk_180 0 85 (dk_at dksX8_readArm_3 4 rfl rfl)
theorem dX8_readArm_76 : decode cX8_readArm 76 = .ok (.iconst 5, 1) := dk_8 (dk_at dksX8_readArm_3 7 rfl rfl)
theorem dX8_readArm_77 : decode cX8_readArm 77 = .ok (.if_icmp .ne 4, 3) := dk_160 0 4 (dk_at dksX8_readArm_3 8 rfl rfl)
theorem dX8_readArm_80 : decode cX8_readArm 80 = .ok (.return_, 1) := dk_177 (dk_at dksX8_readArm_3 11 rfl rfl)
theorem dX8_readArm_81 : decode cX8_readArm 81 = .ok (.aload_n 0, 1) := dk_42 (dk_at dksX8_readArm_3 12 rfl rfl)
theorem dX8_readArm_82 : decode cX8_readArm 82 = .ok (.getfield 171, 3) := dk_180 0 171 (dk_at dksX8_readArm_3 13 rfl rfl)
theorem dX8_readArm_85 : decode cX8_readArm 85 = .ok (.getfield 260, 3) := dk_180 1 4 (dk_at dksX8_readArm_3 16 rfl rfl)
theorem dX8_readArm_88 : decode cX8_readArm 88 = .ok (.bipush 6, 2) := dk_16 6 (dk_at dksX8_readArm_3 19 rfl rfl)
theorem dX8_readArm_90 : decode cX8_readArm 90 = .ok (.iconst 2, 1) := dk_5 (dk_at dksX8_readArm_3 21 rfl rfl)
theorem dX8_readArm_91 : decode cX8_readArm 91 = .ok (.iload_n 2, 1) := dk_28 (dk_at dksX8_readArm_3 22 rfl rfl)
theorem dX8_readArm_92 : decode cX8_readArm 92 = .ok (.imul, 1) := dk_104 (dk_at dksX8_readArm_3 23 rfl rfl)
theorem dX8_readArm_93 : decode cX8_readArm 93 = .ok (.iload_n 1, 1) := dk_27 (dk_at dksX8_readArm_4 0 rfl rfl)
theorem dX8_readArm_94 : decode cX8_readArm 94 = .ok (.iadd, 1) := dk_96 (dk_at dksX8_readArm_4 1 rfl rfl)
theorem dX8_readArm_95 : decode cX8_readArm 95 = .ok (.imul, 1) := dk_104 (dk_at dksX8_readArm_4 2 rfl rfl)
theorem dX8_readArm_96 : decode cX8_readArm 96 = .ok (.iload_n 3, 1) := dk_29 (dk_at dksX8_readArm_4 3 rfl rfl)
theorem dX8_readArm_97 : decode cX8_readArm 97 = .ok (.iadd, 1) := dk_96 (dk_at dksX8_readArm_4 4 rfl rfl)
theorem dX8_readArm_98 : decode cX8_readArm 98 = .ok (.iload 5, 2) := dk_21 5 (dk_at dksX8_readArm_4 5 rfl rfl)
theorem dX8_readArm_100 : decode cX8_readArm 100 = .ok (.iastore, 1) := dk_79 (dk_at dksX8_readArm_4 7 rfl rfl)
theorem dX8_readArm_101 : decode cX8_readArm 101 = .ok (.iinc 3 1, 3) := dk_132 3 1 (dk_at dksX8_readArm_4 8 rfl rfl)
theorem dX8_readArm_104 : decode cX8_readArm 104 = .ok (.aload_n 0, 1) := dk_42 (dk_at dksX8_readArm_4 11 rfl rfl)
theorem dX8_readArm_105 : decode cX8_readArm 105 = .ok (.bipush 44, 2) := dk_16 44 (dk_at dksX8_readArm_4 12 rfl rfl)
theorem dX8_readArm_107 : decode cX8_readArm 107 = .ok (.invokevirtual 207, 3) := dk_182 0 207 (dk_at dksX8_readArm_4 14 rfl rfl)
theorem dX8_readArm_110 : decode cX8_readArm 110 = .ok (.istore 4, 2) := dk_54 4 (dk_at dksX8_readArm_4 17 rfl rfl)
theorem dX8_readArm_112 : decode cX8_readArm 112 = .ok (.goto (-69), 3) := dk_167 255 187 (dk_at dksX8_readArm_4 19 rfl rfl)
theorem dX8_readArm_115 : decode cX8_readArm 115 = .ok (.aload_n 0, 1) := dk_42 (dk_at dksX8_readArm_4 22 rfl rfl)
theorem dX8_readArm_116 : decode cX8_readArm 116 = .ok (.getfield 171, 3) := dk_180 0 171 (dk_at dksX8_readArm_5 0 rfl rfl)
theorem dX8_readArm_119 : decode cX8_readArm 119 = .ok (.getfield 263, 3) := dk_180 1 7 (dk_at dksX8_readArm_5 3 rfl rfl)
theorem dX8_readArm_122 : decode cX8_readArm 122 = .ok (.iconst 2, 1) := dk_5 (dk_at dksX8_readArm_5 6 rfl rfl)
theorem dX8_readArm_123 : decode cX8_readArm 123 = .ok (.iload_n 2, 1) := dk_28 (dk_at dksX8_readArm_5 7 rfl rfl)
theorem dX8_readArm_124 : decode cX8_readArm 124 = .ok (.imul, 1) := dk_104 (dk_at dksX8_readArm_5 8 rfl rfl)
theorem dX8_readArm_125 : decode cX8_readArm 125 = .ok (.iload_n 1, 1) := dk_27 (dk_at dksX8_readArm_5 9 rfl rfl)
theorem dX8_readArm_126 : decode cX8_readArm 126 = .ok (.iadd, 1) := dk_96 (dk_at dksX8_readArm_5 10 rfl rfl)
theorem dX8_readArm_127 : decode cX8_readArm 127 = .ok (.iload_n 3, 1) := dk_29 (dk_at dksX8_readArm_5 11 rfl rfl)
theorem dX8_readArm_128 : decode cX8_readArm 128 = .ok (.iastore, 1) := dk_79 (dk_at dksX8_readArm_5 12 rfl rfl)
theorem dX8_readArm_129 : decode cX8_readArm 129 = .ok (.iload_n 3, 1) := dk_29 (dk_at dksX8_readArm_5 13 rfl rfl)
theorem dX8_readArm_130 : decode cX8_readArm 130 = .ok (.iconst 1, 1) := dk_4 (dk_at dksX8_readArm_5 14 rfl rfl)
theorem dX8_readArm_131 : decode cX8_readArm 131 = .ok (.if_icmp .le 4, 3) := dk_164 0 4 (dk_at dksX8_readArm_5 15 rfl rfl)
theorem dX8_readArm_134 : decode cX8_readArm 134 = .ok (.return_, 1) := dk_177 (dk_at dksX8_readArm_5 18 rfl rfl)
theorem dX8_readArm_135 : decode cX8_readArm 135 = .ok (.iload_n 1, 1) := dk_27 (dk_at dksX8_readArm_5 19 rfl rfl)
theorem dX8_readArm_136 : decode cX8_readArm 136 = .ok (.ifCond .ne 12, 3) := dk_154 0 12 (dk_at dksX8_readArm_5 20 rfl rfl)
theorem dX8_readArm_139 : decode cX8_readArm 139 = .ok (.aload_n 0, 1) := dk_42 (dk_at dksX8_readArm_5 23 rfl rfl)
theorem dX8_readArm_140 : decode cX8_readArm 140 = .ok (.ldc 169, 2) := dk_18 169 (dk_at dksX8_readArm_6 0 rfl rfl)
theorem dX8_readArm_142 : decode cX8_readArm 142 = .ok (.invokevirtual 130, 3) := dk_182 0 130 (dk_at dksX8_readArm_6 2 rfl rfl)
theorem dX8_readArm_145 : decode cX8_readArm 145 = .ok (.goto 25, 3) := dk_167 0 25 (dk_at dksX8_readArm_6 5 rfl rfl)
theorem dX8_readArm_148 : decode cX8_readArm 148 = .ok (.aload_n 0, 1) := dk_42 (dk_at dksX8_readArm_6 8 rfl rfl)
theorem dX8_readArm_149 : decode cX8_readArm 149 = .ok (.bipush 59, 2) := dk_16 59 (dk_at dksX8_readArm_6 9 rfl rfl)
theorem dX8_readArm_151 : decode cX8_readArm 151 = .ok (.invokevirtual 124, 3) := dk_182 0 124 (dk_at dksX8_readArm_6 11 rfl rfl)
theorem dX8_readArm_154 : decode cX8_readArm 154 = .ok (.ifCond .ne 11, 3) := dk_154 0 11 (dk_at dksX8_readArm_6 14 rfl rfl)
theorem dX8_readArm_157 : decode cX8_readArm 157 = .ok (.aload_n 0, 1) := dk_42 (dk_at dksX8_readArm_6 17 rfl rfl)
theorem dX8_readArm_158 : decode cX8_readArm 158 = .ok (.getfield 85, 3) := dk_180 0 85 (dk_at dksX8_readArm_6 18 rfl rfl)
theorem dX8_readArm_161 : decode cX8_readArm 161 = .ok (.iconst 1, 1) := dk_4 (dk_at dksX8_readArm_6 21 rfl rfl)
theorem dX8_readArm_162 : decode cX8_readArm 162 = .ok (.if_icmp .ne 7, 3) := dk_160 0 7 (dk_at dksX8_readArm_7 0 rfl rfl)
theorem dX8_readArm_165 : decode cX8_readArm 165 = .ok (.iconst 1, 1) := dk_4 (dk_at dksX8_readArm_7 3 rfl rfl)
theorem dX8_readArm_166 : decode cX8_readArm 166 = .ok (.goto 4, 3) := dk_167 0 4 (dk_at dksX8_readArm_7 4 rfl rfl)
theorem dX8_readArm_169 : decode cX8_readArm 169 = .ok (.iconst 0, 1) := dk_3 (dk_at dksX8_readArm_7 7 rfl rfl)
theorem dX8_readArm_170 : decode cX8_readArm 170 = .ok (.istore 5, 2) := dk_54 5 (dk_at dksX8_readArm_7 8 rfl rfl)
theorem dX8_readArm_172 : decode cX8_readArm 172 = .ok (.aload_n 0, 1) := dk_42 (dk_at dksX8_readArm_7 10 rfl rfl)
theorem dX8_readArm_173 : decode cX8_readArm 173 = .ok (.iload 5, 2) := dk_21 5 (dk_at dksX8_readArm_7 11 rfl rfl)
theorem dX8_readArm_175 : decode cX8_readArm 175 = .ok (.ifCond .eq 8, 3) := dk_153 0 8 (dk_at dksX8_readArm_7 13 rfl rfl)
theorem dX8_readArm_178 : decode cX8_readArm 178 = .ok (.bipush 6, 2) := dk_16 6 (dk_at dksX8_readArm_7 16 rfl rfl)
theorem dX8_readArm_180 : decode cX8_readArm 180 = .ok (.goto 4, 3) := dk_167 0 4 (dk_at dksX8_readArm_7 18 rfl rfl)
theorem dX8_readArm_183 : decode cX8_readArm 183 = .ok (.iconst 1, 1) := dk_4 (dk_at dksX8_readArm_7 21 rfl rfl)
theorem dX8_readArm_184 : decode cX8_readArm 184 = .ok (.invokevirtual 134, 3) := dk_182 0 134 (dk_at dksX8_readArm_8 0 rfl rfl)
theorem dX8_readArm_187 : decode cX8_readArm 187 = .ok (.return_, 1) := dk_177 (dk_at dksX8_readArm_8 3 rfl rfl)
abbrev cX8_eatsSign : ByteArray := prog_20_method_19_code
def yX8_eatsSign : MethodName := ⟨RX8, "eatsSign", "(I)Z"⟩
def dkwX8_eatsSign_0 : List UInt8 := [42, 27, 182, 0, 124, 61, 28, 153, 0, 7, 42, 182, 0, 127, 28, 172]
abbrev dktX8_eatsSign_0 : List UInt8 := dkwX8_eatsSign_0 ++ []
theorem dksX8_eatsSign_0 : cX8_eatsSign.data.toList.drop 0 = dktX8_eatsSign_0 := by decide +kernel
theorem dX8_eatsSign_0 : decode cX8_eatsSign 0 = .ok (.aload_n 0, 1) := dk_42 (dk_at dksX8_eatsSign_0 0 rfl rfl)
theorem dX8_eatsSign_1 : decode cX8_eatsSign 1 = .ok (.iload_n 1, 1) := dk_27 (dk_at dksX8_eatsSign_0 1 rfl rfl)
theorem dX8_eatsSign_2 : decode cX8_eatsSign 2 = .ok (.invokevirtual 124, 3) := dk_182 0 124 (dk_at dksX8_eatsSign_0 2 rfl rfl)
theorem dX8_eatsSign_5 : decode cX8_eatsSign 5 = .ok (.istore_n 2, 1) := dk_61 (dk_at dksX8_eatsSign_0 5 rfl rfl)
theorem dX8_eatsSign_6 : decode cX8_eatsSign 6 = .ok (.iload_n 2, 1) := dk_28 (dk_at dksX8_eatsSign_0 6 rfl rfl)
theorem dX8_eatsSign_7 : decode cX8_eatsSign 7 = .ok (.ifCond .eq 7, 3) := dk_153 0 7 (dk_at dksX8_eatsSign_0 7 rfl rfl)
theorem dX8_eatsSign_10 : decode cX8_eatsSign 10 = .ok (.aload_n 0, 1) := dk_42 (dk_at dksX8_eatsSign_0 10 rfl rfl)
theorem dX8_eatsSign_11 : decode cX8_eatsSign 11 = .ok (.invokevirtual 127, 3) := dk_182 0 127 (dk_at dksX8_eatsSign_0 11 rfl rfl)
theorem dX8_eatsSign_14 : decode cX8_eatsSign 14 = .ok (.iload_n 2, 1) := dk_28 (dk_at dksX8_eatsSign_0 14 rfl rfl)
theorem dX8_eatsSign_15 : decode cX8_eatsSign 15 = .ok (.ireturn, 1) := dk_172 (dk_at dksX8_eatsSign_0 15 rfl rfl)
abbrev cX8_isSign : ByteArray := prog_20_method_18_code
def yX8_isSign : MethodName := ⟨RX8, "isSign", "(I)Z"⟩
def dkwX8_isSign_0 : List UInt8 := [42, 180, 0, 85, 7, 160, 0, 15, 42, 180, 0, 97, 27, 160, 0, 7, 4, 167, 0, 4, 3, 172]
abbrev dktX8_isSign_0 : List UInt8 := dkwX8_isSign_0 ++ []
theorem dksX8_isSign_0 : cX8_isSign.data.toList.drop 0 = dktX8_isSign_0 := by decide +kernel
theorem dX8_isSign_0 : decode cX8_isSign 0 = .ok (.aload_n 0, 1) := dk_42 (dk_at dksX8_isSign_0 0 rfl rfl)
theorem dX8_isSign_1 : decode cX8_isSign 1 = .ok (.getfield 85, 3) := dk_180 0 85 (dk_at dksX8_isSign_0 1 rfl rfl)
theorem dX8_isSign_4 : decode cX8_isSign 4 = .ok (.iconst 4, 1) := dk_7 (dk_at dksX8_isSign_0 4 rfl rfl)
theorem dX8_isSign_5 : decode cX8_isSign 5 = .ok (.if_icmp .ne 15, 3) := dk_160 0 15 (dk_at dksX8_isSign_0 5 rfl rfl)
theorem dX8_isSign_8 : decode cX8_isSign 8 = .ok (.aload_n 0, 1) := dk_42 (dk_at dksX8_isSign_0 8 rfl rfl)
theorem dX8_isSign_9 : decode cX8_isSign 9 = .ok (.getfield 97, 3) := dk_180 0 97 (dk_at dksX8_isSign_0 9 rfl rfl)
theorem dX8_isSign_12 : decode cX8_isSign 12 = .ok (.iload_n 1, 1) := dk_27 (dk_at dksX8_isSign_0 12 rfl rfl)
theorem dX8_isSign_13 : decode cX8_isSign 13 = .ok (.if_icmp .ne 7, 3) := dk_160 0 7 (dk_at dksX8_isSign_0 13 rfl rfl)
theorem dX8_isSign_16 : decode cX8_isSign 16 = .ok (.iconst 1, 1) := dk_4 (dk_at dksX8_isSign_0 16 rfl rfl)
theorem dX8_isSign_17 : decode cX8_isSign 17 = .ok (.goto 4, 3) := dk_167 0 4 (dk_at dksX8_isSign_0 17 rfl rfl)
theorem dX8_isSign_20 : decode cX8_isSign 20 = .ok (.iconst 0, 1) := dk_3 (dk_at dksX8_isSign_0 20 rfl rfl)
theorem dX8_isSign_21 : decode cX8_isSign 21 = .ok (.ireturn, 1) := dk_172 (dk_at dksX8_isSign_0 21 rfl rfl)
abbrev cX8_names : ByteArray := prog_20_method_27_code
def yX8_names : MethodName := ⟨RX8, "names", "(JZI)V"⟩
def dkwX8_names_2 : List UInt8 := [79, 42, 180, 0, 171, 89, 180, 0, 192, 4, 96, 181, 0, 192, 177]
abbrev dktX8_names_2 : List UInt8 := dkwX8_names_2 ++ []
def dkwX8_names_1 : List UInt8 := [180, 0, 171, 180, 0, 192, 29, 84, 42, 180, 0, 171, 180, 0, 198, 42, 180, 0, 171, 180, 0, 192, 21, 4]
abbrev dktX8_names_1 : List UInt8 := dkwX8_names_1 ++ dktX8_names_2
def dkwX8_names_0 : List UInt8 := [42, 180, 0, 171, 180, 0, 189, 42, 180, 0, 171, 180, 0, 192, 31, 80, 42, 180, 0, 171, 180, 0, 195, 42]
abbrev dktX8_names_0 : List UInt8 := dkwX8_names_0 ++ dktX8_names_1
theorem dksX8_names_0 : cX8_names.data.toList.drop 0 = dktX8_names_0 := by decide +kernel
theorem dksX8_names_1 : cX8_names.data.toList.drop 24 = dktX8_names_1 := dk_seg dksX8_names_0 24 rfl rfl
theorem dksX8_names_2 : cX8_names.data.toList.drop 48 = dktX8_names_2 := dk_seg dksX8_names_1 24 rfl rfl
theorem dX8_names_0 : decode cX8_names 0 = .ok (.aload_n 0, 1) := dk_42 (dk_at dksX8_names_0 0 rfl rfl)
theorem dX8_names_1 : decode cX8_names 1 = .ok (.getfield 171, 3) := dk_180 0 171 (dk_at dksX8_names_0 1 rfl rfl)
theorem dX8_names_4 : decode cX8_names 4 = .ok (.getfield 189, 3) := dk_180 0 189 (dk_at dksX8_names_0 4 rfl rfl)
theorem dX8_names_7 : decode cX8_names 7 = .ok (.aload_n 0, 1) := dk_42 (dk_at dksX8_names_0 7 rfl rfl)
theorem dX8_names_8 : decode cX8_names 8 = .ok (.getfield 171, 3) := dk_180 0 171 (dk_at dksX8_names_0 8 rfl rfl)
theorem dX8_names_11 : decode cX8_names 11 = .ok (.getfield 192, 3) := dk_180 0 192 (dk_at dksX8_names_0 11 rfl rfl)
theorem dX8_names_14 : decode cX8_names 14 = .ok (.lload_n 1, 1) := dk_31 (dk_at dksX8_names_0 14 rfl rfl)
theorem dX8_names_15 : decode cX8_names 15 = .ok (.lastore, 1) := dk_80 (dk_at dksX8_names_0 15 rfl rfl)
theorem dX8_names_16 : decode cX8_names 16 = .ok (.aload_n 0, 1) := dk_42 (dk_at dksX8_names_0 16 rfl rfl)
theorem dX8_names_17 : decode cX8_names 17 = .ok (.getfield 171, 3) := dk_180 0 171 (dk_at dksX8_names_0 17 rfl rfl)
theorem dX8_names_20 : decode cX8_names 20 = .ok (.getfield 195, 3) := dk_180 0 195 (dk_at dksX8_names_0 20 rfl rfl)
theorem dX8_names_23 : decode cX8_names 23 = .ok (.aload_n 0, 1) := dk_42 (dk_at dksX8_names_0 23 rfl rfl)
theorem dX8_names_24 : decode cX8_names 24 = .ok (.getfield 171, 3) := dk_180 0 171 (dk_at dksX8_names_1 0 rfl rfl)
theorem dX8_names_27 : decode cX8_names 27 = .ok (.getfield 192, 3) := dk_180 0 192 (dk_at dksX8_names_1 3 rfl rfl)
theorem dX8_names_30 : decode cX8_names 30 = .ok (.iload_n 3, 1) := dk_29 (dk_at dksX8_names_1 6 rfl rfl)
theorem dX8_names_31 : decode cX8_names 31 = .ok (.bastore, 1) := dk_84 (dk_at dksX8_names_1 7 rfl rfl)
theorem dX8_names_32 : decode cX8_names 32 = .ok (.aload_n 0, 1) := dk_42 (dk_at dksX8_names_1 8 rfl rfl)
theorem dX8_names_33 : decode cX8_names 33 = .ok (.getfield 171, 3) := dk_180 0 171 (dk_at dksX8_names_1 9 rfl rfl)
theorem dX8_names_36 : decode cX8_names 36 = .ok (.getfield 198, 3) := dk_180 0 198 (dk_at dksX8_names_1 12 rfl rfl)
theorem dX8_names_39 : decode cX8_names 39 = .ok (.aload_n 0, 1) := dk_42 (dk_at dksX8_names_1 15 rfl rfl)
theorem dX8_names_40 : decode cX8_names 40 = .ok (.getfield 171, 3) := dk_180 0 171 (dk_at dksX8_names_1 16 rfl rfl)
theorem dX8_names_43 : decode cX8_names 43 = .ok (.getfield 192, 3) := dk_180 0 192 (dk_at dksX8_names_1 19 rfl rfl)
theorem dX8_names_46 : decode cX8_names 46 = .ok (.iload 4, 2) := dk_21 4 (dk_at dksX8_names_1 22 rfl rfl)
theorem dX8_names_48 : decode cX8_names 48 = .ok (.iastore, 1) := dk_79 (dk_at dksX8_names_2 0 rfl rfl)
theorem dX8_names_49 : decode cX8_names 49 = .ok (.aload_n 0, 1) := dk_42 (dk_at dksX8_names_2 1 rfl rfl)
theorem dX8_names_50 : decode cX8_names 50 = .ok (.getfield 171, 3) := dk_180 0 171 (dk_at dksX8_names_2 2 rfl rfl)
theorem dX8_names_53 : decode cX8_names 53 = .ok (.dup, 1) := dk_89 (dk_at dksX8_names_2 5 rfl rfl)
theorem dX8_names_54 : decode cX8_names 54 = .ok (.getfield 192, 3) := dk_180 0 192 (dk_at dksX8_names_2 6 rfl rfl)
theorem dX8_names_57 : decode cX8_names 57 = .ok (.iconst 1, 1) := dk_4 (dk_at dksX8_names_2 9 rfl rfl)
theorem dX8_names_58 : decode cX8_names 58 = .ok (.iadd, 1) := dk_96 (dk_at dksX8_names_2 10 rfl rfl)
theorem dX8_names_59 : decode cX8_names 59 = .ok (.putfield 192, 3) := dk_181 0 192 (dk_at dksX8_names_2 11 rfl rfl)
theorem dX8_names_62 : decode cX8_names 62 = .ok (.return_, 1) := dk_177 (dk_at dksX8_names_2 14 rfl rfl)
abbrev cX8_readPersonLine : ByteArray := prog_20_method_36_code
def yX8_readPersonLine : MethodName := ⟨RX8, "readPersonLine", "()V"⟩
def dkwX8_readPersonLine_9 : List UInt8 := [180, 0, 171, 89, 180, 0, 213, 4, 96, 181, 0, 213, 177]
abbrev dktX8_readPersonLine_9 : List UInt8 := dkwX8_readPersonLine_9 ++ []
def dkwX8_readPersonLine_8 : List UInt8 := [180, 0, 171, 180, 1, 58, 21, 7, 21, 6, 79, 42, 180, 0, 171, 180, 1, 60, 21, 7, 2, 79, 42]
abbrev dktX8_readPersonLine_8 : List UInt8 := dkwX8_readPersonLine_8 ++ dktX8_readPersonLine_9
def dkwX8_readPersonLine_7 : List UInt8 := [180, 0, 171, 180, 1, 54, 21, 7, 21, 4, 79, 42, 180, 0, 171, 180, 1, 56, 21, 7, 21, 5, 79, 42]
abbrev dktX8_readPersonLine_7 : List UInt8 := dkwX8_readPersonLine_7 ++ dktX8_readPersonLine_8
def dkwX8_readPersonLine_6 : List UInt8 := [54, 7, 42, 31, 3, 21, 7, 182, 1, 29, 42, 180, 0, 171, 180, 1, 51, 21, 7, 29, 79, 42]
abbrev dktX8_readPersonLine_6 : List UInt8 := dkwX8_readPersonLine_6 ++ dktX8_readPersonLine_7
def dkwX8_readPersonLine_5 : List UInt8 := [3, 16, 99, 182, 0, 239, 54, 6, 42, 180, 0, 85, 8, 160, 0, 4, 177, 42, 180, 0, 171, 180, 0, 213]
abbrev dktX8_readPersonLine_5 : List UInt8 := dkwX8_readPersonLine_5 ++ dktX8_readPersonLine_6
def dkwX8_readPersonLine_4 : List UInt8 := [4, 16, 40, 182, 0, 239, 54, 4, 42, 19, 1, 47, 4, 16, 6, 182, 0, 239, 54, 5, 42, 19, 1, 49]
abbrev dktX8_readPersonLine_4 : List UInt8 := dkwX8_readPersonLine_4 ++ dktX8_readPersonLine_5
def dkwX8_readPersonLine_3 : List UInt8 := [6, 167, 0, 4, 2, 62, 29, 2, 160, 0, 8, 42, 4, 182, 0, 134, 42, 182, 0, 127, 42, 19, 1, 45]
abbrev dktX8_readPersonLine_3 : List UInt8 := dkwX8_readPersonLine_3 ++ dktX8_readPersonLine_4
def dkwX8_readPersonLine_2 : List UInt8 := [42, 19, 1, 41, 182, 0, 130, 153, 0, 7, 5, 167, 0, 18, 42, 19, 1, 43, 182, 0, 130, 153, 0, 7]
abbrev dktX8_readPersonLine_2 : List UInt8 := dkwX8_readPersonLine_2 ++ dktX8_readPersonLine_3
def dkwX8_readPersonLine_1 : List UInt8 := [182, 0, 130, 153, 0, 7, 3, 167, 0, 46, 42, 19, 1, 39, 182, 0, 130, 153, 0, 7, 4, 167, 0, 32]
abbrev dktX8_readPersonLine_1 : List UInt8 := dkwX8_readPersonLine_1 ++ dktX8_readPersonLine_2
def dkwX8_readPersonLine_0 : List UInt8 := [42, 42, 180, 0, 171, 180, 0, 213, 16, 6, 182, 1, 10, 42, 182, 1, 14, 64, 42, 19, 1, 37]
abbrev dktX8_readPersonLine_0 : List UInt8 := dkwX8_readPersonLine_0 ++ dktX8_readPersonLine_1
theorem dksX8_readPersonLine_0 : cX8_readPersonLine.data.toList.drop 0 = dktX8_readPersonLine_0 := by decide +kernel
theorem dksX8_readPersonLine_1 : cX8_readPersonLine.data.toList.drop 22 = dktX8_readPersonLine_1 := dk_seg dksX8_readPersonLine_0 22 rfl rfl
theorem dksX8_readPersonLine_2 : cX8_readPersonLine.data.toList.drop 46 = dktX8_readPersonLine_2 := dk_seg dksX8_readPersonLine_1 24 rfl rfl
theorem dksX8_readPersonLine_3 : cX8_readPersonLine.data.toList.drop 70 = dktX8_readPersonLine_3 := dk_seg dksX8_readPersonLine_2 24 rfl rfl
theorem dksX8_readPersonLine_4 : cX8_readPersonLine.data.toList.drop 94 = dktX8_readPersonLine_4 := dk_seg dksX8_readPersonLine_3 24 rfl rfl
theorem dksX8_readPersonLine_5 : cX8_readPersonLine.data.toList.drop 118 = dktX8_readPersonLine_5 := dk_seg dksX8_readPersonLine_4 24 rfl rfl
theorem dksX8_readPersonLine_6 : cX8_readPersonLine.data.toList.drop 142 = dktX8_readPersonLine_6 := dk_seg dksX8_readPersonLine_5 24 rfl rfl
theorem dksX8_readPersonLine_7 : cX8_readPersonLine.data.toList.drop 164 = dktX8_readPersonLine_7 := dk_seg dksX8_readPersonLine_6 22 rfl rfl
theorem dksX8_readPersonLine_8 : cX8_readPersonLine.data.toList.drop 188 = dktX8_readPersonLine_8 := dk_seg dksX8_readPersonLine_7 24 rfl rfl
theorem dksX8_readPersonLine_9 : cX8_readPersonLine.data.toList.drop 211 = dktX8_readPersonLine_9 := dk_seg dksX8_readPersonLine_8 23 rfl rfl
theorem dX8_readPersonLine_0 : decode cX8_readPersonLine 0 = .ok (.aload_n 0, 1) := dk_42 (dk_at dksX8_readPersonLine_0 0 rfl rfl)
theorem dX8_readPersonLine_1 : decode cX8_readPersonLine 1 = .ok (.aload_n 0, 1) := dk_42 (dk_at dksX8_readPersonLine_0 1 rfl rfl)
theorem dX8_readPersonLine_2 : decode cX8_readPersonLine 2 = .ok (.getfield 171, 3) := dk_180 0 171 (dk_at dksX8_readPersonLine_0 2 rfl rfl)
theorem dX8_readPersonLine_5 : decode cX8_readPersonLine 5 = .ok (.getfield 213, 3) := dk_180 0 213 (dk_at dksX8_readPersonLine_0 5 rfl rfl)
theorem dX8_readPersonLine_8 : decode cX8_readPersonLine 8 = .ok (.bipush 6, 2) := dk_16 6 (dk_at dksX8_readPersonLine_0 8 rfl rfl)
theorem dX8_readPersonLine_10 : decode cX8_readPersonLine 10 = .ok (.invokevirtual 266, 3) := dk_182 1 10 (dk_at dksX8_readPersonLine_0 10 rfl rfl)
theorem dX8_readPersonLine_13 : decode cX8_readPersonLine 13 = .ok (.aload_n 0, 1) := dk_42 (dk_at dksX8_readPersonLine_0 13 rfl rfl)
theorem dX8_readPersonLine_14 : decode cX8_readPersonLine 14 = .ok (.invokevirtual 270, 3) := dk_182 1 14 (dk_at dksX8_readPersonLine_0 14 rfl rfl)
theorem dX8_readPersonLine_17 : decode cX8_readPersonLine 17 = .ok (.lstore_n 1, 1) := dk_64 (dk_at dksX8_readPersonLine_0 17 rfl rfl)
theorem dX8_readPersonLine_18 : decode cX8_readPersonLine 18 = .ok (.aload_n 0, 1) := dk_42 (dk_at dksX8_readPersonLine_0 18 rfl rfl)
theorem dX8_readPersonLine_19 : decode cX8_readPersonLine 19 = .ok (.ldc_w 293, 3) := dk_19 1 37 (dk_at dksX8_readPersonLine_0 19 rfl rfl)
theorem dX8_readPersonLine_22 : decode cX8_readPersonLine 22 = .ok (.invokevirtual 130, 3) := dk_182 0 130 (dk_at dksX8_readPersonLine_1 0 rfl rfl)
theorem dX8_readPersonLine_25 : decode cX8_readPersonLine 25 = .ok (.ifCond .eq 7, 3) := dk_153 0 7 (dk_at dksX8_readPersonLine_1 3 rfl rfl)
theorem dX8_readPersonLine_28 : decode cX8_readPersonLine 28 = .ok (.iconst 0, 1) := dk_3 (dk_at dksX8_readPersonLine_1 6 rfl rfl)
theorem dX8_readPersonLine_29 : decode cX8_readPersonLine 29 = .ok (.goto 46, 3) := dk_167 0 46 (dk_at dksX8_readPersonLine_1 7 rfl rfl)
theorem dX8_readPersonLine_32 : decode cX8_readPersonLine 32 = .ok (.aload_n 0, 1) := dk_42 (dk_at dksX8_readPersonLine_1 10 rfl rfl)
theorem dX8_readPersonLine_33 : decode cX8_readPersonLine 33 = .ok (.ldc_w 295, 3) := dk_19 1 39 (dk_at dksX8_readPersonLine_1 11 rfl rfl)
theorem dX8_readPersonLine_36 : decode cX8_readPersonLine 36 = .ok (.invokevirtual 130, 3) := dk_182 0 130 (dk_at dksX8_readPersonLine_1 14 rfl rfl)
theorem dX8_readPersonLine_39 : decode cX8_readPersonLine 39 = .ok (.ifCond .eq 7, 3) := dk_153 0 7 (dk_at dksX8_readPersonLine_1 17 rfl rfl)
theorem dX8_readPersonLine_42 : decode cX8_readPersonLine 42 = .ok (.iconst 1, 1) := dk_4 (dk_at dksX8_readPersonLine_1 20 rfl rfl)
theorem dX8_readPersonLine_43 : decode cX8_readPersonLine 43 = .ok (.goto 32, 3) := dk_167 0 32 (dk_at dksX8_readPersonLine_1 21 rfl rfl)
theorem dX8_readPersonLine_46 : decode cX8_readPersonLine 46 = .ok (.aload_n 0, 1) := dk_42 (dk_at dksX8_readPersonLine_2 0 rfl rfl)
theorem dX8_readPersonLine_47 : decode cX8_readPersonLine 47 = .ok (.ldc_w 297, 3) := dk_19 1 41 (dk_at dksX8_readPersonLine_2 1 rfl rfl)
theorem dX8_readPersonLine_50 : decode cX8_readPersonLine 50 = .ok (.invokevirtual 130, 3) := dk_182 0 130 (dk_at dksX8_readPersonLine_2 4 rfl rfl)
theorem dX8_readPersonLine_53 : decode cX8_readPersonLine 53 = .ok (.ifCond .eq 7, 3) := dk_153 0 7 (dk_at dksX8_readPersonLine_2 7 rfl rfl)
theorem dX8_readPersonLine_56 : decode cX8_readPersonLine 56 = .ok (.iconst 2, 1) := dk_5 (dk_at dksX8_readPersonLine_2 10 rfl rfl)
theorem dX8_readPersonLine_57 : decode cX8_readPersonLine 57 = .ok (.goto 18, 3) := dk_167 0 18 (dk_at dksX8_readPersonLine_2 11 rfl rfl)
theorem dX8_readPersonLine_60 : decode cX8_readPersonLine 60 = .ok (.aload_n 0, 1) := dk_42 (dk_at dksX8_readPersonLine_2 14 rfl rfl)
theorem dX8_readPersonLine_61 : decode cX8_readPersonLine 61 = .ok (.ldc_w 299, 3) := dk_19 1 43 (dk_at dksX8_readPersonLine_2 15 rfl rfl)
theorem dX8_readPersonLine_64 : decode cX8_readPersonLine 64 = .ok (.invokevirtual 130, 3) := dk_182 0 130 (dk_at dksX8_readPersonLine_2 18 rfl rfl)
theorem dX8_readPersonLine_67 : decode cX8_readPersonLine 67 = .ok (.ifCond .eq 7, 3) := dk_153 0 7 (dk_at dksX8_readPersonLine_2 21 rfl rfl)
theorem dX8_readPersonLine_70 : decode cX8_readPersonLine 70 = .ok (.iconst 3, 1) := dk_6 (dk_at dksX8_readPersonLine_3 0 rfl rfl)
theorem dX8_readPersonLine_71 : decode cX8_readPersonLine 71 = .ok (.goto 4, 3) := dk_167 0 4 (dk_at dksX8_readPersonLine_3 1 rfl rfl)
theorem dX8_readPersonLine_74 : decode cX8_readPersonLine 74 = .ok (.iconst (-1), 1) := dk_2 (dk_at dksX8_readPersonLine_3 4 rfl rfl)
theorem dX8_readPersonLine_75 : decode cX8_readPersonLine 75 = .ok (.istore_n 3, 1) := dk_62 (dk_at dksX8_readPersonLine_3 5 rfl rfl)
theorem dX8_readPersonLine_76 : decode cX8_readPersonLine 76 = .ok (.iload_n 3, 1) := dk_29 (dk_at dksX8_readPersonLine_3 6 rfl rfl)
theorem dX8_readPersonLine_77 : decode cX8_readPersonLine 77 = .ok (.iconst (-1), 1) := dk_2 (dk_at dksX8_readPersonLine_3 7 rfl rfl)
theorem dX8_readPersonLine_78 : decode cX8_readPersonLine 78 = .ok (.if_icmp .ne 8, 3) := dk_160 0 8 (dk_at dksX8_readPersonLine_3 8 rfl rfl)
theorem dX8_readPersonLine_81 : decode cX8_readPersonLine 81 = .ok (.aload_n 0, 1) := dk_42 (dk_at dksX8_readPersonLine_3 11 rfl rfl)
theorem dX8_readPersonLine_82 : decode cX8_readPersonLine 82 = .ok (.iconst 1, 1) := dk_4 (dk_at dksX8_readPersonLine_3 12 rfl rfl)
theorem dX8_readPersonLine_83 : decode cX8_readPersonLine 83 = .ok (.invokevirtual 134, 3) := dk_182 0 134 (dk_at dksX8_readPersonLine_3 13 rfl rfl)
theorem dX8_readPersonLine_86 : decode cX8_readPersonLine 86 = .ok (.aload_n 0, 1) := dk_42 (dk_at dksX8_readPersonLine_3 16 rfl rfl)
theorem dX8_readPersonLine_87 : decode cX8_readPersonLine 87 = .ok (.invokevirtual 127, 3) := dk_182 0 127 (dk_at dksX8_readPersonLine_3 17 rfl rfl)
theorem dX8_readPersonLine_90 : decode cX8_readPersonLine 90 = .ok (.aload_n 0, 1) := dk_42 (dk_at dksX8_readPersonLine_3 20 rfl rfl)
theorem dX8_readPersonLine_91 : decode cX8_readPersonLine 91 = .ok (.ldc_w 301, 3) := dk_19 1 45 (dk_at dksX8_readPersonLine_3 21 rfl rfl)
theorem dX8_readPersonLine_94 : decode cX8_readPersonLine 94 = .ok (.iconst 1, 1) := dk_4 (dk_at dksX8_readPersonLine_4 0 rfl rfl)
theorem dX8_readPersonLine_95 : decode cX8_readPersonLine 95 = .ok (.bipush 40, 2) := dk_16 40 (dk_at dksX8_readPersonLine_4 1 rfl rfl)
theorem dX8_readPersonLine_97 : decode cX8_readPersonLine 97 = .ok (.invokevirtual 239, 3) := dk_182 0 239 (dk_at dksX8_readPersonLine_4 3 rfl rfl)
theorem dX8_readPersonLine_100 : decode cX8_readPersonLine 100 = .ok (.istore 4, 2) := dk_54 4 (dk_at dksX8_readPersonLine_4 6 rfl rfl)
theorem dX8_readPersonLine_102 : decode cX8_readPersonLine 102 = .ok (.aload_n 0, 1) := dk_42 (dk_at dksX8_readPersonLine_4 8 rfl rfl)
theorem dX8_readPersonLine_103 : decode cX8_readPersonLine 103 = .ok (.ldc_w 303, 3) := dk_19 1 47 (dk_at dksX8_readPersonLine_4 9 rfl rfl)
theorem dX8_readPersonLine_106 : decode cX8_readPersonLine 106 = .ok (.iconst 1, 1) := dk_4 (dk_at dksX8_readPersonLine_4 12 rfl rfl)
theorem dX8_readPersonLine_107 : decode cX8_readPersonLine 107 = .ok (.bipush 6, 2) := dk_16 6 (dk_at dksX8_readPersonLine_4 13 rfl rfl)
theorem dX8_readPersonLine_109 : decode cX8_readPersonLine 109 = .ok (.invokevirtual 239, 3) := dk_182 0 239 (dk_at dksX8_readPersonLine_4 15 rfl rfl)
theorem dX8_readPersonLine_112 : decode cX8_readPersonLine 112 = .ok (.istore 5, 2) := dk_54 5 (dk_at dksX8_readPersonLine_4 18 rfl rfl)
theorem dX8_readPersonLine_114 : decode cX8_readPersonLine 114 = .ok (.aload_n 0, 1) := dk_42 (dk_at dksX8_readPersonLine_4 20 rfl rfl)
theorem dX8_readPersonLine_115 : decode cX8_readPersonLine 115 = .ok (.ldc_w 305, 3) := dk_19 1 49 (dk_at dksX8_readPersonLine_4 21 rfl rfl)
theorem dX8_readPersonLine_118 : decode cX8_readPersonLine 118 = .ok (.iconst 0, 1) := dk_3 (dk_at dksX8_readPersonLine_5 0 rfl rfl)
theorem dX8_readPersonLine_119 : decode cX8_readPersonLine 119 = .ok (.bipush 99, 2) := dk_16 99 (dk_at dksX8_readPersonLine_5 1 rfl rfl)
theorem dX8_readPersonLine_121 : decode cX8_readPersonLine 121 = .ok (.invokevirtual 239, 3) := dk_182 0 239 (dk_at dksX8_readPersonLine_5 3 rfl rfl)
theorem dX8_readPersonLine_124 : decode cX8_readPersonLine 124 = .ok (.istore 6, 2) := dk_54 6 (dk_at dksX8_readPersonLine_5 6 rfl rfl)
theorem dX8_readPersonLine_126 : decode cX8_readPersonLine 126 = .ok (.aload_n 0, 1) := dk_42 (dk_at dksX8_readPersonLine_5 8 rfl rfl)
theorem dX8_readPersonLine_127 : decode cX8_readPersonLine 127 = .ok (.getfield 85, 3) := dk_180 0 85 (dk_at dksX8_readPersonLine_5 9 rfl rfl)
theorem dX8_readPersonLine_130 : decode cX8_readPersonLine 130 = .ok (.iconst 5, 1) := dk_8 (dk_at dksX8_readPersonLine_5 12 rfl rfl)
theorem dX8_readPersonLine_131 : decode cX8_readPersonLine 131 = .ok (.if_icmp .ne 4, 3) := dk_160 0 4 (dk_at dksX8_readPersonLine_5 13 rfl rfl)
theorem dX8_readPersonLine_134 : decode cX8_readPersonLine 134 = .ok (.return_, 1) := dk_177 (dk_at dksX8_readPersonLine_5 16 rfl rfl)
theorem dX8_readPersonLine_135 : decode cX8_readPersonLine 135 = .ok (.aload_n 0, 1) := dk_42 (dk_at dksX8_readPersonLine_5 17 rfl rfl)
theorem dX8_readPersonLine_136 : decode cX8_readPersonLine 136 = .ok (.getfield 171, 3) := dk_180 0 171 (dk_at dksX8_readPersonLine_5 18 rfl rfl)
theorem dX8_readPersonLine_139 : decode cX8_readPersonLine 139 = .ok (.getfield 213, 3) := dk_180 0 213 (dk_at dksX8_readPersonLine_5 21 rfl rfl)
theorem dX8_readPersonLine_142 : decode cX8_readPersonLine 142 = .ok (.istore 7, 2) := dk_54 7 (dk_at dksX8_readPersonLine_6 0 rfl rfl)
theorem dX8_readPersonLine_144 : decode cX8_readPersonLine 144 = .ok (.aload_n 0, 1) := dk_42 (dk_at dksX8_readPersonLine_6 2 rfl rfl)
theorem dX8_readPersonLine_145 : decode cX8_readPersonLine 145 = .ok (.lload_n 1, 1) := dk_31 (dk_at dksX8_readPersonLine_6 3 rfl rfl)
theorem dX8_readPersonLine_146 : decode cX8_readPersonLine 146 = .ok (.iconst 0, 1) := dk_3 (dk_at dksX8_readPersonLine_6 4 rfl rfl)
theorem dX8_readPersonLine_147 : decode cX8_readPersonLine 147 = .ok (.iload 7, 2) := dk_21 7 (dk_at dksX8_readPersonLine_6 5 rfl rfl)
theorem dX8_readPersonLine_149 : decode cX8_readPersonLine 149 = .ok (.invokevirtual 285, 3) := dk_182 1 29 (dk_at dksX8_readPersonLine_6 7 rfl rfl)
theorem dX8_readPersonLine_152 : decode cX8_readPersonLine 152 = .ok (.aload_n 0, 1) := dk_42 (dk_at dksX8_readPersonLine_6 10 rfl rfl)
theorem dX8_readPersonLine_153 : decode cX8_readPersonLine 153 = .ok (.getfield 171, 3) := dk_180 0 171 (dk_at dksX8_readPersonLine_6 11 rfl rfl)
theorem dX8_readPersonLine_156 : decode cX8_readPersonLine 156 = .ok (.getfield 307, 3) := dk_180 1 51 (dk_at dksX8_readPersonLine_6 14 rfl rfl)
theorem dX8_readPersonLine_159 : decode cX8_readPersonLine 159 = .ok (.iload 7, 2) := dk_21 7 (dk_at dksX8_readPersonLine_6 17 rfl rfl)
theorem dX8_readPersonLine_161 : decode cX8_readPersonLine 161 = .ok (.iload_n 3, 1) := dk_29 (dk_at dksX8_readPersonLine_6 19 rfl rfl)
theorem dX8_readPersonLine_162 : decode cX8_readPersonLine 162 = .ok (.iastore, 1) := dk_79 (dk_at dksX8_readPersonLine_6 20 rfl rfl)
theorem dX8_readPersonLine_163 : decode cX8_readPersonLine 163 = .ok (.aload_n 0, 1) := dk_42 (dk_at dksX8_readPersonLine_6 21 rfl rfl)
theorem dX8_readPersonLine_164 : decode cX8_readPersonLine 164 = .ok (.getfield 171, 3) := dk_180 0 171 (dk_at dksX8_readPersonLine_7 0 rfl rfl)
theorem dX8_readPersonLine_167 : decode cX8_readPersonLine 167 = .ok (.getfield 310, 3) := dk_180 1 54 (dk_at dksX8_readPersonLine_7 3 rfl rfl)
theorem dX8_readPersonLine_170 : decode cX8_readPersonLine 170 = .ok (.iload 7, 2) := dk_21 7 (dk_at dksX8_readPersonLine_7 6 rfl rfl)
theorem dX8_readPersonLine_172 : decode cX8_readPersonLine 172 = .ok (.iload 4, 2) := dk_21 4 (dk_at dksX8_readPersonLine_7 8 rfl rfl)
theorem dX8_readPersonLine_174 : decode cX8_readPersonLine 174 = .ok (.iastore, 1) := dk_79 (dk_at dksX8_readPersonLine_7 10 rfl rfl)
theorem dX8_readPersonLine_175 : decode cX8_readPersonLine 175 = .ok (.aload_n 0, 1) := dk_42 (dk_at dksX8_readPersonLine_7 11 rfl rfl)
theorem dX8_readPersonLine_176 : decode cX8_readPersonLine 176 = .ok (.getfield 171, 3) := dk_180 0 171 (dk_at dksX8_readPersonLine_7 12 rfl rfl)
theorem dX8_readPersonLine_179 : decode cX8_readPersonLine 179 = .ok (.getfield 312, 3) := dk_180 1 56 (dk_at dksX8_readPersonLine_7 15 rfl rfl)
theorem dX8_readPersonLine_182 : decode cX8_readPersonLine 182 = .ok (.iload 7, 2) := dk_21 7 (dk_at dksX8_readPersonLine_7 18 rfl rfl)
theorem dX8_readPersonLine_184 : decode cX8_readPersonLine 184 = .ok (.iload 5, 2) := dk_21 5 (dk_at dksX8_readPersonLine_7 20 rfl rfl)
theorem dX8_readPersonLine_186 : decode cX8_readPersonLine 186 = .ok (.iastore, 1) := dk_79 (dk_at dksX8_readPersonLine_7 22 rfl rfl)
theorem dX8_readPersonLine_187 : decode cX8_readPersonLine 187 = .ok (.aload_n 0, 1) := dk_42 (dk_at dksX8_readPersonLine_7 23 rfl rfl)
theorem dX8_readPersonLine_188 : decode cX8_readPersonLine 188 = .ok (.getfield 171, 3) := dk_180 0 171 (dk_at dksX8_readPersonLine_8 0 rfl rfl)
theorem dX8_readPersonLine_191 : decode cX8_readPersonLine 191 = .ok (.getfield 314, 3) := dk_180 1 58 (dk_at dksX8_readPersonLine_8 3 rfl rfl)
theorem dX8_readPersonLine_194 : decode cX8_readPersonLine 194 = .ok (.iload 7, 2) := dk_21 7 (dk_at dksX8_readPersonLine_8 6 rfl rfl)
theorem dX8_readPersonLine_196 : decode cX8_readPersonLine 196 = .ok (.iload 6, 2) := dk_21 6 (dk_at dksX8_readPersonLine_8 8 rfl rfl)
theorem dX8_readPersonLine_198 : decode cX8_readPersonLine 198 = .ok (.iastore, 1) := dk_79 (dk_at dksX8_readPersonLine_8 10 rfl rfl)
theorem dX8_readPersonLine_199 : decode cX8_readPersonLine 199 = .ok (.aload_n 0, 1) := dk_42 (dk_at dksX8_readPersonLine_8 11 rfl rfl)
theorem dX8_readPersonLine_200 : decode cX8_readPersonLine 200 = .ok (.getfield 171, 3) := dk_180 0 171 (dk_at dksX8_readPersonLine_8 12 rfl rfl)
theorem dX8_readPersonLine_203 : decode cX8_readPersonLine 203 = .ok (.getfield 316, 3) := dk_180 1 60 (dk_at dksX8_readPersonLine_8 15 rfl rfl)
theorem dX8_readPersonLine_206 : decode cX8_readPersonLine 206 = .ok (.iload 7, 2) := dk_21 7 (dk_at dksX8_readPersonLine_8 18 rfl rfl)
theorem dX8_readPersonLine_208 : decode cX8_readPersonLine 208 = .ok (.iconst (-1), 1) := dk_2 (dk_at dksX8_readPersonLine_8 20 rfl rfl)
theorem dX8_readPersonLine_209 : decode cX8_readPersonLine 209 = .ok (.iastore, 1) := dk_79 (dk_at dksX8_readPersonLine_8 21 rfl rfl)
theorem dX8_readPersonLine_210 : decode cX8_readPersonLine 210 = .ok (.aload_n 0, 1) := dk_42 (dk_at dksX8_readPersonLine_8 22 rfl rfl)
theorem dX8_readPersonLine_211 : decode cX8_readPersonLine 211 = .ok (.getfield 171, 3) := dk_180 0 171 (dk_at dksX8_readPersonLine_9 0 rfl rfl)
theorem dX8_readPersonLine_214 : decode cX8_readPersonLine 214 = .ok (.dup, 1) := dk_89 (dk_at dksX8_readPersonLine_9 3 rfl rfl)
theorem dX8_readPersonLine_215 : decode cX8_readPersonLine 215 = .ok (.getfield 213, 3) := dk_180 0 213 (dk_at dksX8_readPersonLine_9 4 rfl rfl)
theorem dX8_readPersonLine_218 : decode cX8_readPersonLine 218 = .ok (.iconst 1, 1) := dk_4 (dk_at dksX8_readPersonLine_9 7 rfl rfl)
theorem dX8_readPersonLine_219 : decode cX8_readPersonLine 219 = .ok (.iadd, 1) := dk_96 (dk_at dksX8_readPersonLine_9 8 rfl rfl)
theorem dX8_readPersonLine_220 : decode cX8_readPersonLine 220 = .ok (.putfield 213, 3) := dk_181 0 213 (dk_at dksX8_readPersonLine_9 9 rfl rfl)
theorem dX8_readPersonLine_223 : decode cX8_readPersonLine 223 = .ok (.return_, 1) := dk_177 (dk_at dksX8_readPersonLine_9 12 rfl rfl)
abbrev cX8_readFor : ByteArray := prog_20_method_37_code
def yX8_readFor : MethodName := ⟨RX8, "readFor", "()V"⟩
def dkwX8_readFor_5 : List UInt8 := [181, 1, 62, 177]
abbrev dktX8_readFor_5 : List UInt8 := dkwX8_readFor_5 ++ []
def dkwX8_readFor_4 : List UInt8 := [180, 0, 171, 180, 1, 75, 27, 92, 46, 29, 96, 79, 42, 180, 0, 171, 89, 180, 1, 62, 4, 96]
abbrev dktX8_readFor_4 : List UInt8 := dkwX8_readFor_4 ++ dktX8_readFor_5
def dkwX8_readFor_3 : List UInt8 := [180, 0, 85, 8, 160, 0, 4, 177, 42, 180, 0, 171, 180, 1, 68, 27, 92, 46, 4, 28, 120, 128, 79, 42]
abbrev dktX8_readFor_3 : List UInt8 := dkwX8_readFor_3 ++ dktX8_readFor_4
def dkwX8_readFor_2 : List UInt8 := [184, 1, 71, 153, 0, 8, 42, 6, 182, 0, 134, 42, 182, 0, 127, 42, 3, 16, 99, 182, 0, 150, 62, 42]
abbrev dktX8_readFor_2 : List UInt8 := dkwX8_readFor_2 ++ dktX8_readFor_3
def dkwX8_readFor_1 : List UInt8 := [180, 0, 85, 8, 159, 0, 29, 27, 28, 159, 0, 19, 42, 180, 0, 171, 180, 1, 68, 27, 46, 28]
abbrev dktX8_readFor_1 : List UInt8 := dkwX8_readFor_1 ++ dktX8_readFor_2
def dkwX8_readFor_0 : List UInt8 := [42, 42, 180, 0, 171, 180, 1, 62, 16, 10, 182, 1, 10, 42, 182, 1, 65, 60, 42, 182, 0, 201, 61, 42]
abbrev dktX8_readFor_0 : List UInt8 := dkwX8_readFor_0 ++ dktX8_readFor_1
theorem dksX8_readFor_0 : cX8_readFor.data.toList.drop 0 = dktX8_readFor_0 := by decide +kernel
theorem dksX8_readFor_1 : cX8_readFor.data.toList.drop 24 = dktX8_readFor_1 := dk_seg dksX8_readFor_0 24 rfl rfl
theorem dksX8_readFor_2 : cX8_readFor.data.toList.drop 46 = dktX8_readFor_2 := dk_seg dksX8_readFor_1 22 rfl rfl
theorem dksX8_readFor_3 : cX8_readFor.data.toList.drop 70 = dktX8_readFor_3 := dk_seg dksX8_readFor_2 24 rfl rfl
theorem dksX8_readFor_4 : cX8_readFor.data.toList.drop 94 = dktX8_readFor_4 := dk_seg dksX8_readFor_3 24 rfl rfl
theorem dksX8_readFor_5 : cX8_readFor.data.toList.drop 116 = dktX8_readFor_5 := dk_seg dksX8_readFor_4 22 rfl rfl
theorem dX8_readFor_0 : decode cX8_readFor 0 = .ok (.aload_n 0, 1) := dk_42 (dk_at dksX8_readFor_0 0 rfl rfl)
theorem dX8_readFor_1 : decode cX8_readFor 1 = .ok (.aload_n 0, 1) := dk_42 (dk_at dksX8_readFor_0 1 rfl rfl)
theorem dX8_readFor_2 : decode cX8_readFor 2 = .ok (.getfield 171, 3) := dk_180 0 171 (dk_at dksX8_readFor_0 2 rfl rfl)
theorem dX8_readFor_5 : decode cX8_readFor 5 = .ok (.getfield 318, 3) := dk_180 1 62 (dk_at dksX8_readFor_0 5 rfl rfl)
theorem dX8_readFor_8 : decode cX8_readFor 8 = .ok (.bipush 10, 2) := dk_16 10 (dk_at dksX8_readFor_0 8 rfl rfl)
theorem dX8_readFor_10 : decode cX8_readFor 10 = .ok (.invokevirtual 266, 3) := dk_182 1 10 (dk_at dksX8_readFor_0 10 rfl rfl)
theorem dX8_readFor_13 : decode cX8_readFor 13 = .ok (.aload_n 0, 1) := dk_42 (dk_at dksX8_readFor_0 13 rfl rfl)
theorem dX8_readFor_14 : decode cX8_readFor 14 = .ok (.invokevirtual 321, 3) := dk_182 1 65 (dk_at dksX8_readFor_0 14 rfl rfl)
theorem dX8_readFor_17 : decode cX8_readFor 17 = .ok (.istore_n 1, 1) := dk_60 (dk_at dksX8_readFor_0 17 rfl rfl)
theorem dX8_readFor_18 : decode cX8_readFor 18 = .ok (.aload_n 0, 1) := dk_42 (dk_at dksX8_readFor_0 18 rfl rfl)
theorem dX8_readFor_19 : decode cX8_readFor 19 = .ok (.invokevirtual 201, 3) := dk_182 0 201 (dk_at dksX8_readFor_0 19 rfl rfl)
theorem dX8_readFor_22 : decode cX8_readFor 22 = .ok (.istore_n 2, 1) := dk_61 (dk_at dksX8_readFor_0 22 rfl rfl)
theorem dX8_readFor_23 : decode cX8_readFor 23 = .ok (.aload_n 0, 1) := dk_42 (dk_at dksX8_readFor_0 23 rfl rfl)
theorem dX8_readFor_24 : decode cX8_readFor 24 = .ok (.getfield 85, 3) := dk_180 0 85 (dk_at dksX8_readFor_1 0 rfl rfl)
theorem dX8_readFor_27 : decode cX8_readFor 27 = .ok (.iconst 5, 1) := dk_8 (dk_at dksX8_readFor_1 3 rfl rfl)
theorem dX8_readFor_28 : decode cX8_readFor 28 = .ok (.if_icmp .eq 29, 3) := dk_159 0 29 (dk_at dksX8_readFor_1 4 rfl rfl)
theorem dX8_readFor_31 : decode cX8_readFor 31 = .ok (.iload_n 1, 1) := dk_27 (dk_at dksX8_readFor_1 7 rfl rfl)
theorem dX8_readFor_32 : decode cX8_readFor 32 = .ok (.iload_n 2, 1) := dk_28 (dk_at dksX8_readFor_1 8 rfl rfl)
theorem dX8_readFor_33 : decode cX8_readFor 33 = .ok (.if_icmp .eq 19, 3) := dk_159 0 19 (dk_at dksX8_readFor_1 9 rfl rfl)
theorem dX8_readFor_36 : decode cX8_readFor 36 = .ok (.aload_n 0, 1) := dk_42 (dk_at dksX8_readFor_1 12 rfl rfl)
theorem dX8_readFor_37 : decode cX8_readFor 37 = .ok (.getfield 171, 3) := dk_180 0 171 (dk_at dksX8_readFor_1 13 rfl rfl)
theorem dX8_readFor_40 : decode cX8_readFor 40 = .ok (.getfield 324, 3) := dk_180 1 68 (dk_at dksX8_readFor_1 16 rfl rfl)
theorem dX8_readFor_43 : decode cX8_readFor 43 = .ok (.iload_n 1, 1) := dk_27 (dk_at dksX8_readFor_1 19 rfl rfl)
theorem dX8_readFor_44 : decode cX8_readFor 44 = .ok (.iaload, 1) := dk_46 (dk_at dksX8_readFor_1 20 rfl rfl)
theorem dX8_readFor_45 : decode cX8_readFor 45 = .ok (.iload_n 2, 1) := dk_28 (dk_at dksX8_readFor_1 21 rfl rfl)
theorem dX8_readFor_46 : decode cX8_readFor 46 = .ok (.invokestatic 327, 3) := dk_184 1 71 (dk_at dksX8_readFor_2 0 rfl rfl)
theorem dX8_readFor_49 : decode cX8_readFor 49 = .ok (.ifCond .eq 8, 3) := dk_153 0 8 (dk_at dksX8_readFor_2 3 rfl rfl)
theorem dX8_readFor_52 : decode cX8_readFor 52 = .ok (.aload_n 0, 1) := dk_42 (dk_at dksX8_readFor_2 6 rfl rfl)
theorem dX8_readFor_53 : decode cX8_readFor 53 = .ok (.iconst 3, 1) := dk_6 (dk_at dksX8_readFor_2 7 rfl rfl)
theorem dX8_readFor_54 : decode cX8_readFor 54 = .ok (.invokevirtual 134, 3) := dk_182 0 134 (dk_at dksX8_readFor_2 8 rfl rfl)
theorem dX8_readFor_57 : decode cX8_readFor 57 = .ok (.aload_n 0, 1) := dk_42 (dk_at dksX8_readFor_2 11 rfl rfl)
theorem dX8_readFor_58 : decode cX8_readFor 58 = .ok (.invokevirtual 127, 3) := dk_182 0 127 (dk_at dksX8_readFor_2 12 rfl rfl)
theorem dX8_readFor_61 : decode cX8_readFor 61 = .ok (.aload_n 0, 1) := dk_42 (dk_at dksX8_readFor_2 15 rfl rfl)
theorem dX8_readFor_62 : decode cX8_readFor 62 = .ok (.iconst 0, 1) := dk_3 (dk_at dksX8_readFor_2 16 rfl rfl)
theorem dX8_readFor_63 : decode cX8_readFor 63 = .ok (.bipush 99, 2) := dk_16 99 (dk_at dksX8_readFor_2 17 rfl rfl)
theorem dX8_readFor_65 : decode cX8_readFor 65 = .ok (.invokevirtual 150, 3) := dk_182 0 150 (dk_at dksX8_readFor_2 19 rfl rfl)
theorem dX8_readFor_68 : decode cX8_readFor 68 = .ok (.istore_n 3, 1) := dk_62 (dk_at dksX8_readFor_2 22 rfl rfl)
theorem dX8_readFor_69 : decode cX8_readFor 69 = .ok (.aload_n 0, 1) := dk_42 (dk_at dksX8_readFor_2 23 rfl rfl)
theorem dX8_readFor_70 : decode cX8_readFor 70 = .ok (.getfield 85, 3) := dk_180 0 85 (dk_at dksX8_readFor_3 0 rfl rfl)
theorem dX8_readFor_73 : decode cX8_readFor 73 = .ok (.iconst 5, 1) := dk_8 (dk_at dksX8_readFor_3 3 rfl rfl)
theorem dX8_readFor_74 : decode cX8_readFor 74 = .ok (.if_icmp .ne 4, 3) := dk_160 0 4 (dk_at dksX8_readFor_3 4 rfl rfl)
theorem dX8_readFor_77 : decode cX8_readFor 77 = .ok (.return_, 1) := dk_177 (dk_at dksX8_readFor_3 7 rfl rfl)
theorem dX8_readFor_78 : decode cX8_readFor 78 = .ok (.aload_n 0, 1) := dk_42 (dk_at dksX8_readFor_3 8 rfl rfl)
theorem dX8_readFor_79 : decode cX8_readFor 79 = .ok (.getfield 171, 3) := dk_180 0 171 (dk_at dksX8_readFor_3 9 rfl rfl)
theorem dX8_readFor_82 : decode cX8_readFor 82 = .ok (.getfield 324, 3) := dk_180 1 68 (dk_at dksX8_readFor_3 12 rfl rfl)
theorem dX8_readFor_85 : decode cX8_readFor 85 = .ok (.iload_n 1, 1) := dk_27 (dk_at dksX8_readFor_3 15 rfl rfl)
theorem dX8_readFor_86 : decode cX8_readFor 86 = .ok (.dup2, 1) := dk_92 (dk_at dksX8_readFor_3 16 rfl rfl)
theorem dX8_readFor_87 : decode cX8_readFor 87 = .ok (.iaload, 1) := dk_46 (dk_at dksX8_readFor_3 17 rfl rfl)
theorem dX8_readFor_88 : decode cX8_readFor 88 = .ok (.iconst 1, 1) := dk_4 (dk_at dksX8_readFor_3 18 rfl rfl)
theorem dX8_readFor_89 : decode cX8_readFor 89 = .ok (.iload_n 2, 1) := dk_28 (dk_at dksX8_readFor_3 19 rfl rfl)
theorem dX8_readFor_90 : decode cX8_readFor 90 = .ok (.ishl, 1) := dk_120 (dk_at dksX8_readFor_3 20 rfl rfl)
theorem dX8_readFor_91 : decode cX8_readFor 91 = .ok (.ior, 1) := dk_128 (dk_at dksX8_readFor_3 21 rfl rfl)
theorem dX8_readFor_92 : decode cX8_readFor 92 = .ok (.iastore, 1) := dk_79 (dk_at dksX8_readFor_3 22 rfl rfl)
theorem dX8_readFor_93 : decode cX8_readFor 93 = .ok (.aload_n 0, 1) := dk_42 (dk_at dksX8_readFor_3 23 rfl rfl)
theorem dX8_readFor_94 : decode cX8_readFor 94 = .ok (.getfield 171, 3) := dk_180 0 171 (dk_at dksX8_readFor_4 0 rfl rfl)
theorem dX8_readFor_97 : decode cX8_readFor 97 = .ok (.getfield 331, 3) := dk_180 1 75 (dk_at dksX8_readFor_4 3 rfl rfl)
theorem dX8_readFor_100 : decode cX8_readFor 100 = .ok (.iload_n 1, 1) := dk_27 (dk_at dksX8_readFor_4 6 rfl rfl)
theorem dX8_readFor_101 : decode cX8_readFor 101 = .ok (.dup2, 1) := dk_92 (dk_at dksX8_readFor_4 7 rfl rfl)
theorem dX8_readFor_102 : decode cX8_readFor 102 = .ok (.iaload, 1) := dk_46 (dk_at dksX8_readFor_4 8 rfl rfl)
theorem dX8_readFor_103 : decode cX8_readFor 103 = .ok (.iload_n 3, 1) := dk_29 (dk_at dksX8_readFor_4 9 rfl rfl)
theorem dX8_readFor_104 : decode cX8_readFor 104 = .ok (.iadd, 1) := dk_96 (dk_at dksX8_readFor_4 10 rfl rfl)
theorem dX8_readFor_105 : decode cX8_readFor 105 = .ok (.iastore, 1) := dk_79 (dk_at dksX8_readFor_4 11 rfl rfl)
theorem dX8_readFor_106 : decode cX8_readFor 106 = .ok (.aload_n 0, 1) := dk_42 (dk_at dksX8_readFor_4 12 rfl rfl)
theorem dX8_readFor_107 : decode cX8_readFor 107 = .ok (.getfield 171, 3) := dk_180 0 171 (dk_at dksX8_readFor_4 13 rfl rfl)
theorem dX8_readFor_110 : decode cX8_readFor 110 = .ok (.dup, 1) := dk_89 (dk_at dksX8_readFor_4 16 rfl rfl)
theorem dX8_readFor_111 : decode cX8_readFor 111 = .ok (.getfield 318, 3) := dk_180 1 62 (dk_at dksX8_readFor_4 17 rfl rfl)
theorem dX8_readFor_114 : decode cX8_readFor 114 = .ok (.iconst 1, 1) := dk_4 (dk_at dksX8_readFor_4 20 rfl rfl)
theorem dX8_readFor_115 : decode cX8_readFor 115 = .ok (.iadd, 1) := dk_96 (dk_at dksX8_readFor_4 21 rfl rfl)
theorem dX8_readFor_116 : decode cX8_readFor 116 = .ok (.putfield 318, 3) := dk_181 1 62 (dk_at dksX8_readFor_5 0 rfl rfl)
theorem dX8_readFor_119 : decode cX8_readFor 119 = .ok (.return_, 1) := dk_177 (dk_at dksX8_readFor_5 3 rfl rfl)
abbrev cX8_readPerson : ByteArray := prog_20_method_29_code
def yX8_readPerson : MethodName := ⟨RX8, "readPerson", "()I"⟩
def dkwX8_readPerson_0 : List UInt8 := [42, 182, 0, 201, 60, 42, 182, 0, 127, 27, 172]
abbrev dktX8_readPerson_0 : List UInt8 := dkwX8_readPerson_0 ++ []
theorem dksX8_readPerson_0 : cX8_readPerson.data.toList.drop 0 = dktX8_readPerson_0 := by decide +kernel
theorem dX8_readPerson_0 : decode cX8_readPerson 0 = .ok (.aload_n 0, 1) := dk_42 (dk_at dksX8_readPerson_0 0 rfl rfl)
theorem dX8_readPerson_1 : decode cX8_readPerson 1 = .ok (.invokevirtual 201, 3) := dk_182 0 201 (dk_at dksX8_readPerson_0 1 rfl rfl)
theorem dX8_readPerson_4 : decode cX8_readPerson 4 = .ok (.istore_n 1, 1) := dk_60 (dk_at dksX8_readPerson_0 4 rfl rfl)
theorem dX8_readPerson_5 : decode cX8_readPerson 5 = .ok (.aload_n 0, 1) := dk_42 (dk_at dksX8_readPerson_0 5 rfl rfl)
theorem dX8_readPerson_6 : decode cX8_readPerson 6 = .ok (.invokevirtual 127, 3) := dk_182 0 127 (dk_at dksX8_readPerson_0 6 rfl rfl)
theorem dX8_readPerson_9 : decode cX8_readPerson 9 = .ok (.iload_n 1, 1) := dk_27 (dk_at dksX8_readPerson_0 9 rfl rfl)
theorem dX8_readPerson_10 : decode cX8_readPerson 10 = .ok (.ireturn, 1) := dk_172 (dk_at dksX8_readPerson_0 10 rfl rfl)
abbrev cX8_knownOne : ByteArray := prog_20_method_28_code
def yX8_knownOne : MethodName := ⟨RX8, "knownOne", "()I"⟩
def dkwX8_knownOne_2 : List UInt8 := [180, 0, 85, 8, 160, 0, 7, 3, 167, 0, 12, 42, 180, 0, 171, 180, 0, 198, 27, 46, 172]
abbrev dktX8_knownOne_2 : List UInt8 := dkwX8_knownOne_2 ++ []
def dkwX8_knownOne_1 : List UInt8 := [27, 2, 159, 0, 15, 42, 180, 0, 171, 180, 0, 195, 27, 51, 153, 0, 8, 42, 5, 182, 0, 134, 42]
abbrev dktX8_knownOne_1 : List UInt8 := dkwX8_knownOne_1 ++ dktX8_knownOne_2
def dkwX8_knownOne_0 : List UInt8 := [42, 182, 0, 181, 154, 0, 8, 42, 4, 182, 0, 134, 42, 180, 0, 171, 42, 180, 0, 104, 182, 0, 185, 60]
abbrev dktX8_knownOne_0 : List UInt8 := dkwX8_knownOne_0 ++ dktX8_knownOne_1
theorem dksX8_knownOne_0 : cX8_knownOne.data.toList.drop 0 = dktX8_knownOne_0 := by decide +kernel
theorem dksX8_knownOne_1 : cX8_knownOne.data.toList.drop 24 = dktX8_knownOne_1 := dk_seg dksX8_knownOne_0 24 rfl rfl
theorem dksX8_knownOne_2 : cX8_knownOne.data.toList.drop 47 = dktX8_knownOne_2 := dk_seg dksX8_knownOne_1 23 rfl rfl
theorem dX8_knownOne_0 : decode cX8_knownOne 0 = .ok (.aload_n 0, 1) := dk_42 (dk_at dksX8_knownOne_0 0 rfl rfl)
theorem dX8_knownOne_1 : decode cX8_knownOne 1 = .ok (.invokevirtual 181, 3) := dk_182 0 181 (dk_at dksX8_knownOne_0 1 rfl rfl)
theorem dX8_knownOne_4 : decode cX8_knownOne 4 = .ok (.ifCond .ne 8, 3) := dk_154 0 8 (dk_at dksX8_knownOne_0 4 rfl rfl)
theorem dX8_knownOne_7 : decode cX8_knownOne 7 = .ok (.aload_n 0, 1) := dk_42 (dk_at dksX8_knownOne_0 7 rfl rfl)
theorem dX8_knownOne_8 : decode cX8_knownOne 8 = .ok (.iconst 1, 1) := dk_4 (dk_at dksX8_knownOne_0 8 rfl rfl)
theorem dX8_knownOne_9 : decode cX8_knownOne 9 = .ok (.invokevirtual 134, 3) := dk_182 0 134 (dk_at dksX8_knownOne_0 9 rfl rfl)
theorem dX8_knownOne_12 : decode cX8_knownOne 12 = .ok (.aload_n 0, 1) := dk_42 (dk_at dksX8_knownOne_0 12 rfl rfl)
theorem dX8_knownOne_13 : decode cX8_knownOne 13 = .ok (.getfield 171, 3) := dk_180 0 171 (dk_at dksX8_knownOne_0 13 rfl rfl)
theorem dX8_knownOne_16 : decode cX8_knownOne 16 = .ok (.aload_n 0, 1) := dk_42 (dk_at dksX8_knownOne_0 16 rfl rfl)
theorem dX8_knownOne_17 : decode cX8_knownOne 17 = .ok (.getfield 104, 3) := dk_180 0 104 (dk_at dksX8_knownOne_0 17 rfl rfl)
theorem dX8_knownOne_20 : decode cX8_knownOne 20 = .ok (.invokevirtual 185, 3) := dk_182 0 185 (dk_at dksX8_knownOne_0 20 rfl rfl)
theorem dX8_knownOne_23 : decode cX8_knownOne 23 = .ok (.istore_n 1, 1) := dk_60 (dk_at dksX8_knownOne_0 23 rfl rfl)
theorem dX8_knownOne_24 : decode cX8_knownOne 24 = .ok (.iload_n 1, 1) := dk_27 (dk_at dksX8_knownOne_1 0 rfl rfl)
theorem dX8_knownOne_25 : decode cX8_knownOne 25 = .ok (.iconst (-1), 1) := dk_2 (dk_at dksX8_knownOne_1 1 rfl rfl)
theorem dX8_knownOne_26 : decode cX8_knownOne 26 = .ok (.if_icmp .eq 15, 3) := dk_159 0 15 (dk_at dksX8_knownOne_1 2 rfl rfl)
theorem dX8_knownOne_29 : decode cX8_knownOne 29 = .ok (.aload_n 0, 1) := dk_42 (dk_at dksX8_knownOne_1 5 rfl rfl)
theorem dX8_knownOne_30 : decode cX8_knownOne 30 = .ok (.getfield 171, 3) := dk_180 0 171 (dk_at dksX8_knownOne_1 6 rfl rfl)
theorem dX8_knownOne_33 : decode cX8_knownOne 33 = .ok (.getfield 195, 3) := dk_180 0 195 (dk_at dksX8_knownOne_1 9 rfl rfl)
theorem dX8_knownOne_36 : decode cX8_knownOne 36 = .ok (.iload_n 1, 1) := dk_27 (dk_at dksX8_knownOne_1 12 rfl rfl)
theorem dX8_knownOne_37 : decode cX8_knownOne 37 = .ok (.baload, 1) := dk_51 (dk_at dksX8_knownOne_1 13 rfl rfl)
theorem dX8_knownOne_38 : decode cX8_knownOne 38 = .ok (.ifCond .eq 8, 3) := dk_153 0 8 (dk_at dksX8_knownOne_1 14 rfl rfl)
theorem dX8_knownOne_41 : decode cX8_knownOne 41 = .ok (.aload_n 0, 1) := dk_42 (dk_at dksX8_knownOne_1 17 rfl rfl)
theorem dX8_knownOne_42 : decode cX8_knownOne 42 = .ok (.iconst 2, 1) := dk_5 (dk_at dksX8_knownOne_1 18 rfl rfl)
theorem dX8_knownOne_43 : decode cX8_knownOne 43 = .ok (.invokevirtual 134, 3) := dk_182 0 134 (dk_at dksX8_knownOne_1 19 rfl rfl)
theorem dX8_knownOne_46 : decode cX8_knownOne 46 = .ok (.aload_n 0, 1) := dk_42 (dk_at dksX8_knownOne_1 22 rfl rfl)
theorem dX8_knownOne_47 : decode cX8_knownOne 47 = .ok (.getfield 85, 3) := dk_180 0 85 (dk_at dksX8_knownOne_2 0 rfl rfl)
theorem dX8_knownOne_50 : decode cX8_knownOne 50 = .ok (.iconst 5, 1) := dk_8 (dk_at dksX8_knownOne_2 3 rfl rfl)
theorem dX8_knownOne_51 : decode cX8_knownOne 51 = .ok (.if_icmp .ne 7, 3) := dk_160 0 7 (dk_at dksX8_knownOne_2 4 rfl rfl)
theorem dX8_knownOne_54 : decode cX8_knownOne 54 = .ok (.iconst 0, 1) := dk_3 (dk_at dksX8_knownOne_2 7 rfl rfl)
theorem dX8_knownOne_55 : decode cX8_knownOne 55 = .ok (.goto 12, 3) := dk_167 0 12 (dk_at dksX8_knownOne_2 8 rfl rfl)
theorem dX8_knownOne_58 : decode cX8_knownOne 58 = .ok (.aload_n 0, 1) := dk_42 (dk_at dksX8_knownOne_2 11 rfl rfl)
theorem dX8_knownOne_59 : decode cX8_knownOne 59 = .ok (.getfield 171, 3) := dk_180 0 171 (dk_at dksX8_knownOne_2 12 rfl rfl)
theorem dX8_knownOne_62 : decode cX8_knownOne 62 = .ok (.getfield 198, 3) := dk_180 0 198 (dk_at dksX8_knownOne_2 15 rfl rfl)
theorem dX8_knownOne_65 : decode cX8_knownOne 65 = .ok (.iload_n 1, 1) := dk_27 (dk_at dksX8_knownOne_2 18 rfl rfl)
theorem dX8_knownOne_66 : decode cX8_knownOne 66 = .ok (.iaload, 1) := dk_46 (dk_at dksX8_knownOne_2 19 rfl rfl)
theorem dX8_knownOne_67 : decode cX8_knownOne 67 = .ok (.ireturn, 1) := dk_172 (dk_at dksX8_knownOne_2 20 rfl rfl)
abbrev cX8_bit : ByteArray := prog_20_method_8_code
def yX8_bit : MethodName := ⟨RX8, "bit", "(II)Z"⟩
def dkwX8_bit_0 : List UInt8 := [26, 27, 122, 4, 126, 4, 160, 0, 7, 4, 167, 0, 4, 3, 172]
abbrev dktX8_bit_0 : List UInt8 := dkwX8_bit_0 ++ []
theorem dksX8_bit_0 : cX8_bit.data.toList.drop 0 = dktX8_bit_0 := by decide +kernel
theorem dX8_bit_0 : decode cX8_bit 0 = .ok (.iload_n 0, 1) := dk_26 (dk_at dksX8_bit_0 0 rfl rfl)
theorem dX8_bit_1 : decode cX8_bit 1 = .ok (.iload_n 1, 1) := dk_27 (dk_at dksX8_bit_0 1 rfl rfl)
theorem dX8_bit_2 : decode cX8_bit 2 = .ok (.ishr, 1) := dk_122 (dk_at dksX8_bit_0 2 rfl rfl)
theorem dX8_bit_3 : decode cX8_bit 3 = .ok (.iconst 1, 1) := dk_4 (dk_at dksX8_bit_0 3 rfl rfl)
theorem dX8_bit_4 : decode cX8_bit 4 = .ok (.iand, 1) := dk_126 (dk_at dksX8_bit_0 4 rfl rfl)
theorem dX8_bit_5 : decode cX8_bit 5 = .ok (.iconst 1, 1) := dk_4 (dk_at dksX8_bit_0 5 rfl rfl)
theorem dX8_bit_6 : decode cX8_bit 6 = .ok (.if_icmp .ne 7, 3) := dk_160 0 7 (dk_at dksX8_bit_0 6 rfl rfl)
theorem dX8_bit_9 : decode cX8_bit 9 = .ok (.iconst 1, 1) := dk_4 (dk_at dksX8_bit_0 9 rfl rfl)
theorem dX8_bit_10 : decode cX8_bit 10 = .ok (.goto 4, 3) := dk_167 0 4 (dk_at dksX8_bit_0 10 rfl rfl)
theorem dX8_bit_13 : decode cX8_bit 13 = .ok (.iconst 0, 1) := dk_3 (dk_at dksX8_bit_0 13 rfl rfl)
theorem dX8_bit_14 : decode cX8_bit 14 = .ok (.ireturn, 1) := dk_172 (dk_at dksX8_bit_0 14 rfl rfl)
abbrev cX8_readWon : ByteArray := prog_20_method_38_code
def yX8_readWon : MethodName := ⟨RX8, "readWon", "()V"⟩
def dkwX8_readWon_5 : List UInt8 := [96, 181, 1, 78, 177]
abbrev dktX8_readWon_5 : List UInt8 := dkwX8_readWon_5 ++ []
def dkwX8_readWon_4 : List UInt8 := [180, 0, 171, 180, 1, 90, 42, 180, 0, 171, 180, 1, 78, 29, 79, 42, 180, 0, 171, 89, 180, 1, 78, 4]
abbrev dktX8_readWon_4 : List UInt8 := dkwX8_readWon_4 ++ dktX8_readWon_5
def dkwX8_readWon_3 : List UInt8 := [180, 1, 78, 27, 79, 42, 180, 0, 171, 180, 1, 87, 42, 180, 0, 171, 180, 1, 78, 28, 79, 42]
abbrev dktX8_readWon_3 : List UInt8 := dkwX8_readWon_3 ++ dktX8_readWon_4
def dkwX8_readWon_2 : List UInt8 := [182, 1, 81, 62, 42, 180, 0, 85, 8, 160, 0, 4, 177, 42, 180, 0, 171, 180, 1, 84, 42, 180, 0, 171]
abbrev dktX8_readWon_2 : List UInt8 := dkwX8_readWon_2 ++ dktX8_readWon_3
def dkwX8_readWon_1 : List UInt8 := [180, 0, 85, 8, 159, 0, 13, 27, 28, 160, 0, 8, 42, 6, 182, 0, 134, 42, 182, 0, 127, 42]
abbrev dktX8_readWon_1 : List UInt8 := dkwX8_readWon_1 ++ dktX8_readWon_2
def dkwX8_readWon_0 : List UInt8 := [42, 42, 180, 0, 171, 180, 1, 78, 16, 12, 182, 1, 10, 42, 182, 1, 65, 60, 42, 182, 0, 201, 61, 42]
abbrev dktX8_readWon_0 : List UInt8 := dkwX8_readWon_0 ++ dktX8_readWon_1
theorem dksX8_readWon_0 : cX8_readWon.data.toList.drop 0 = dktX8_readWon_0 := by decide +kernel
theorem dksX8_readWon_1 : cX8_readWon.data.toList.drop 24 = dktX8_readWon_1 := dk_seg dksX8_readWon_0 24 rfl rfl
theorem dksX8_readWon_2 : cX8_readWon.data.toList.drop 46 = dktX8_readWon_2 := dk_seg dksX8_readWon_1 22 rfl rfl
theorem dksX8_readWon_3 : cX8_readWon.data.toList.drop 70 = dktX8_readWon_3 := dk_seg dksX8_readWon_2 24 rfl rfl
theorem dksX8_readWon_4 : cX8_readWon.data.toList.drop 92 = dktX8_readWon_4 := dk_seg dksX8_readWon_3 22 rfl rfl
theorem dksX8_readWon_5 : cX8_readWon.data.toList.drop 116 = dktX8_readWon_5 := dk_seg dksX8_readWon_4 24 rfl rfl
theorem dX8_readWon_0 : decode cX8_readWon 0 = .ok (.aload_n 0, 1) := dk_42 (dk_at dksX8_readWon_0 0 rfl rfl)
theorem dX8_readWon_1 : decode cX8_readWon 1 = .ok (.aload_n 0, 1) := dk_42 (dk_at dksX8_readWon_0 1 rfl rfl)
theorem dX8_readWon_2 : decode cX8_readWon 2 = .ok (.getfield 171, 3) := dk_180 0 171 (dk_at dksX8_readWon_0 2 rfl rfl)
theorem dX8_readWon_5 : decode cX8_readWon 5 = .ok (.getfield 334, 3) := dk_180 1 78 (dk_at dksX8_readWon_0 5 rfl rfl)
theorem dX8_readWon_8 : decode cX8_readWon 8 = .ok (.bipush 12, 2) := dk_16 12 (dk_at dksX8_readWon_0 8 rfl rfl)
theorem dX8_readWon_10 : decode cX8_readWon 10 = .ok (.invokevirtual 266, 3) := dk_182 1 10 (dk_at dksX8_readWon_0 10 rfl rfl)
theorem dX8_readWon_13 : decode cX8_readWon 13 = .ok (.aload_n 0, 1) := dk_42 (dk_at dksX8_readWon_0 13 rfl rfl)
theorem dX8_readWon_14 : decode cX8_readWon 14 = .ok (.invokevirtual 321, 3) := dk_182 1 65 (dk_at dksX8_readWon_0 14 rfl rfl)
theorem dX8_readWon_17 : decode cX8_readWon 17 = .ok (.istore_n 1, 1) := dk_60 (dk_at dksX8_readWon_0 17 rfl rfl)
theorem dX8_readWon_18 : decode cX8_readWon 18 = .ok (.aload_n 0, 1) := dk_42 (dk_at dksX8_readWon_0 18 rfl rfl)
theorem dX8_readWon_19 : decode cX8_readWon 19 = .ok (.invokevirtual 201, 3) := dk_182 0 201 (dk_at dksX8_readWon_0 19 rfl rfl)
theorem dX8_readWon_22 : decode cX8_readWon 22 = .ok (.istore_n 2, 1) := dk_61 (dk_at dksX8_readWon_0 22 rfl rfl)
theorem dX8_readWon_23 : decode cX8_readWon 23 = .ok (.aload_n 0, 1) := dk_42 (dk_at dksX8_readWon_0 23 rfl rfl)
theorem dX8_readWon_24 : decode cX8_readWon 24 = .ok (.getfield 85, 3) := dk_180 0 85 (dk_at dksX8_readWon_1 0 rfl rfl)
theorem dX8_readWon_27 : decode cX8_readWon 27 = .ok (.iconst 5, 1) := dk_8 (dk_at dksX8_readWon_1 3 rfl rfl)
theorem dX8_readWon_28 : decode cX8_readWon 28 = .ok (.if_icmp .eq 13, 3) := dk_159 0 13 (dk_at dksX8_readWon_1 4 rfl rfl)
theorem dX8_readWon_31 : decode cX8_readWon 31 = .ok (.iload_n 1, 1) := dk_27 (dk_at dksX8_readWon_1 7 rfl rfl)
theorem dX8_readWon_32 : decode cX8_readWon 32 = .ok (.iload_n 2, 1) := dk_28 (dk_at dksX8_readWon_1 8 rfl rfl)
theorem dX8_readWon_33 : decode cX8_readWon 33 = .ok (.if_icmp .ne 8, 3) := dk_160 0 8 (dk_at dksX8_readWon_1 9 rfl rfl)
theorem dX8_readWon_36 : decode cX8_readWon 36 = .ok (.aload_n 0, 1) := dk_42 (dk_at dksX8_readWon_1 12 rfl rfl)
theorem dX8_readWon_37 : decode cX8_readWon 37 = .ok (.iconst 3, 1) := dk_6 (dk_at dksX8_readWon_1 13 rfl rfl)
theorem dX8_readWon_38 : decode cX8_readWon 38 = .ok (.invokevirtual 134, 3) := dk_182 0 134 (dk_at dksX8_readWon_1 14 rfl rfl)
theorem dX8_readWon_41 : decode cX8_readWon 41 = .ok (.aload_n 0, 1) := dk_42 (dk_at dksX8_readWon_1 17 rfl rfl)
theorem dX8_readWon_42 : decode cX8_readWon 42 = .ok (.invokevirtual 127, 3) := dk_182 0 127 (dk_at dksX8_readWon_1 18 rfl rfl)
theorem dX8_readWon_45 : decode cX8_readWon 45 = .ok (.aload_n 0, 1) := dk_42 (dk_at dksX8_readWon_1 21 rfl rfl)
theorem dX8_readWon_46 : decode cX8_readWon 46 = .ok (.invokevirtual 337, 3) := dk_182 1 81 (dk_at dksX8_readWon_2 0 rfl rfl)
theorem dX8_readWon_49 : decode cX8_readWon 49 = .ok (.istore_n 3, 1) := dk_62 (dk_at dksX8_readWon_2 3 rfl rfl)
theorem dX8_readWon_50 : decode cX8_readWon 50 = .ok (.aload_n 0, 1) := dk_42 (dk_at dksX8_readWon_2 4 rfl rfl)
theorem dX8_readWon_51 : decode cX8_readWon 51 = .ok (.getfield 85, 3) := dk_180 0 85 (dk_at dksX8_readWon_2 5 rfl rfl)
theorem dX8_readWon_54 : decode cX8_readWon 54 = .ok (.iconst 5, 1) := dk_8 (dk_at dksX8_readWon_2 8 rfl rfl)
theorem dX8_readWon_55 : decode cX8_readWon 55 = .ok (.if_icmp .ne 4, 3) := dk_160 0 4 (dk_at dksX8_readWon_2 9 rfl rfl)
theorem dX8_readWon_58 : decode cX8_readWon 58 = .ok (.return_, 1) := dk_177 (dk_at dksX8_readWon_2 12 rfl rfl)
theorem dX8_readWon_59 : decode cX8_readWon 59 = .ok (.aload_n 0, 1) := dk_42 (dk_at dksX8_readWon_2 13 rfl rfl)
theorem dX8_readWon_60 : decode cX8_readWon 60 = .ok (.getfield 171, 3) := dk_180 0 171 (dk_at dksX8_readWon_2 14 rfl rfl)
theorem dX8_readWon_63 : decode cX8_readWon 63 = .ok (.getfield 340, 3) := dk_180 1 84 (dk_at dksX8_readWon_2 17 rfl rfl)
theorem dX8_readWon_66 : decode cX8_readWon 66 = .ok (.aload_n 0, 1) := dk_42 (dk_at dksX8_readWon_2 20 rfl rfl)
theorem dX8_readWon_67 : decode cX8_readWon 67 = .ok (.getfield 171, 3) := dk_180 0 171 (dk_at dksX8_readWon_2 21 rfl rfl)
theorem dX8_readWon_70 : decode cX8_readWon 70 = .ok (.getfield 334, 3) := dk_180 1 78 (dk_at dksX8_readWon_3 0 rfl rfl)
theorem dX8_readWon_73 : decode cX8_readWon 73 = .ok (.iload_n 1, 1) := dk_27 (dk_at dksX8_readWon_3 3 rfl rfl)
theorem dX8_readWon_74 : decode cX8_readWon 74 = .ok (.iastore, 1) := dk_79 (dk_at dksX8_readWon_3 4 rfl rfl)
theorem dX8_readWon_75 : decode cX8_readWon 75 = .ok (.aload_n 0, 1) := dk_42 (dk_at dksX8_readWon_3 5 rfl rfl)
theorem dX8_readWon_76 : decode cX8_readWon 76 = .ok (.getfield 171, 3) := dk_180 0 171 (dk_at dksX8_readWon_3 6 rfl rfl)
theorem dX8_readWon_79 : decode cX8_readWon 79 = .ok (.getfield 343, 3) := dk_180 1 87 (dk_at dksX8_readWon_3 9 rfl rfl)
theorem dX8_readWon_82 : decode cX8_readWon 82 = .ok (.aload_n 0, 1) := dk_42 (dk_at dksX8_readWon_3 12 rfl rfl)
theorem dX8_readWon_83 : decode cX8_readWon 83 = .ok (.getfield 171, 3) := dk_180 0 171 (dk_at dksX8_readWon_3 13 rfl rfl)
theorem dX8_readWon_86 : decode cX8_readWon 86 = .ok (.getfield 334, 3) := dk_180 1 78 (dk_at dksX8_readWon_3 16 rfl rfl)
theorem dX8_readWon_89 : decode cX8_readWon 89 = .ok (.iload_n 2, 1) := dk_28 (dk_at dksX8_readWon_3 19 rfl rfl)
theorem dX8_readWon_90 : decode cX8_readWon 90 = .ok (.iastore, 1) := dk_79 (dk_at dksX8_readWon_3 20 rfl rfl)
theorem dX8_readWon_91 : decode cX8_readWon 91 = .ok (.aload_n 0, 1) := dk_42 (dk_at dksX8_readWon_3 21 rfl rfl)
theorem dX8_readWon_92 : decode cX8_readWon 92 = .ok (.getfield 171, 3) := dk_180 0 171 (dk_at dksX8_readWon_4 0 rfl rfl)
theorem dX8_readWon_95 : decode cX8_readWon 95 = .ok (.getfield 346, 3) := dk_180 1 90 (dk_at dksX8_readWon_4 3 rfl rfl)
theorem dX8_readWon_98 : decode cX8_readWon 98 = .ok (.aload_n 0, 1) := dk_42 (dk_at dksX8_readWon_4 6 rfl rfl)
theorem dX8_readWon_99 : decode cX8_readWon 99 = .ok (.getfield 171, 3) := dk_180 0 171 (dk_at dksX8_readWon_4 7 rfl rfl)
theorem dX8_readWon_102 : decode cX8_readWon 102 = .ok (.getfield 334, 3) := dk_180 1 78 (dk_at dksX8_readWon_4 10 rfl rfl)
theorem dX8_readWon_105 : decode cX8_readWon 105 = .ok (.iload_n 3, 1) := dk_29 (dk_at dksX8_readWon_4 13 rfl rfl)
theorem dX8_readWon_106 : decode cX8_readWon 106 = .ok (.iastore, 1) := dk_79 (dk_at dksX8_readWon_4 14 rfl rfl)
theorem dX8_readWon_107 : decode cX8_readWon 107 = .ok (.aload_n 0, 1) := dk_42 (dk_at dksX8_readWon_4 15 rfl rfl)
theorem dX8_readWon_108 : decode cX8_readWon 108 = .ok (.getfield 171, 3) := dk_180 0 171 (dk_at dksX8_readWon_4 16 rfl rfl)
theorem dX8_readWon_111 : decode cX8_readWon 111 = .ok (.dup, 1) := dk_89 (dk_at dksX8_readWon_4 19 rfl rfl)
theorem dX8_readWon_112 : decode cX8_readWon 112 = .ok (.getfield 334, 3) := dk_180 1 78 (dk_at dksX8_readWon_4 20 rfl rfl)
theorem dX8_readWon_115 : decode cX8_readWon 115 = .ok (.iconst 1, 1) := dk_4 (dk_at dksX8_readWon_4 23 rfl rfl)
theorem dX8_readWon_116 : decode cX8_readWon 116 = .ok (.iadd, 1) := dk_96 (dk_at dksX8_readWon_5 0 rfl rfl)
theorem dX8_readWon_117 : decode cX8_readWon 117 = .ok (.putfield 334, 3) := dk_181 1 78 (dk_at dksX8_readWon_5 1 rfl rfl)
theorem dX8_readWon_120 : decode cX8_readWon 120 = .ok (.return_, 1) := dk_177 (dk_at dksX8_readWon_5 4 rfl rfl)
abbrev cX8_readSide : ByteArray := prog_20_method_30_code
def yX8_readSide : MethodName := ⟨RX8, "readSide", "()I"⟩
def dkwX8_readSide_1 : List UInt8 := [182, 0, 130, 154, 0, 8, 42, 4, 182, 0, 134, 42, 182, 0, 127, 27, 172]
abbrev dktX8_readSide_1 : List UInt8 := dkwX8_readSide_1 ++ []
def dkwX8_readSide_0 : List UInt8 := [42, 18, 169, 182, 0, 130, 153, 0, 7, 4, 167, 0, 4, 3, 60, 27, 154, 0, 17, 42, 18, 167]
abbrev dktX8_readSide_0 : List UInt8 := dkwX8_readSide_0 ++ dktX8_readSide_1
theorem dksX8_readSide_0 : cX8_readSide.data.toList.drop 0 = dktX8_readSide_0 := by decide +kernel
theorem dksX8_readSide_1 : cX8_readSide.data.toList.drop 22 = dktX8_readSide_1 := dk_seg dksX8_readSide_0 22 rfl rfl
theorem dX8_readSide_0 : decode cX8_readSide 0 = .ok (.aload_n 0, 1) := dk_42 (dk_at dksX8_readSide_0 0 rfl rfl)
theorem dX8_readSide_1 : decode cX8_readSide 1 = .ok (.ldc 169, 2) := dk_18 169 (dk_at dksX8_readSide_0 1 rfl rfl)
theorem dX8_readSide_3 : decode cX8_readSide 3 = .ok (.invokevirtual 130, 3) := dk_182 0 130 (dk_at dksX8_readSide_0 3 rfl rfl)
theorem dX8_readSide_6 : decode cX8_readSide 6 = .ok (.ifCond .eq 7, 3) := dk_153 0 7 (dk_at dksX8_readSide_0 6 rfl rfl)
theorem dX8_readSide_9 : decode cX8_readSide 9 = .ok (.iconst 1, 1) := dk_4 (dk_at dksX8_readSide_0 9 rfl rfl)
theorem dX8_readSide_10 : decode cX8_readSide 10 = .ok (.goto 4, 3) := dk_167 0 4 (dk_at dksX8_readSide_0 10 rfl rfl)
theorem dX8_readSide_13 : decode cX8_readSide 13 = .ok (.iconst 0, 1) := dk_3 (dk_at dksX8_readSide_0 13 rfl rfl)
theorem dX8_readSide_14 : decode cX8_readSide 14 = .ok (.istore_n 1, 1) := dk_60 (dk_at dksX8_readSide_0 14 rfl rfl)
theorem dX8_readSide_15 : decode cX8_readSide 15 = .ok (.iload_n 1, 1) := dk_27 (dk_at dksX8_readSide_0 15 rfl rfl)
theorem dX8_readSide_16 : decode cX8_readSide 16 = .ok (.ifCond .ne 17, 3) := dk_154 0 17 (dk_at dksX8_readSide_0 16 rfl rfl)
theorem dX8_readSide_19 : decode cX8_readSide 19 = .ok (.aload_n 0, 1) := dk_42 (dk_at dksX8_readSide_0 19 rfl rfl)
theorem dX8_readSide_20 : decode cX8_readSide 20 = .ok (.ldc 167, 2) := dk_18 167 (dk_at dksX8_readSide_0 20 rfl rfl)
theorem dX8_readSide_22 : decode cX8_readSide 22 = .ok (.invokevirtual 130, 3) := dk_182 0 130 (dk_at dksX8_readSide_1 0 rfl rfl)
theorem dX8_readSide_25 : decode cX8_readSide 25 = .ok (.ifCond .ne 8, 3) := dk_154 0 8 (dk_at dksX8_readSide_1 3 rfl rfl)
theorem dX8_readSide_28 : decode cX8_readSide 28 = .ok (.aload_n 0, 1) := dk_42 (dk_at dksX8_readSide_1 6 rfl rfl)
theorem dX8_readSide_29 : decode cX8_readSide 29 = .ok (.iconst 1, 1) := dk_4 (dk_at dksX8_readSide_1 7 rfl rfl)
theorem dX8_readSide_30 : decode cX8_readSide 30 = .ok (.invokevirtual 134, 3) := dk_182 0 134 (dk_at dksX8_readSide_1 8 rfl rfl)
theorem dX8_readSide_33 : decode cX8_readSide 33 = .ok (.aload_n 0, 1) := dk_42 (dk_at dksX8_readSide_1 11 rfl rfl)
theorem dX8_readSide_34 : decode cX8_readSide 34 = .ok (.invokevirtual 127, 3) := dk_182 0 127 (dk_at dksX8_readSide_1 12 rfl rfl)
theorem dX8_readSide_37 : decode cX8_readSide 37 = .ok (.iload_n 1, 1) := dk_27 (dk_at dksX8_readSide_1 15 rfl rfl)
theorem dX8_readSide_38 : decode cX8_readSide 38 = .ok (.ireturn, 1) := dk_172 (dk_at dksX8_readSide_1 16 rfl rfl)
abbrev cX8_readPiece : ByteArray := prog_20_method_39_code
def yX8_readPiece : MethodName := ⟨RX8, "readPiece", "()V"⟩
def dkwX8_readPiece_3 : List UInt8 := [180, 1, 93, 4, 96, 181, 1, 93, 177]
abbrev dktX8_readPiece_3 : List UInt8 := dkwX8_readPiece_3 ++ []
def dkwX8_readPiece_2 : List UInt8 := [79, 42, 180, 0, 171, 180, 1, 99, 42, 180, 0, 171, 180, 1, 93, 28, 79, 42, 180, 0, 171, 89]
abbrev dktX8_readPiece_2 : List UInt8 := dkwX8_readPiece_2 ++ dktX8_readPiece_3
def dkwX8_readPiece_1 : List UInt8 := [42, 180, 0, 85, 8, 160, 0, 4, 177, 42, 180, 0, 171, 180, 1, 96, 42, 180, 0, 171, 180, 1, 93, 27]
abbrev dktX8_readPiece_1 : List UInt8 := dkwX8_readPiece_1 ++ dktX8_readPiece_2
def dkwX8_readPiece_0 : List UInt8 := [42, 42, 180, 0, 171, 180, 1, 93, 7, 182, 1, 10, 42, 182, 1, 81, 60, 42, 3, 8, 182, 0, 150, 61]
abbrev dktX8_readPiece_0 : List UInt8 := dkwX8_readPiece_0 ++ dktX8_readPiece_1
theorem dksX8_readPiece_0 : cX8_readPiece.data.toList.drop 0 = dktX8_readPiece_0 := by decide +kernel
theorem dksX8_readPiece_1 : cX8_readPiece.data.toList.drop 24 = dktX8_readPiece_1 := dk_seg dksX8_readPiece_0 24 rfl rfl
theorem dksX8_readPiece_2 : cX8_readPiece.data.toList.drop 48 = dktX8_readPiece_2 := dk_seg dksX8_readPiece_1 24 rfl rfl
theorem dksX8_readPiece_3 : cX8_readPiece.data.toList.drop 70 = dktX8_readPiece_3 := dk_seg dksX8_readPiece_2 22 rfl rfl
theorem dX8_readPiece_0 : decode cX8_readPiece 0 = .ok (.aload_n 0, 1) := dk_42 (dk_at dksX8_readPiece_0 0 rfl rfl)
theorem dX8_readPiece_1 : decode cX8_readPiece 1 = .ok (.aload_n 0, 1) := dk_42 (dk_at dksX8_readPiece_0 1 rfl rfl)
theorem dX8_readPiece_2 : decode cX8_readPiece 2 = .ok (.getfield 171, 3) := dk_180 0 171 (dk_at dksX8_readPiece_0 2 rfl rfl)
theorem dX8_readPiece_5 : decode cX8_readPiece 5 = .ok (.getfield 349, 3) := dk_180 1 93 (dk_at dksX8_readPiece_0 5 rfl rfl)
theorem dX8_readPiece_8 : decode cX8_readPiece 8 = .ok (.iconst 4, 1) := dk_7 (dk_at dksX8_readPiece_0 8 rfl rfl)
theorem dX8_readPiece_9 : decode cX8_readPiece 9 = .ok (.invokevirtual 266, 3) := dk_182 1 10 (dk_at dksX8_readPiece_0 9 rfl rfl)
theorem dX8_readPiece_12 : decode cX8_readPiece 12 = .ok (.aload_n 0, 1) := dk_42 (dk_at dksX8_readPiece_0 12 rfl rfl)
theorem dX8_readPiece_13 : decode cX8_readPiece 13 = .ok (.invokevirtual 337, 3) := dk_182 1 81 (dk_at dksX8_readPiece_0 13 rfl rfl)
theorem dX8_readPiece_16 : decode cX8_readPiece 16 = .ok (.istore_n 1, 1) := dk_60 (dk_at dksX8_readPiece_0 16 rfl rfl)
theorem dX8_readPiece_17 : decode cX8_readPiece 17 = .ok (.aload_n 0, 1) := dk_42 (dk_at dksX8_readPiece_0 17 rfl rfl)
theorem dX8_readPiece_18 : decode cX8_readPiece 18 = .ok (.iconst 0, 1) := dk_3 (dk_at dksX8_readPiece_0 18 rfl rfl)
theorem dX8_readPiece_19 : decode cX8_readPiece 19 = .ok (.iconst 5, 1) := dk_8 (dk_at dksX8_readPiece_0 19 rfl rfl)
theorem dX8_readPiece_20 : decode cX8_readPiece 20 = .ok (.invokevirtual 150, 3) := dk_182 0 150 (dk_at dksX8_readPiece_0 20 rfl rfl)
theorem dX8_readPiece_23 : decode cX8_readPiece 23 = .ok (.istore_n 2, 1) := dk_61 (dk_at dksX8_readPiece_0 23 rfl rfl)
theorem dX8_readPiece_24 : decode cX8_readPiece 24 = .ok (.aload_n 0, 1) := dk_42 (dk_at dksX8_readPiece_1 0 rfl rfl)
theorem dX8_readPiece_25 : decode cX8_readPiece 25 = .ok (.getfield 85, 3) := dk_180 0 85 (dk_at dksX8_readPiece_1 1 rfl rfl)
theorem dX8_readPiece_28 : decode cX8_readPiece 28 = .ok (.iconst 5, 1) := dk_8 (dk_at dksX8_readPiece_1 4 rfl rfl)
theorem dX8_readPiece_29 : decode cX8_readPiece 29 = .ok (.if_icmp .ne 4, 3) := dk_160 0 4 (dk_at dksX8_readPiece_1 5 rfl rfl)
theorem dX8_readPiece_32 : decode cX8_readPiece 32 = .ok (.return_, 1) := dk_177 (dk_at dksX8_readPiece_1 8 rfl rfl)
theorem dX8_readPiece_33 : decode cX8_readPiece 33 = .ok (.aload_n 0, 1) := dk_42 (dk_at dksX8_readPiece_1 9 rfl rfl)
theorem dX8_readPiece_34 : decode cX8_readPiece 34 = .ok (.getfield 171, 3) := dk_180 0 171 (dk_at dksX8_readPiece_1 10 rfl rfl)
theorem dX8_readPiece_37 : decode cX8_readPiece 37 = .ok (.getfield 352, 3) := dk_180 1 96 (dk_at dksX8_readPiece_1 13 rfl rfl)
theorem dX8_readPiece_40 : decode cX8_readPiece 40 = .ok (.aload_n 0, 1) := dk_42 (dk_at dksX8_readPiece_1 16 rfl rfl)
theorem dX8_readPiece_41 : decode cX8_readPiece 41 = .ok (.getfield 171, 3) := dk_180 0 171 (dk_at dksX8_readPiece_1 17 rfl rfl)
theorem dX8_readPiece_44 : decode cX8_readPiece 44 = .ok (.getfield 349, 3) := dk_180 1 93 (dk_at dksX8_readPiece_1 20 rfl rfl)
theorem dX8_readPiece_47 : decode cX8_readPiece 47 = .ok (.iload_n 1, 1) := dk_27 (dk_at dksX8_readPiece_1 23 rfl rfl)
theorem dX8_readPiece_48 : decode cX8_readPiece 48 = .ok (.iastore, 1) := dk_79 (dk_at dksX8_readPiece_2 0 rfl rfl)
theorem dX8_readPiece_49 : decode cX8_readPiece 49 = .ok (.aload_n 0, 1) := dk_42 (dk_at dksX8_readPiece_2 1 rfl rfl)
theorem dX8_readPiece_50 : decode cX8_readPiece 50 = .ok (.getfield 171, 3) := dk_180 0 171 (dk_at dksX8_readPiece_2 2 rfl rfl)
theorem dX8_readPiece_53 : decode cX8_readPiece 53 = .ok (.getfield 355, 3) := dk_180 1 99 (dk_at dksX8_readPiece_2 5 rfl rfl)
theorem dX8_readPiece_56 : decode cX8_readPiece 56 = .ok (.aload_n 0, 1) := dk_42 (dk_at dksX8_readPiece_2 8 rfl rfl)
theorem dX8_readPiece_57 : decode cX8_readPiece 57 = .ok (.getfield 171, 3) := dk_180 0 171 (dk_at dksX8_readPiece_2 9 rfl rfl)
theorem dX8_readPiece_60 : decode cX8_readPiece 60 = .ok (.getfield 349, 3) := dk_180 1 93 (dk_at dksX8_readPiece_2 12 rfl rfl)
theorem dX8_readPiece_63 : decode cX8_readPiece 63 = .ok (.iload_n 2, 1) := dk_28 (dk_at dksX8_readPiece_2 15 rfl rfl)
theorem dX8_readPiece_64 : decode cX8_readPiece 64 = .ok (.iastore, 1) := dk_79 (dk_at dksX8_readPiece_2 16 rfl rfl)
theorem dX8_readPiece_65 : decode cX8_readPiece 65 = .ok (.aload_n 0, 1) := dk_42 (dk_at dksX8_readPiece_2 17 rfl rfl)
theorem dX8_readPiece_66 : decode cX8_readPiece 66 = .ok (.getfield 171, 3) := dk_180 0 171 (dk_at dksX8_readPiece_2 18 rfl rfl)
theorem dX8_readPiece_69 : decode cX8_readPiece 69 = .ok (.dup, 1) := dk_89 (dk_at dksX8_readPiece_2 21 rfl rfl)
theorem dX8_readPiece_70 : decode cX8_readPiece 70 = .ok (.getfield 349, 3) := dk_180 1 93 (dk_at dksX8_readPiece_3 0 rfl rfl)
theorem dX8_readPiece_73 : decode cX8_readPiece 73 = .ok (.iconst 1, 1) := dk_4 (dk_at dksX8_readPiece_3 3 rfl rfl)
theorem dX8_readPiece_74 : decode cX8_readPiece 74 = .ok (.iadd, 1) := dk_96 (dk_at dksX8_readPiece_3 4 rfl rfl)
theorem dX8_readPiece_75 : decode cX8_readPiece 75 = .ok (.putfield 349, 3) := dk_181 1 93 (dk_at dksX8_readPiece_3 5 rfl rfl)
theorem dX8_readPiece_78 : decode cX8_readPiece 78 = .ok (.return_, 1) := dk_177 (dk_at dksX8_readPiece_3 8 rfl rfl)
abbrev cX8_readCheats : ByteArray := prog_20_method_40_code
def yX8_readCheats : MethodName := ⟨RX8, "readCheats", "()V"⟩
def dkwX8_readCheats_4 : List UInt8 := [180, 0, 171, 180, 1, 104, 27, 29, 79, 42, 180, 0, 171, 180, 1, 107, 27, 21, 4, 79, 177]
abbrev dktX8_readCheats_4 : List UInt8 := dkwX8_readCheats_4 ++ []
def dkwX8_readCheats_3 : List UInt8 := [54, 4, 42, 180, 0, 85, 8, 160, 0, 4, 177, 42, 180, 0, 171, 180, 1, 60, 27, 28, 79, 42]
abbrev dktX8_readCheats_3 : List UInt8 := dkwX8_readCheats_3 ++ dktX8_readCheats_4
def dkwX8_readCheats_2 : List UInt8 := [182, 0, 150, 61, 42, 18, 247, 4, 16, 9, 182, 0, 239, 62, 42, 19, 1, 102, 4, 16, 9, 182, 0, 239]
abbrev dktX8_readCheats_2 : List UInt8 := dkwX8_readCheats_2 ++ dktX8_readCheats_3
def dkwX8_readCheats_1 : List UInt8 := [180, 1, 60, 27, 46, 2, 159, 0, 8, 42, 6, 182, 0, 134, 42, 182, 0, 127, 42, 3, 16, 99]
abbrev dktX8_readCheats_1 : List UInt8 := dkwX8_readCheats_1 ++ dktX8_readCheats_2
def dkwX8_readCheats_0 : List UInt8 := [42, 3, 4, 182, 1, 10, 42, 182, 0, 201, 60, 42, 180, 0, 85, 8, 159, 0, 21, 42, 180, 0, 171]
abbrev dktX8_readCheats_0 : List UInt8 := dkwX8_readCheats_0 ++ dktX8_readCheats_1
theorem dksX8_readCheats_0 : cX8_readCheats.data.toList.drop 0 = dktX8_readCheats_0 := by decide +kernel
theorem dksX8_readCheats_1 : cX8_readCheats.data.toList.drop 23 = dktX8_readCheats_1 := dk_seg dksX8_readCheats_0 23 rfl rfl
theorem dksX8_readCheats_2 : cX8_readCheats.data.toList.drop 45 = dktX8_readCheats_2 := dk_seg dksX8_readCheats_1 22 rfl rfl
theorem dksX8_readCheats_3 : cX8_readCheats.data.toList.drop 69 = dktX8_readCheats_3 := dk_seg dksX8_readCheats_2 24 rfl rfl
theorem dksX8_readCheats_4 : cX8_readCheats.data.toList.drop 91 = dktX8_readCheats_4 := dk_seg dksX8_readCheats_3 22 rfl rfl
theorem dX8_readCheats_0 : decode cX8_readCheats 0 = .ok (.aload_n 0, 1) := dk_42 (dk_at dksX8_readCheats_0 0 rfl rfl)
theorem dX8_readCheats_1 : decode cX8_readCheats 1 = .ok (.iconst 0, 1) := dk_3 (dk_at dksX8_readCheats_0 1 rfl rfl)
theorem dX8_readCheats_2 : decode cX8_readCheats 2 = .ok (.iconst 1, 1) := dk_4 (dk_at dksX8_readCheats_0 2 rfl rfl)
theorem dX8_readCheats_3 : decode cX8_readCheats 3 = .ok (.invokevirtual 266, 3) := dk_182 1 10 (dk_at dksX8_readCheats_0 3 rfl rfl)
theorem dX8_readCheats_6 : decode cX8_readCheats 6 = .ok (.aload_n 0, 1) := dk_42 (dk_at dksX8_readCheats_0 6 rfl rfl)
theorem dX8_readCheats_7 : decode cX8_readCheats 7 = .ok (.invokevirtual 201, 3) := dk_182 0 201 (dk_at dksX8_readCheats_0 7 rfl rfl)
theorem dX8_readCheats_10 : decode cX8_readCheats 10 = .ok (.istore_n 1, 1) := dk_60 (dk_at dksX8_readCheats_0 10 rfl rfl)
theorem dX8_readCheats_11 : decode cX8_readCheats 11 = .ok (.aload_n 0, 1) := dk_42 (dk_at dksX8_readCheats_0 11 rfl rfl)
theorem dX8_readCheats_12 : decode cX8_readCheats 12 = .ok (.getfield 85, 3) := dk_180 0 85 (dk_at dksX8_readCheats_0 12 rfl rfl)
theorem dX8_readCheats_15 : decode cX8_readCheats 15 = .ok (.iconst 5, 1) := dk_8 (dk_at dksX8_readCheats_0 15 rfl rfl)
theorem dX8_readCheats_16 : decode cX8_readCheats 16 = .ok (.if_icmp .eq 21, 3) := dk_159 0 21 (dk_at dksX8_readCheats_0 16 rfl rfl)
theorem dX8_readCheats_19 : decode cX8_readCheats 19 = .ok (.aload_n 0, 1) := dk_42 (dk_at dksX8_readCheats_0 19 rfl rfl)
theorem dX8_readCheats_20 : decode cX8_readCheats 20 = .ok (.getfield 171, 3) := dk_180 0 171 (dk_at dksX8_readCheats_0 20 rfl rfl)
theorem dX8_readCheats_23 : decode cX8_readCheats 23 = .ok (.getfield 316, 3) := dk_180 1 60 (dk_at dksX8_readCheats_1 0 rfl rfl)
theorem dX8_readCheats_26 : decode cX8_readCheats 26 = .ok (.iload_n 1, 1) := dk_27 (dk_at dksX8_readCheats_1 3 rfl rfl)
theorem dX8_readCheats_27 : decode cX8_readCheats 27 = .ok (.iaload, 1) := dk_46 (dk_at dksX8_readCheats_1 4 rfl rfl)
theorem dX8_readCheats_28 : decode cX8_readCheats 28 = .ok (.iconst (-1), 1) := dk_2 (dk_at dksX8_readCheats_1 5 rfl rfl)
theorem dX8_readCheats_29 : decode cX8_readCheats 29 = .ok (.if_icmp .eq 8, 3) := dk_159 0 8 (dk_at dksX8_readCheats_1 6 rfl rfl)
theorem dX8_readCheats_32 : decode cX8_readCheats 32 = .ok (.aload_n 0, 1) := dk_42 (dk_at dksX8_readCheats_1 9 rfl rfl)
theorem dX8_readCheats_33 : decode cX8_readCheats 33 = .ok (.iconst 3, 1) := dk_6 (dk_at dksX8_readCheats_1 10 rfl rfl)
theorem dX8_readCheats_34 : decode cX8_readCheats 34 = .ok (.invokevirtual 134, 3) := dk_182 0 134 (dk_at dksX8_readCheats_1 11 rfl rfl)
theorem dX8_readCheats_37 : decode cX8_readCheats 37 = .ok (.aload_n 0, 1) := dk_42 (dk_at dksX8_readCheats_1 14 rfl rfl)
theorem dX8_readCheats_38 : decode cX8_readCheats 38 = .ok (.invokevirtual 127, 3) := dk_182 0 127 (dk_at dksX8_readCheats_1 15 rfl rfl)
theorem dX8_readCheats_41 : decode cX8_readCheats 41 = .ok (.aload_n 0, 1) := dk_42 (dk_at dksX8_readCheats_1 18 rfl rfl)
theorem dX8_readCheats_42 : decode cX8_readCheats 42 = .ok (.iconst 0, 1) := dk_3 (dk_at dksX8_readCheats_1 19 rfl rfl)
theorem dX8_readCheats_43 : decode cX8_readCheats 43 = .ok (.bipush 99, 2) := dk_16 99 (dk_at dksX8_readCheats_1 20 rfl rfl)
theorem dX8_readCheats_45 : decode cX8_readCheats 45 = .ok (.invokevirtual 150, 3) := dk_182 0 150 (dk_at dksX8_readCheats_2 0 rfl rfl)
theorem dX8_readCheats_48 : decode cX8_readCheats 48 = .ok (.istore_n 2, 1) := dk_61 (dk_at dksX8_readCheats_2 3 rfl rfl)
theorem dX8_readCheats_49 : decode cX8_readCheats 49 = .ok (.aload_n 0, 1) := dk_42 (dk_at dksX8_readCheats_2 4 rfl rfl)
theorem dX8_readCheats_50 : decode cX8_readCheats 50 = .ok (.ldc 247, 2) := dk_18 247 (dk_at dksX8_readCheats_2 5 rfl rfl)
theorem dX8_readCheats_52 : decode cX8_readCheats 52 = .ok (.iconst 1, 1) := dk_4 (dk_at dksX8_readCheats_2 7 rfl rfl)
theorem dX8_readCheats_53 : decode cX8_readCheats 53 = .ok (.bipush 9, 2) := dk_16 9 (dk_at dksX8_readCheats_2 8 rfl rfl)
theorem dX8_readCheats_55 : decode cX8_readCheats 55 = .ok (.invokevirtual 239, 3) := dk_182 0 239 (dk_at dksX8_readCheats_2 10 rfl rfl)
theorem dX8_readCheats_58 : decode cX8_readCheats 58 = .ok (.istore_n 3, 1) := dk_62 (dk_at dksX8_readCheats_2 13 rfl rfl)
theorem dX8_readCheats_59 : decode cX8_readCheats 59 = .ok (.aload_n 0, 1) := dk_42 (dk_at dksX8_readCheats_2 14 rfl rfl)
theorem dX8_readCheats_60 : decode cX8_readCheats 60 = .ok (.ldc_w 358, 3) := dk_19 1 102 (dk_at dksX8_readCheats_2 15 rfl rfl)
theorem dX8_readCheats_63 : decode cX8_readCheats 63 = .ok (.iconst 1, 1) := dk_4 (dk_at dksX8_readCheats_2 18 rfl rfl)
theorem dX8_readCheats_64 : decode cX8_readCheats 64 = .ok (.bipush 9, 2) := dk_16 9 (dk_at dksX8_readCheats_2 19 rfl rfl)
theorem dX8_readCheats_66 : decode cX8_readCheats 66 = .ok (.invokevirtual 239, 3) := dk_182 0 239 (dk_at dksX8_readCheats_2 21 rfl rfl)
theorem dX8_readCheats_69 : decode cX8_readCheats 69 = .ok (.istore 4, 2) := dk_54 4 (dk_at dksX8_readCheats_3 0 rfl rfl)
theorem dX8_readCheats_71 : decode cX8_readCheats 71 = .ok (.aload_n 0, 1) := dk_42 (dk_at dksX8_readCheats_3 2 rfl rfl)
theorem dX8_readCheats_72 : decode cX8_readCheats 72 = .ok (.getfield 85, 3) := dk_180 0 85 (dk_at dksX8_readCheats_3 3 rfl rfl)
theorem dX8_readCheats_75 : decode cX8_readCheats 75 = .ok (.iconst 5, 1) := dk_8 (dk_at dksX8_readCheats_3 6 rfl rfl)
theorem dX8_readCheats_76 : decode cX8_readCheats 76 = .ok (.if_icmp .ne 4, 3) := dk_160 0 4 (dk_at dksX8_readCheats_3 7 rfl rfl)
theorem dX8_readCheats_79 : decode cX8_readCheats 79 = .ok (.return_, 1) := dk_177 (dk_at dksX8_readCheats_3 10 rfl rfl)
theorem dX8_readCheats_80 : decode cX8_readCheats 80 = .ok (.aload_n 0, 1) := dk_42 (dk_at dksX8_readCheats_3 11 rfl rfl)
theorem dX8_readCheats_81 : decode cX8_readCheats 81 = .ok (.getfield 171, 3) := dk_180 0 171 (dk_at dksX8_readCheats_3 12 rfl rfl)
theorem dX8_readCheats_84 : decode cX8_readCheats 84 = .ok (.getfield 316, 3) := dk_180 1 60 (dk_at dksX8_readCheats_3 15 rfl rfl)
theorem dX8_readCheats_87 : decode cX8_readCheats 87 = .ok (.iload_n 1, 1) := dk_27 (dk_at dksX8_readCheats_3 18 rfl rfl)
theorem dX8_readCheats_88 : decode cX8_readCheats 88 = .ok (.iload_n 2, 1) := dk_28 (dk_at dksX8_readCheats_3 19 rfl rfl)
theorem dX8_readCheats_89 : decode cX8_readCheats 89 = .ok (.iastore, 1) := dk_79 (dk_at dksX8_readCheats_3 20 rfl rfl)
theorem dX8_readCheats_90 : decode cX8_readCheats 90 = .ok (.aload_n 0, 1) := dk_42 (dk_at dksX8_readCheats_3 21 rfl rfl)
theorem dX8_readCheats_91 : decode cX8_readCheats 91 = .ok (.getfield 171, 3) := dk_180 0 171 (dk_at dksX8_readCheats_4 0 rfl rfl)
theorem dX8_readCheats_94 : decode cX8_readCheats 94 = .ok (.getfield 360, 3) := dk_180 1 104 (dk_at dksX8_readCheats_4 3 rfl rfl)
theorem dX8_readCheats_97 : decode cX8_readCheats 97 = .ok (.iload_n 1, 1) := dk_27 (dk_at dksX8_readCheats_4 6 rfl rfl)
theorem dX8_readCheats_98 : decode cX8_readCheats 98 = .ok (.iload_n 3, 1) := dk_29 (dk_at dksX8_readCheats_4 7 rfl rfl)
theorem dX8_readCheats_99 : decode cX8_readCheats 99 = .ok (.iastore, 1) := dk_79 (dk_at dksX8_readCheats_4 8 rfl rfl)
theorem dX8_readCheats_100 : decode cX8_readCheats 100 = .ok (.aload_n 0, 1) := dk_42 (dk_at dksX8_readCheats_4 9 rfl rfl)
theorem dX8_readCheats_101 : decode cX8_readCheats 101 = .ok (.getfield 171, 3) := dk_180 0 171 (dk_at dksX8_readCheats_4 10 rfl rfl)
theorem dX8_readCheats_104 : decode cX8_readCheats 104 = .ok (.getfield 363, 3) := dk_180 1 107 (dk_at dksX8_readCheats_4 13 rfl rfl)
theorem dX8_readCheats_107 : decode cX8_readCheats 107 = .ok (.iload_n 1, 1) := dk_27 (dk_at dksX8_readCheats_4 16 rfl rfl)
theorem dX8_readCheats_108 : decode cX8_readCheats 108 = .ok (.iload 4, 2) := dk_21 4 (dk_at dksX8_readCheats_4 17 rfl rfl)
theorem dX8_readCheats_110 : decode cX8_readCheats 110 = .ok (.iastore, 1) := dk_79 (dk_at dksX8_readCheats_4 19 rfl rfl)
theorem dX8_readCheats_111 : decode cX8_readCheats 111 = .ok (.return_, 1) := dk_177 (dk_at dksX8_readCheats_4 20 rfl rfl)
