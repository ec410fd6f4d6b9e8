/-! LongerHalf$Reader -/
set_option maxRecDepth 100000
def RX2 : String := "LongerHalf$Reader"
def TX2 : u_T := fun k => match k with
  | 0 => ("LongerHalf$Reader", "wrong", "LLongerHalf$Refused;", true)
  | 1 => ("LongerHalf$Reader", "text", "[B", true)
  | 2 => ("LongerHalf$Reader", "letters", "[C", true)
  | 3 => ("LongerHalf$Reader", "size", "I", false)
  | 4 => ("LongerHalf$Reader", "end", "I", false)
  | 5 => ("LongerHalf$Reader", "token", "I", false)
  | 6 => ("LongerHalf$Reader", "at", "I", false)
  | 7 => ("LongerHalf$Reader", "whole", "I", false)
  | 8 => ("LongerHalf$Reader", "word", "Ljava/lang/String;", false)
  | _ => ("LongerHalf$Reader", "kitchen", "LLongerHalf$Kitchen;", false)
def tyX2 : Nat → FieldType := fun k => match k with
  | 0 => .object "LongerHalf$Refused"
  | 1 => .array .byte
  | 2 => .array .char
  | 3 => .int
  | 4 => .int
  | 5 => .int
  | 6 => .int
  | 7 => .int
  | 8 => .object "java/lang/String"
  | _ => .object "LongerHalf$Kitchen"
abbrev wsX20 : List Cond := u_ws RX2 TX2 10
theorem nmX2 : ∀ a, a < 10 → ∀ b, b < 10 → a ≠ b → (TX2 a).2.1 ≠ (TX2 b).2.1 := by decide +kernel
theorem tyX2_ok : ∀ k, k < 10 → parseFieldDescriptor (TX2 k).2.2.1 = some (tyX2 k) := by decide +kernel
abbrev cX2_init : ByteArray := prog_16_method_1_code
def yX2_init : MethodName := ⟨RX2, "<init>", "([B)V"⟩
def dkwX2_init_1 : List UInt8 := [43, 181, 0, 22, 177]
abbrev dktX2_init_1 : List UInt8 := dkwX2_init_1 ++ []
def dkwX2_init_0 : List UInt8 := [42, 183, 0, 3, 42, 187, 0, 9, 89, 183, 0, 11, 181, 0, 12, 42, 16, 8, 188, 5, 181, 0, 18, 42]
abbrev dktX2_init_0 : List UInt8 := dkwX2_init_0 ++ dktX2_init_1
theorem dksX2_init_0 : cX2_init.data.toList.drop 0 = dktX2_init_0 := by decide +kernel
theorem dksX2_init_1 : cX2_init.data.toList.drop 24 = dktX2_init_1 := dk_seg dksX2_init_0 24 rfl rfl
theorem dX2_init_0 : decode cX2_init 0 = .ok (.aload_n 0, 1) := dk_42 (dk_at dksX2_init_0 0 rfl rfl)
theorem dX2_init_1 : decode cX2_init 1 = .ok (.invokespecial 3, 3) := dk_183 0 3 (dk_at dksX2_init_0 1 rfl rfl)
theorem dX2_init_4 : decode cX2_init 4 = .ok (.aload_n 0, 1) := dk_42 (dk_at dksX2_init_0 4 rfl rfl)
theorem dX2_init_5 : decode cX2_init 5 = .ok (.new 9, 3) := dk_187 0 9 (dk_at dksX2_init_0 5 rfl rfl)
theorem dX2_init_8 : decode cX2_init 8 = .ok (.dup, 1) := dk_89 (dk_at dksX2_init_0 8 rfl rfl)
theorem dX2_init_9 : decode cX2_init 9 = .ok (.invokespecial 11, 3) := dk_183 0 11 (dk_at dksX2_init_0 9 rfl rfl)
theorem dX2_init_12 : decode cX2_init 12 = .ok (.putfield 12, 3) := dk_181 0 12 (dk_at dksX2_init_0 12 rfl rfl)
theorem dX2_init_15 : decode cX2_init 15 = .ok (.aload_n 0, 1) := dk_42 (dk_at dksX2_init_0 15 rfl rfl)
theorem dX2_init_16 : decode cX2_init 16 = .ok (.bipush 8, 2) := dk_16 8 (dk_at dksX2_init_0 16 rfl rfl)
theorem dX2_init_18 : decode cX2_init 18 = .ok (.newarray .char, 2) := dk_188_5 (dk_at dksX2_init_0 18 rfl rfl)
theorem dX2_init_20 : decode cX2_init 20 = .ok (.putfield 18, 3) := dk_181 0 18 (dk_at dksX2_init_0 20 rfl rfl)
theorem dX2_init_23 : decode cX2_init 23 = .ok (.aload_n 0, 1) := dk_42 (dk_at dksX2_init_0 23 rfl rfl)
theorem dX2_init_24 : decode cX2_init 24 = .ok (.aload_n 1, 1) := dk_43 (dk_at dksX2_init_1 0 rfl rfl)
theorem dX2_init_25 : decode cX2_init 25 = .ok (.putfield 22, 3) := dk_181 0 22 (dk_at dksX2_init_1 1 rfl rfl)
theorem dX2_init_28 : decode cX2_init 28 = .ok (.return_, 1) := dk_177 (dk_at dksX2_init_1 4 rfl rfl)
abbrev cX2_read : ByteArray := prog_16_method_17_code
def yX2_read : MethodName := ⟨RX2, "read", "(I)LLongerHalf$Kitchen;"⟩
def dkwX2_read_4 : List UInt8 := [42, 16, 6, 182, 0, 82, 191, 42, 180, 0, 111, 176]
abbrev dktX2_read_4 : List UInt8 := dkwX2_read_4 ++ []
def dkwX2_read_3 : List UInt8 := [153, 0, 24, 42, 180, 0, 111, 180, 0, 141, 153, 0, 14, 42, 180, 0, 111, 180, 0, 144, 5, 162, 0, 10]
abbrev dktX2_read_3 : List UInt8 := dkwX2_read_3 ++ dktX2_read_4
def dkwX2_read_2 : List UInt8 := [167, 255, 239, 42, 180, 0, 47, 153, 0, 9, 42, 4, 182, 0, 82, 191, 42, 180, 0, 111, 180, 0, 134]
abbrev dktX2_read_2 : List UInt8 := dkwX2_read_2 ++ dktX2_read_3
def dkwX2_read_1 : List UInt8 := [182, 0, 75, 42, 182, 0, 138, 42, 180, 0, 47, 16, 59, 160, 0, 14, 42, 182, 0, 75, 42, 182, 0, 138]
abbrev dktX2_read_1 : List UInt8 := dkwX2_read_1 ++ dktX2_read_2
def dkwX2_read_0 : List UInt8 := [42, 27, 181, 0, 33, 42, 3, 181, 0, 40, 42, 187, 0, 115, 89, 183, 0, 137, 181, 0, 111, 42]
abbrev dktX2_read_0 : List UInt8 := dkwX2_read_0 ++ dktX2_read_1
theorem dksX2_read_0 : cX2_read.data.toList.drop 0 = dktX2_read_0 := by decide +kernel
theorem dksX2_read_1 : cX2_read.data.toList.drop 22 = dktX2_read_1 := dk_seg dksX2_read_0 22 rfl rfl
theorem dksX2_read_2 : cX2_read.data.toList.drop 46 = dktX2_read_2 := dk_seg dksX2_read_1 24 rfl rfl
theorem dksX2_read_3 : cX2_read.data.toList.drop 69 = dktX2_read_3 := dk_seg dksX2_read_2 23 rfl rfl
theorem dksX2_read_4 : cX2_read.data.toList.drop 93 = dktX2_read_4 := dk_seg dksX2_read_3 24 rfl rfl
theorem dX2_read_0 : decode cX2_read 0 = .ok (.aload_n 0, 1) := dk_42 (dk_at dksX2_read_0 0 rfl rfl)
theorem dX2_read_1 : decode cX2_read 1 = .ok (.iload_n 1, 1) := dk_27 (dk_at dksX2_read_0 1 rfl rfl)
theorem dX2_read_2 : decode cX2_read 2 = .ok (.putfield 33, 3) := dk_181 0 33 (dk_at dksX2_read_0 2 rfl rfl)
theorem dX2_read_5 : decode cX2_read 5 = .ok (.aload_n 0, 1) := dk_42 (dk_at dksX2_read_0 5 rfl rfl)
theorem dX2_read_6 : decode cX2_read 6 = .ok (.iconst 0, 1) := dk_3 (dk_at dksX2_read_0 6 rfl rfl)
theorem dX2_read_7 : decode cX2_read 7 = .ok (.putfield 40, 3) := dk_181 0 40 (dk_at dksX2_read_0 7 rfl rfl)
theorem dX2_read_10 : decode cX2_read 10 = .ok (.aload_n 0, 1) := dk_42 (dk_at dksX2_read_0 10 rfl rfl)
theorem dX2_read_11 : decode cX2_read 11 = .ok (.new 115, 3) := dk_187 0 115 (dk_at dksX2_read_0 11 rfl rfl)
theorem dX2_read_14 : decode cX2_read 14 = .ok (.dup, 1) := dk_89 (dk_at dksX2_read_0 14 rfl rfl)
theorem dX2_read_15 : decode cX2_read 15 = .ok (.invokespecial 137, 3) := dk_183 0 137 (dk_at dksX2_read_0 15 rfl rfl)
theorem dX2_read_18 : decode cX2_read 18 = .ok (.putfield 111, 3) := dk_181 0 111 (dk_at dksX2_read_0 18 rfl rfl)
theorem dX2_read_21 : decode cX2_read 21 = .ok (.aload_n 0, 1) := dk_42 (dk_at dksX2_read_0 21 rfl rfl)
theorem dX2_read_22 : decode cX2_read 22 = .ok (.invokevirtual 75, 3) := dk_182 0 75 (dk_at dksX2_read_1 0 rfl rfl)
theorem dX2_read_25 : decode cX2_read 25 = .ok (.aload_n 0, 1) := dk_42 (dk_at dksX2_read_1 3 rfl rfl)
theorem dX2_read_26 : decode cX2_read 26 = .ok (.invokevirtual 138, 3) := dk_182 0 138 (dk_at dksX2_read_1 4 rfl rfl)
theorem dX2_read_29 : decode cX2_read 29 = .ok (.aload_n 0, 1) := dk_42 (dk_at dksX2_read_1 7 rfl rfl)
theorem dX2_read_30 : decode cX2_read 30 = .ok (.getfield 47, 3) := dk_180 0 47 (dk_at dksX2_read_1 8 rfl rfl)
theorem dX2_read_33 : decode cX2_read 33 = .ok (.bipush 59, 2) := dk_16 59 (dk_at dksX2_read_1 11 rfl rfl)
theorem dX2_read_35 : decode cX2_read 35 = .ok (.if_icmp .ne 14, 3) := dk_160 0 14 (dk_at dksX2_read_1 13 rfl rfl)
theorem dX2_read_38 : decode cX2_read 38 = .ok (.aload_n 0, 1) := dk_42 (dk_at dksX2_read_1 16 rfl rfl)
theorem dX2_read_39 : decode cX2_read 39 = .ok (.invokevirtual 75, 3) := dk_182 0 75 (dk_at dksX2_read_1 17 rfl rfl)
theorem dX2_read_42 : decode cX2_read 42 = .ok (.aload_n 0, 1) := dk_42 (dk_at dksX2_read_1 20 rfl rfl)
theorem dX2_read_43 : decode cX2_read 43 = .ok (.invokevirtual 138, 3) := dk_182 0 138 (dk_at dksX2_read_1 21 rfl rfl)
theorem dX2_read_46 : decode cX2_read 46 = .ok (.goto (-17), 3) := dk_167 255 239 (dk_at dksX2_read_2 0 rfl rfl)
theorem dX2_read_49 : decode cX2_read 49 = .ok (.aload_n 0, 1) := dk_42 (dk_at dksX2_read_2 3 rfl rfl)
theorem dX2_read_50 : decode cX2_read 50 = .ok (.getfield 47, 3) := dk_180 0 47 (dk_at dksX2_read_2 4 rfl rfl)
theorem dX2_read_53 : decode cX2_read 53 = .ok (.ifCond .eq 9, 3) := dk_153 0 9 (dk_at dksX2_read_2 7 rfl rfl)
theorem dX2_read_56 : decode cX2_read 56 = .ok (.aload_n 0, 1) := dk_42 (dk_at dksX2_read_2 10 rfl rfl)
theorem dX2_read_57 : decode cX2_read 57 = .ok (.iconst 1, 1) := dk_4 (dk_at dksX2_read_2 11 rfl rfl)
theorem dX2_read_58 : decode cX2_read 58 = .ok (.invokevirtual 82, 3) := dk_182 0 82 (dk_at dksX2_read_2 12 rfl rfl)
theorem dX2_read_61 : decode cX2_read 61 = .ok (.athrow, 1) := dk_191 (dk_at dksX2_read_2 15 rfl rfl)
theorem dX2_read_62 : decode cX2_read 62 = .ok (.aload_n 0, 1) := dk_42 (dk_at dksX2_read_2 16 rfl rfl)
theorem dX2_read_63 : decode cX2_read 63 = .ok (.getfield 111, 3) := dk_180 0 111 (dk_at dksX2_read_2 17 rfl rfl)
theorem dX2_read_66 : decode cX2_read 66 = .ok (.getfield 134, 3) := dk_180 0 134 (dk_at dksX2_read_2 20 rfl rfl)
theorem dX2_read_69 : decode cX2_read 69 = .ok (.ifCond .eq 24, 3) := dk_153 0 24 (dk_at dksX2_read_3 0 rfl rfl)
theorem dX2_read_72 : decode cX2_read 72 = .ok (.aload_n 0, 1) := dk_42 (dk_at dksX2_read_3 3 rfl rfl)
theorem dX2_read_73 : decode cX2_read 73 = .ok (.getfield 111, 3) := dk_180 0 111 (dk_at dksX2_read_3 4 rfl rfl)
theorem dX2_read_76 : decode cX2_read 76 = .ok (.getfield 141, 3) := dk_180 0 141 (dk_at dksX2_read_3 7 rfl rfl)
theorem dX2_read_79 : decode cX2_read 79 = .ok (.ifCond .eq 14, 3) := dk_153 0 14 (dk_at dksX2_read_3 10 rfl rfl)
theorem dX2_read_82 : decode cX2_read 82 = .ok (.aload_n 0, 1) := dk_42 (dk_at dksX2_read_3 13 rfl rfl)
theorem dX2_read_83 : decode cX2_read 83 = .ok (.getfield 111, 3) := dk_180 0 111 (dk_at dksX2_read_3 14 rfl rfl)
theorem dX2_read_86 : decode cX2_read 86 = .ok (.getfield 144, 3) := dk_180 0 144 (dk_at dksX2_read_3 17 rfl rfl)
theorem dX2_read_89 : decode cX2_read 89 = .ok (.iconst 2, 1) := dk_5 (dk_at dksX2_read_3 20 rfl rfl)
theorem dX2_read_90 : decode cX2_read 90 = .ok (.if_icmp .ge 10, 3) := dk_162 0 10 (dk_at dksX2_read_3 21 rfl rfl)
theorem dX2_read_93 : decode cX2_read 93 = .ok (.aload_n 0, 1) := dk_42 (dk_at dksX2_read_4 0 rfl rfl)
theorem dX2_read_94 : decode cX2_read 94 = .ok (.bipush 6, 2) := dk_16 6 (dk_at dksX2_read_4 1 rfl rfl)
theorem dX2_read_96 : decode cX2_read 96 = .ok (.invokevirtual 82, 3) := dk_182 0 82 (dk_at dksX2_read_4 3 rfl rfl)
theorem dX2_read_99 : decode cX2_read 99 = .ok (.athrow, 1) := dk_191 (dk_at dksX2_read_4 6 rfl rfl)
theorem dX2_read_100 : decode cX2_read 100 = .ok (.aload_n 0, 1) := dk_42 (dk_at dksX2_read_4 7 rfl rfl)
theorem dX2_read_101 : decode cX2_read 101 = .ok (.getfield 111, 3) := dk_180 0 111 (dk_at dksX2_read_4 8 rfl rfl)
theorem dX2_read_104 : decode cX2_read 104 = .ok (.areturn, 1) := dk_176 (dk_at dksX2_read_4 11 rfl rfl)
abbrev cX2_next : ByteArray := prog_16_method_6_code
def yX2_next : MethodName := ⟨RX2, "next", "()V"⟩
def dkwX2_next_13 : List UInt8 := [181, 0, 47, 177]
abbrev dktX2_next_13 : List UInt8 := dkwX2_next_13 ++ []
def dkwX2_next_12 : List UInt8 := [181, 0, 47, 167, 0, 24, 42, 28, 16, 59, 159, 0, 9, 28, 16, 44, 160, 0, 7, 28, 167, 0, 4, 4]
abbrev dktX2_next_12 : List UInt8 := dkwX2_next_12 ++ dktX2_next_13
def dkwX2_next_11 : List UInt8 := [181, 0, 40, 167, 255, 199, 42, 42, 180, 0, 40, 27, 100, 5, 164, 0, 7, 4, 167, 0, 4, 6]
abbrev dktX2_next_11 : List UInt8 := dkwX2_next_11 ++ dktX2_next_12
def dkwX2_next_10 : List UInt8 := [42, 42, 180, 0, 40, 182, 0, 43, 96, 16, 48, 100, 181, 0, 68, 42, 89, 180, 0, 40, 4, 96]
abbrev dktX2_next_10 : List UInt8 := dkwX2_next_10 ++ dktX2_next_11
def dkwX2_next_9 : List UInt8 := [184, 0, 65, 153, 0, 49, 42, 180, 0, 40, 27, 100, 5, 162, 0, 26, 42, 16, 10, 42, 180, 0, 68, 104]
abbrev dktX2_next_9 : List UInt8 := dkwX2_next_9 ++ dktX2_next_10
def dkwX2_next_8 : List UInt8 := [184, 0, 65, 153, 0, 95, 42, 3, 181, 0, 68, 42, 27, 181, 0, 40, 42, 42, 180, 0, 40, 182, 0, 43]
abbrev dktX2_next_8 : List UInt8 := dkwX2_next_8 ++ dktX2_next_9
def dkwX2_next_7 : List UInt8 := [3, 42, 180, 0, 40, 27, 100, 183, 0, 56, 167, 0, 5, 18, 59, 181, 0, 61, 167, 0, 123, 28]
abbrev dktX2_next_7 : List UInt8 := dkwX2_next_7 ++ dktX2_next_8
def dkwX2_next_6 : List UInt8 := [167, 0, 4, 5, 181, 0, 47, 42, 42, 180, 0, 47, 5, 160, 0, 24, 187, 0, 54, 89, 42, 180, 0, 18]
abbrev dktX2_next_6 : List UInt8 := dkwX2_next_6 ++ dktX2_next_7
def dkwX2_next_5 : List UInt8 := [180, 0, 40, 4, 96, 181, 0, 40, 167, 255, 201, 42, 42, 180, 0, 40, 27, 100, 16, 8, 164, 0, 7, 4]
abbrev dktX2_next_5 : List UInt8 := dkwX2_next_5 ++ dktX2_next_6
def dkwX2_next_4 : List UInt8 := [42, 180, 0, 18, 42, 180, 0, 40, 27, 100, 42, 42, 180, 0, 40, 182, 0, 43, 146, 85, 42, 89]
abbrev dktX2_next_4 : List UInt8 := dkwX2_next_4 ++ dktX2_next_5
def dkwX2_next_3 : List UInt8 := [42, 180, 0, 40, 182, 0, 43, 184, 0, 50, 153, 0, 47, 42, 180, 0, 40, 27, 100, 16, 8, 162, 0, 23]
abbrev dktX2_next_3 : List UInt8 := dkwX2_next_3 ++ dktX2_next_4
def dkwX2_next_2 : List UInt8 := [181, 0, 47, 42, 27, 181, 0, 40, 167, 0, 251, 28, 184, 0, 50, 153, 0, 124, 42, 27, 181, 0, 40, 42]
abbrev dktX2_next_2 : List UInt8 := dkwX2_next_2 ++ dktX2_next_3
def dkwX2_next_1 : List UInt8 := [181, 0, 26, 42, 27, 4, 96, 181, 0, 40, 42, 27, 182, 0, 43, 61, 28, 2, 160, 0, 16, 42, 3]
abbrev dktX2_next_1 : List UInt8 := dkwX2_next_1 ++ dktX2_next_2
def dkwX2_next_0 : List UInt8 := [42, 180, 0, 40, 60, 42, 27, 182, 0, 43, 16, 32, 160, 0, 9, 132, 1, 1, 167, 255, 243, 42, 27]
abbrev dktX2_next_0 : List UInt8 := dkwX2_next_0 ++ dktX2_next_1
theorem dksX2_next_0 : cX2_next.data.toList.drop 0 = dktX2_next_0 := by decide +kernel
theorem dksX2_next_1 : cX2_next.data.toList.drop 23 = dktX2_next_1 := dk_seg dksX2_next_0 23 rfl rfl
theorem dksX2_next_2 : cX2_next.data.toList.drop 46 = dktX2_next_2 := dk_seg dksX2_next_1 23 rfl rfl
theorem dksX2_next_3 : cX2_next.data.toList.drop 70 = dktX2_next_3 := dk_seg dksX2_next_2 24 rfl rfl
theorem dksX2_next_4 : cX2_next.data.toList.drop 94 = dktX2_next_4 := dk_seg dksX2_next_3 24 rfl rfl
theorem dksX2_next_5 : cX2_next.data.toList.drop 116 = dktX2_next_5 := dk_seg dksX2_next_4 22 rfl rfl
theorem dksX2_next_6 : cX2_next.data.toList.drop 140 = dktX2_next_6 := dk_seg dksX2_next_5 24 rfl rfl
theorem dksX2_next_7 : cX2_next.data.toList.drop 164 = dktX2_next_7 := dk_seg dksX2_next_6 24 rfl rfl
theorem dksX2_next_8 : cX2_next.data.toList.drop 186 = dktX2_next_8 := dk_seg dksX2_next_7 22 rfl rfl
theorem dksX2_next_9 : cX2_next.data.toList.drop 210 = dktX2_next_9 := dk_seg dksX2_next_8 24 rfl rfl
theorem dksX2_next_10 : cX2_next.data.toList.drop 234 = dktX2_next_10 := dk_seg dksX2_next_9 24 rfl rfl
theorem dksX2_next_11 : cX2_next.data.toList.drop 256 = dktX2_next_11 := dk_seg dksX2_next_10 22 rfl rfl
theorem dksX2_next_12 : cX2_next.data.toList.drop 278 = dktX2_next_12 := dk_seg dksX2_next_11 22 rfl rfl
theorem dksX2_next_13 : cX2_next.data.toList.drop 302 = dktX2_next_13 := dk_seg dksX2_next_12 24 rfl rfl
theorem dX2_next_0 : decode cX2_next 0 = .ok (.aload_n 0, 1) := dk_42 (dk_at dksX2_next_0 0 rfl rfl)
theorem dX2_next_1 : decode cX2_next 1 = .ok (.getfield 40, 3) := dk_180 0 40 (dk_at dksX2_next_0 1 rfl rfl)
theorem dX2_next_4 : decode cX2_next 4 = .ok (.istore_n 1, 1) := dk_60 (dk_at dksX2_next_0 4 rfl rfl)
theorem dX2_next_5 : decode cX2_next 5 = .ok (.aload_n 0, 1) := dk_42 (dk_at dksX2_next_0 5 rfl rfl)
theorem dX2_next_6 : decode cX2_next 6 = .ok (.iload_n 1, 1) := dk_27 (dk_at dksX2_next_0 6 rfl rfl)
theorem dX2_next_7 : decode cX2_next 7 = .ok (.invokevirtual 43, 3) := dk_182 0 43 (dk_at dksX2_next_0 7 rfl rfl)
theorem dX2_next_10 : decode cX2_next 10 = .ok (.bipush 32, 2) := dk_16 32 (dk_at dksX2_next_0 10 rfl rfl)
theorem dX2_next_12 : decode cX2_next 12 = .ok (.if_icmp .ne 9, 3) := dk_160 0 9 (dk_at dksX2_next_0 12 rfl rfl)
theorem dX2_next_15 : decode cX2_next 15 = .ok (.iinc 1 1, 3) := dk_132 1 1 (dk_at dksX2_next_0 15 rfl rfl)
theorem dX2_next_18 : decode cX2_next 18 = .ok (.goto (-13), 3) := dk_167 255 243 (dk_at dksX2_next_0 18 rfl rfl)
theorem dX2_next_21 : decode cX2_next 21 = .ok (.aload_n 0, 1) := dk_42 (dk_at dksX2_next_0 21 rfl rfl)
theorem dX2_next_22 : decode cX2_next 22 = .ok (.iload_n 1, 1) := dk_27 (dk_at dksX2_next_0 22 rfl rfl)
theorem dX2_next_23 : decode cX2_next 23 = .ok (.putfield 26, 3) := dk_181 0 26 (dk_at dksX2_next_1 0 rfl rfl)
theorem dX2_next_26 : decode cX2_next 26 = .ok (.aload_n 0, 1) := dk_42 (dk_at dksX2_next_1 3 rfl rfl)
theorem dX2_next_27 : decode cX2_next 27 = .ok (.iload_n 1, 1) := dk_27 (dk_at dksX2_next_1 4 rfl rfl)
theorem dX2_next_28 : decode cX2_next 28 = .ok (.iconst 1, 1) := dk_4 (dk_at dksX2_next_1 5 rfl rfl)
theorem dX2_next_29 : decode cX2_next 29 = .ok (.iadd, 1) := dk_96 (dk_at dksX2_next_1 6 rfl rfl)
theorem dX2_next_30 : decode cX2_next 30 = .ok (.putfield 40, 3) := dk_181 0 40 (dk_at dksX2_next_1 7 rfl rfl)
theorem dX2_next_33 : decode cX2_next 33 = .ok (.aload_n 0, 1) := dk_42 (dk_at dksX2_next_1 10 rfl rfl)
theorem dX2_next_34 : decode cX2_next 34 = .ok (.iload_n 1, 1) := dk_27 (dk_at dksX2_next_1 11 rfl rfl)
theorem dX2_next_35 : decode cX2_next 35 = .ok (.invokevirtual 43, 3) := dk_182 0 43 (dk_at dksX2_next_1 12 rfl rfl)
theorem dX2_next_38 : decode cX2_next 38 = .ok (.istore_n 2, 1) := dk_61 (dk_at dksX2_next_1 15 rfl rfl)
theorem dX2_next_39 : decode cX2_next 39 = .ok (.iload_n 2, 1) := dk_28 (dk_at dksX2_next_1 16 rfl rfl)
theorem dX2_next_40 : decode cX2_next 40 = .ok (.iconst (-1), 1) := dk_2 (dk_at dksX2_next_1 17 rfl rfl)
theorem dX2_next_41 : decode cX2_next 41 = .ok (.if_icmp .ne 16, 3) := dk_160 0 16 (dk_at dksX2_next_1 18 rfl rfl)
theorem dX2_next_44 : decode cX2_next 44 = .ok (.aload_n 0, 1) := dk_42 (dk_at dksX2_next_1 21 rfl rfl)
theorem dX2_next_45 : decode cX2_next 45 = .ok (.iconst 0, 1) := dk_3 (dk_at dksX2_next_1 22 rfl rfl)
theorem dX2_next_46 : decode cX2_next 46 = .ok (.putfield 47, 3) := dk_181 0 47 (dk_at dksX2_next_2 0 rfl rfl)
theorem dX2_next_49 : decode cX2_next 49 = .ok (.aload_n 0, 1) := dk_42 (dk_at dksX2_next_2 3 rfl rfl)
theorem dX2_next_50 : decode cX2_next 50 = .ok (.iload_n 1, 1) := dk_27 (dk_at dksX2_next_2 4 rfl rfl)
theorem dX2_next_51 : decode cX2_next 51 = .ok (.putfield 40, 3) := dk_181 0 40 (dk_at dksX2_next_2 5 rfl rfl)
theorem dX2_next_54 : decode cX2_next 54 = .ok (.goto 251, 3) := dk_167 0 251 (dk_at dksX2_next_2 8 rfl rfl)
theorem dX2_next_57 : decode cX2_next 57 = .ok (.iload_n 2, 1) := dk_28 (dk_at dksX2_next_2 11 rfl rfl)
theorem dX2_next_58 : decode cX2_next 58 = .ok (.invokestatic 50, 3) := dk_184 0 50 (dk_at dksX2_next_2 12 rfl rfl)
theorem dX2_next_61 : decode cX2_next 61 = .ok (.ifCond .eq 124, 3) := dk_153 0 124 (dk_at dksX2_next_2 15 rfl rfl)
theorem dX2_next_64 : decode cX2_next 64 = .ok (.aload_n 0, 1) := dk_42 (dk_at dksX2_next_2 18 rfl rfl)
theorem dX2_next_65 : decode cX2_next 65 = .ok (.iload_n 1, 1) := dk_27 (dk_at dksX2_next_2 19 rfl rfl)
theorem dX2_next_66 : decode cX2_next 66 = .ok (.putfield 40, 3) := dk_181 0 40 (dk_at dksX2_next_2 20 rfl rfl)
theorem dX2_next_69 : decode cX2_next 69 = .ok (.aload_n 0, 1) := dk_42 (dk_at dksX2_next_2 23 rfl rfl)
theorem dX2_next_70 : decode cX2_next 70 = .ok (.aload_n 0, 1) := dk_42 (dk_at dksX2_next_3 0 rfl rfl)
theorem dX2_next_71 : decode cX2_next 71 = .ok (.getfield 40, 3) := dk_180 0 40 (dk_at dksX2_next_3 1 rfl rfl)
theorem dX2_next_74 : decode cX2_next 74 = .ok (.invokevirtual 43, 3) := dk_182 0 43 (dk_at dksX2_next_3 4 rfl rfl)
theorem dX2_next_77 : decode cX2_next 77 = .ok (.invokestatic 50, 3) := dk_184 0 50 (dk_at dksX2_next_3 7 rfl rfl)
theorem dX2_next_80 : decode cX2_next 80 = .ok (.ifCond .eq 47, 3) := dk_153 0 47 (dk_at dksX2_next_3 10 rfl rfl)
theorem dX2_next_83 : decode cX2_next 83 = .ok (.aload_n 0, 1) := dk_42 (dk_at dksX2_next_3 13 rfl rfl)
theorem dX2_next_84 : decode cX2_next 84 = .ok (.getfield 40, 3) := dk_180 0 40 (dk_at dksX2_next_3 14 rfl rfl)
theorem dX2_next_87 : decode cX2_next 87 = .ok (.iload_n 1, 1) := dk_27 (dk_at dksX2_next_3 17 rfl rfl)
theorem dX2_next_88 : decode cX2_next 88 = .ok (.isub, 1) := dk_100 (dk_at dksX2_next_3 18 rfl rfl)
theorem dX2_next_89 : decode cX2_next 89 = .ok (.bipush 8, 2) := dk_16 8 (dk_at dksX2_next_3 19 rfl rfl)
theorem dX2_next_91 : decode cX2_next 91 = .ok (.if_icmp .ge 23, 3) := dk_162 0 23 (dk_at dksX2_next_3 21 rfl rfl)
theorem dX2_next_94 : decode cX2_next 94 = .ok (.aload_n 0, 1) := dk_42 (dk_at dksX2_next_4 0 rfl rfl)
theorem dX2_next_95 : decode cX2_next 95 = .ok (.getfield 18, 3) := dk_180 0 18 (dk_at dksX2_next_4 1 rfl rfl)
theorem dX2_next_98 : decode cX2_next 98 = .ok (.aload_n 0, 1) := dk_42 (dk_at dksX2_next_4 4 rfl rfl)
theorem dX2_next_99 : decode cX2_next 99 = .ok (.getfield 40, 3) := dk_180 0 40 (dk_at dksX2_next_4 5 rfl rfl)
theorem dX2_next_102 : decode cX2_next 102 = .ok (.iload_n 1, 1) := dk_27 (dk_at dksX2_next_4 8 rfl rfl)
theorem dX2_next_103 : decode cX2_next 103 = .ok (.isub, 1) := dk_100 (dk_at dksX2_next_4 9 rfl rfl)
theorem dX2_next_104 : decode cX2_next 104 = .ok (.aload_n 0, 1) := dk_42 (dk_at dksX2_next_4 10 rfl rfl)
theorem dX2_next_105 : decode cX2_next 105 = .ok (.aload_n 0, 1) := dk_42 (dk_at dksX2_next_4 11 rfl rfl)
theorem dX2_next_106 : decode cX2_next 106 = .ok (.getfield 40, 3) := dk_180 0 40 (dk_at dksX2_next_4 12 rfl rfl)
theorem dX2_next_109 : decode cX2_next 109 = .ok (.invokevirtual 43, 3) := dk_182 0 43 (dk_at dksX2_next_4 15 rfl rfl)
theorem dX2_next_112 : decode cX2_next 112 = .ok (.i2c, 1) := dk_146 (dk_at dksX2_next_4 18 rfl rfl)
theorem dX2_next_113 : decode cX2_next 113 = .ok (.castore, 1) := dk_85 (dk_at dksX2_next_4 19 rfl rfl)
theorem dX2_next_114 : decode cX2_next 114 = .ok (.aload_n 0, 1) := dk_42 (dk_at dksX2_next_4 20 rfl rfl)
theorem dX2_next_115 : decode cX2_next 115 = .ok (.dup, 1) := dk_89 (dk_at dksX2_next_4 21 rfl rfl)
theorem dX2_next_116 : decode cX2_next 116 = .ok (.getfield 40, 3) := dk_180 0 40 (dk_at dksX2_next_5 0 rfl rfl)
theorem dX2_next_119 : decode cX2_next 119 = .ok (.iconst 1, 1) := dk_4 (dk_at dksX2_next_5 3 rfl rfl)
theorem dX2_next_120 : decode cX2_next 120 = .ok (.iadd, 1) := dk_96 (dk_at dksX2_next_5 4 rfl rfl)
theorem dX2_next_121 : decode cX2_next 121 = .ok (.putfield 40, 3) := dk_181 0 40 (dk_at dksX2_next_5 5 rfl rfl)
theorem dX2_next_124 : decode cX2_next 124 = .ok (.goto (-55), 3) := dk_167 255 201 (dk_at dksX2_next_5 8 rfl rfl)
theorem dX2_next_127 : decode cX2_next 127 = .ok (.aload_n 0, 1) := dk_42 (dk_at dksX2_next_5 11 rfl rfl)
theorem dX2_next_128 : decode cX2_next 128 = .ok (.aload_n 0, 1) := dk_42 (dk_at dksX2_next_5 12 rfl rfl)
theorem dX2_next_129 : decode cX2_next 129 = .ok (.getfield 40, 3) := dk_180 0 40 (dk_at dksX2_next_5 13 rfl rfl)
theorem dX2_next_132 : decode cX2_next 132 = .ok (.iload_n 1, 1) := dk_27 (dk_at dksX2_next_5 16 rfl rfl)
theorem dX2_next_133 : decode cX2_next 133 = .ok (.isub, 1) := dk_100 (dk_at dksX2_next_5 17 rfl rfl)
theorem dX2_next_134 : decode cX2_next 134 = .ok (.bipush 8, 2) := dk_16 8 (dk_at dksX2_next_5 18 rfl rfl)
theorem dX2_next_136 : decode cX2_next 136 = .ok (.if_icmp .le 7, 3) := dk_164 0 7 (dk_at dksX2_next_5 20 rfl rfl)
theorem dX2_next_139 : decode cX2_next 139 = .ok (.iconst 1, 1) := dk_4 (dk_at dksX2_next_5 23 rfl rfl)
theorem dX2_next_140 : decode cX2_next 140 = .ok (.goto 4, 3) := dk_167 0 4 (dk_at dksX2_next_6 0 rfl rfl)
theorem dX2_next_143 : decode cX2_next 143 = .ok (.iconst 2, 1) := dk_5 (dk_at dksX2_next_6 3 rfl rfl)
theorem dX2_next_144 : decode cX2_next 144 = .ok (.putfield 47, 3) := dk_181 0 47 (dk_at dksX2_next_6 4 rfl rfl)
theorem dX2_next_147 : decode cX2_next 147 = .ok (.aload_n 0, 1) := dk_42 (dk_at dksX2_next_6 7 rfl rfl)
theorem dX2_next_148 : decode cX2_next 148 = .ok (.aload_n 0, 1) := dk_42 (dk_at dksX2_next_6 8 rfl rfl)
theorem dX2_next_149 : decode cX2_next 149 = .ok (.getfield 47, 3) := dk_180 0 47 (dk_at dksX2_next_6 9 rfl rfl)
theorem dX2_next_152 : decode cX2_next 152 = .ok (.iconst 2, 1) := dk_5 (dk_at dksX2_next_6 12 rfl rfl)
theorem dX2_next_153 : decode cX2_next 153 = .ok (.if_icmp .ne 24, 3) := dk_160 0 24 (dk_at dksX2_next_6 13 rfl rfl)
theorem dX2_next_156 : decode cX2_next 156 = .ok (.new 54, 3) := dk_187 0 54 (dk_at dksX2_next_6 16 rfl rfl)
theorem dX2_next_159 : decode cX2_next 159 = .ok (.dup, 1) := dk_89 (dk_at dksX2_next_6 19 rfl rfl)
theorem dX2_next_160 : decode cX2_next 160 = .ok (.aload_n 0, 1) := dk_42 (dk_at dksX2_next_6 20 rfl rfl)
theorem dX2_next_161 : decode cX2_next 161 = .ok (.getfield 18, 3) := dk_180 0 18 (dk_at dksX2_next_6 21 rfl rfl)
theorem dX2_next_164 : decode cX2_next 164 = .ok (.iconst 0, 1) := dk_3 (dk_at dksX2_next_7 0 rfl rfl)
theorem dX2_next_165 : decode cX2_next 165 = .ok (.aload_n 0, 1) := dk_42 (dk_at dksX2_next_7 1 rfl rfl)
theorem dX2_next_166 : decode cX2_next 166 = .ok (.getfield 40, 3) := dk_180 0 40 (dk_at dksX2_next_7 2 rfl rfl)
theorem dX2_next_169 : decode cX2_next 169 = .ok (.iload_n 1, 1) := dk_27 (dk_at dksX2_next_7 5 rfl rfl)
theorem dX2_next_170 : decode cX2_next 170 = .ok (.isub, 1) := dk_100 (dk_at dksX2_next_7 6 rfl rfl)
theorem dX2_next_171 : decode cX2_next 171 = .ok (.invokespecial 56, 3) := dk_183 0 56 (dk_at dksX2_next_7 7 rfl rfl)
theorem dX2_next_174 : decode cX2_next 174 = .ok (.goto 5, 3) := dk_167 0 5 (dk_at dksX2_next_7 10 rfl rfl)
theorem dX2_next_177 : decode cX2_next 177 = .ok (.ldc 59, 2) := dk_18 59 (dk_at dksX2_next_7 13 rfl rfl)
theorem dX2_next_179 : decode cX2_next 179 = .ok (.putfield 61, 3) := dk_181 0 61 (dk_at dksX2_next_7 15 rfl rfl)
theorem dX2_next_182 : decode cX2_next 182 = .ok (.goto 123, 3) := dk_167 0 123 (dk_at dksX2_next_7 18 rfl rfl)
theorem dX2_next_185 : decode cX2_next 185 = .ok (.iload_n 2, 1) := dk_28 (dk_at dksX2_next_7 21 rfl rfl)
theorem dX2_next_186 : decode cX2_next 186 = .ok (.invokestatic 65, 3) := dk_184 0 65 (dk_at dksX2_next_8 0 rfl rfl)
theorem dX2_next_189 : decode cX2_next 189 = .ok (.ifCond .eq 95, 3) := dk_153 0 95 (dk_at dksX2_next_8 3 rfl rfl)
theorem dX2_next_192 : decode cX2_next 192 = .ok (.aload_n 0, 1) := dk_42 (dk_at dksX2_next_8 6 rfl rfl)
theorem dX2_next_193 : decode cX2_next 193 = .ok (.iconst 0, 1) := dk_3 (dk_at dksX2_next_8 7 rfl rfl)
theorem dX2_next_194 : decode cX2_next 194 = .ok (.putfield 68, 3) := dk_181 0 68 (dk_at dksX2_next_8 8 rfl rfl)
theorem dX2_next_197 : decode cX2_next 197 = .ok (.aload_n 0, 1) := dk_42 (dk_at dksX2_next_8 11 rfl rfl)
theorem dX2_next_198 : decode cX2_next 198 = .ok (.iload_n 1, 1) := dk_27 (dk_at dksX2_next_8 12 rfl rfl)
theorem dX2_next_199 : decode cX2_next 199 = .ok (.putfield 40, 3) := dk_181 0 40 (dk_at dksX2_next_8 13 rfl rfl)
theorem dX2_next_202 : decode cX2_next 202 = .ok (.aload_n 0, 1) := dk_42 (dk_at dksX2_next_8 16 rfl rfl)
theorem dX2_next_203 : decode cX2_next 203 = .ok (.aload_n 0, 1) := dk_42 (dk_at dksX2_next_8 17 rfl rfl)
theorem dX2_next_204 : decode cX2_next 204 = .ok (.getfield 40, 3) := dk_180 0 40 (dk_at dksX2_next_8 18 rfl rfl)
theorem dX2_next_207 : decode cX2_next 207 = .ok (.invokevirtual 43, 3) := dk_182 0 43 (dk_at dksX2_next_8 21 rfl rfl)
theorem dX2_next_210 : decode cX2_next 210 = .ok (.invokestatic 65, 3) := dk_184 0 65 (dk_at dksX2_next_9 0 rfl rfl)
theorem dX2_next_213 : decode cX2_next 213 = .ok (.ifCond .eq 49, 3) := dk_153 0 49 (dk_at dksX2_next_9 3 rfl rfl)
theorem dX2_next_216 : decode cX2_next 216 = .ok (.aload_n 0, 1) := dk_42 (dk_at dksX2_next_9 6 rfl rfl)
theorem dX2_next_217 : decode cX2_next 217 = .ok (.getfield 40, 3) := dk_180 0 40 (dk_at dksX2_next_9 7 rfl rfl)
theorem dX2_next_220 : decode cX2_next 220 = .ok (.iload_n 1, 1) := dk_27 (dk_at dksX2_next_9 10 rfl rfl)
theorem dX2_next_221 : decode cX2_next 221 = .ok (.isub, 1) := dk_100 (dk_at dksX2_next_9 11 rfl rfl)
theorem dX2_next_222 : decode cX2_next 222 = .ok (.iconst 2, 1) := dk_5 (dk_at dksX2_next_9 12 rfl rfl)
theorem dX2_next_223 : decode cX2_next 223 = .ok (.if_icmp .ge 26, 3) := dk_162 0 26 (dk_at dksX2_next_9 13 rfl rfl)
theorem dX2_next_226 : decode cX2_next 226 = .ok (.aload_n 0, 1) := dk_42 (dk_at dksX2_next_9 16 rfl rfl)
theorem dX2_next_227 : decode cX2_next 227 = .ok (.bipush 10, 2) := dk_16 10 (dk_at dksX2_next_9 17 rfl rfl)
theorem dX2_next_229 : decode cX2_next 229 = .ok (.aload_n 0, 1) := dk_42 (dk_at dksX2_next_9 19 rfl rfl)
theorem dX2_next_230 : decode cX2_next 230 = .ok (.getfield 68, 3) := dk_180 0 68 (dk_at dksX2_next_9 20 rfl rfl)
theorem dX2_next_233 : decode cX2_next 233 = .ok (.imul, 1) := dk_104 (dk_at dksX2_next_9 23 rfl rfl)
theorem dX2_next_234 : decode cX2_next 234 = .ok (.aload_n 0, 1) := dk_42 (dk_at dksX2_next_10 0 rfl rfl)
theorem dX2_next_235 : decode cX2_next 235 = .ok (.aload_n 0, 1) := dk_42 (dk_at dksX2_next_10 1 rfl rfl)
theorem dX2_next_236 : decode cX2_next 236 = .ok (.getfield 40, 3) := dk_180 0 40 (dk_at dksX2_next_10 2 rfl rfl)
theorem dX2_next_239 : decode cX2_next 239 = .ok (.invokevirtual 43, 3) := dk_182 0 43 (dk_at dksX2_next_10 5 rfl rfl)
theorem dX2_next_242 : decode cX2_next 242 = .ok (.iadd, 1) := dk_96 (dk_at dksX2_next_10 8 rfl rfl)
theorem dX2_next_243 : decode cX2_next 243 = .ok (.bipush 48, 2) := dk_16 48 (dk_at dksX2_next_10 9 rfl rfl)
theorem dX2_next_245 : decode cX2_next 245 = .ok (.isub, 1) := dk_100 (dk_at dksX2_next_10 11 rfl rfl)
theorem dX2_next_246 : decode cX2_next 246 = .ok (.putfield 68, 3) := dk_181 0 68 (dk_at dksX2_next_10 12 rfl rfl)
theorem dX2_next_249 : decode cX2_next 249 = .ok (.aload_n 0, 1) := dk_42 (dk_at dksX2_next_10 15 rfl rfl)
theorem dX2_next_250 : decode cX2_next 250 = .ok (.dup, 1) := dk_89 (dk_at dksX2_next_10 16 rfl rfl)
theorem dX2_next_251 : decode cX2_next 251 = .ok (.getfield 40, 3) := dk_180 0 40 (dk_at dksX2_next_10 17 rfl rfl)
theorem dX2_next_254 : decode cX2_next 254 = .ok (.iconst 1, 1) := dk_4 (dk_at dksX2_next_10 20 rfl rfl)
theorem dX2_next_255 : decode cX2_next 255 = .ok (.iadd, 1) := dk_96 (dk_at dksX2_next_10 21 rfl rfl)
theorem dX2_next_256 : decode cX2_next 256 = .ok (.putfield 40, 3) := dk_181 0 40 (dk_at dksX2_next_11 0 rfl rfl)
theorem dX2_next_259 : decode cX2_next 259 = .ok (.goto (-57), 3) := dk_167 255 199 (dk_at dksX2_next_11 3 rfl rfl)
theorem dX2_next_262 : decode cX2_next 262 = .ok (.aload_n 0, 1) := dk_42 (dk_at dksX2_next_11 6 rfl rfl)
theorem dX2_next_263 : decode cX2_next 263 = .ok (.aload_n 0, 1) := dk_42 (dk_at dksX2_next_11 7 rfl rfl)
theorem dX2_next_264 : decode cX2_next 264 = .ok (.getfield 40, 3) := dk_180 0 40 (dk_at dksX2_next_11 8 rfl rfl)
theorem dX2_next_267 : decode cX2_next 267 = .ok (.iload_n 1, 1) := dk_27 (dk_at dksX2_next_11 11 rfl rfl)
theorem dX2_next_268 : decode cX2_next 268 = .ok (.isub, 1) := dk_100 (dk_at dksX2_next_11 12 rfl rfl)
theorem dX2_next_269 : decode cX2_next 269 = .ok (.iconst 2, 1) := dk_5 (dk_at dksX2_next_11 13 rfl rfl)
theorem dX2_next_270 : decode cX2_next 270 = .ok (.if_icmp .le 7, 3) := dk_164 0 7 (dk_at dksX2_next_11 14 rfl rfl)
theorem dX2_next_273 : decode cX2_next 273 = .ok (.iconst 1, 1) := dk_4 (dk_at dksX2_next_11 17 rfl rfl)
theorem dX2_next_274 : decode cX2_next 274 = .ok (.goto 4, 3) := dk_167 0 4 (dk_at dksX2_next_11 18 rfl rfl)
theorem dX2_next_277 : decode cX2_next 277 = .ok (.iconst 3, 1) := dk_6 (dk_at dksX2_next_11 21 rfl rfl)
theorem dX2_next_278 : decode cX2_next 278 = .ok (.putfield 47, 3) := dk_181 0 47 (dk_at dksX2_next_12 0 rfl rfl)
theorem dX2_next_281 : decode cX2_next 281 = .ok (.goto 24, 3) := dk_167 0 24 (dk_at dksX2_next_12 3 rfl rfl)
theorem dX2_next_284 : decode cX2_next 284 = .ok (.aload_n 0, 1) := dk_42 (dk_at dksX2_next_12 6 rfl rfl)
theorem dX2_next_285 : decode cX2_next 285 = .ok (.iload_n 2, 1) := dk_28 (dk_at dksX2_next_12 7 rfl rfl)
theorem dX2_next_286 : decode cX2_next 286 = .ok (.bipush 59, 2) := dk_16 59 (dk_at dksX2_next_12 8 rfl rfl)
theorem dX2_next_288 : decode cX2_next 288 = .ok (.if_icmp .eq 9, 3) := dk_159 0 9 (dk_at dksX2_next_12 10 rfl rfl)
theorem dX2_next_291 : decode cX2_next 291 = .ok (.iload_n 2, 1) := dk_28 (dk_at dksX2_next_12 13 rfl rfl)
theorem dX2_next_292 : decode cX2_next 292 = .ok (.bipush 44, 2) := dk_16 44 (dk_at dksX2_next_12 14 rfl rfl)
theorem dX2_next_294 : decode cX2_next 294 = .ok (.if_icmp .ne 7, 3) := dk_160 0 7 (dk_at dksX2_next_12 16 rfl rfl)
theorem dX2_next_297 : decode cX2_next 297 = .ok (.iload_n 2, 1) := dk_28 (dk_at dksX2_next_12 19 rfl rfl)
theorem dX2_next_298 : decode cX2_next 298 = .ok (.goto 4, 3) := dk_167 0 4 (dk_at dksX2_next_12 20 rfl rfl)
theorem dX2_next_301 : decode cX2_next 301 = .ok (.iconst 1, 1) := dk_4 (dk_at dksX2_next_12 23 rfl rfl)
theorem dX2_next_302 : decode cX2_next 302 = .ok (.putfield 47, 3) := dk_181 0 47 (dk_at dksX2_next_13 0 rfl rfl)
theorem dX2_next_305 : decode cX2_next 305 = .ok (.return_, 1) := dk_177 (dk_at dksX2_next_13 3 rfl rfl)
abbrev cX2_see : ByteArray := prog_16_method_3_code
def yX2_see : MethodName := ⟨RX2, "see", "(I)I"⟩
def dkwX2_see_0 : List UInt8 := [27, 42, 180, 0, 33, 162, 0, 16, 42, 180, 0, 22, 27, 51, 17, 0, 255, 126, 167, 0, 4, 2, 172]
abbrev dktX2_see_0 : List UInt8 := dkwX2_see_0 ++ []
theorem dksX2_see_0 : cX2_see.data.toList.drop 0 = dktX2_see_0 := by decide +kernel
theorem dX2_see_0 : decode cX2_see 0 = .ok (.iload_n 1, 1) := dk_27 (dk_at dksX2_see_0 0 rfl rfl)
theorem dX2_see_1 : decode cX2_see 1 = .ok (.aload_n 0, 1) := dk_42 (dk_at dksX2_see_0 1 rfl rfl)
theorem dX2_see_2 : decode cX2_see 2 = .ok (.getfield 33, 3) := dk_180 0 33 (dk_at dksX2_see_0 2 rfl rfl)
theorem dX2_see_5 : decode cX2_see 5 = .ok (.if_icmp .ge 16, 3) := dk_162 0 16 (dk_at dksX2_see_0 5 rfl rfl)
theorem dX2_see_8 : decode cX2_see 8 = .ok (.aload_n 0, 1) := dk_42 (dk_at dksX2_see_0 8 rfl rfl)
theorem dX2_see_9 : decode cX2_see 9 = .ok (.getfield 22, 3) := dk_180 0 22 (dk_at dksX2_see_0 9 rfl rfl)
theorem dX2_see_12 : decode cX2_see 12 = .ok (.iload_n 1, 1) := dk_27 (dk_at dksX2_see_0 12 rfl rfl)
theorem dX2_see_13 : decode cX2_see 13 = .ok (.baload, 1) := dk_51 (dk_at dksX2_see_0 13 rfl rfl)
theorem dX2_see_14 : decode cX2_see 14 = .ok (.sipush 255, 3) := dk_17 0 255 (dk_at dksX2_see_0 14 rfl rfl)
theorem dX2_see_17 : decode cX2_see 17 = .ok (.iand, 1) := dk_126 (dk_at dksX2_see_0 17 rfl rfl)
theorem dX2_see_18 : decode cX2_see 18 = .ok (.goto 4, 3) := dk_167 0 4 (dk_at dksX2_see_0 18 rfl rfl)
theorem dX2_see_21 : decode cX2_see 21 = .ok (.iconst (-1), 1) := dk_2 (dk_at dksX2_see_0 21 rfl rfl)
theorem dX2_see_22 : decode cX2_see 22 = .ok (.ireturn, 1) := dk_172 (dk_at dksX2_see_0 22 rfl rfl)
abbrev cX2_isSmall : ByteArray := prog_16_method_4_code
def yX2_isSmall : MethodName := ⟨RX2, "isSmall", "(I)Z"⟩
def dkwX2_isSmall_0 : List UInt8 := [26, 16, 97, 16, 122, 184, 0, 36, 172]
abbrev dktX2_isSmall_0 : List UInt8 := dkwX2_isSmall_0 ++ []
theorem dksX2_isSmall_0 : cX2_isSmall.data.toList.drop 0 = dktX2_isSmall_0 := by decide +kernel
theorem dX2_isSmall_0 : decode cX2_isSmall 0 = .ok (.iload_n 0, 1) := dk_26 (dk_at dksX2_isSmall_0 0 rfl rfl)
theorem dX2_isSmall_1 : decode cX2_isSmall 1 = .ok (.bipush 97, 2) := dk_16 97 (dk_at dksX2_isSmall_0 1 rfl rfl)
theorem dX2_isSmall_3 : decode cX2_isSmall 3 = .ok (.bipush 122, 2) := dk_16 122 (dk_at dksX2_isSmall_0 3 rfl rfl)
theorem dX2_isSmall_5 : decode cX2_isSmall 5 = .ok (.invokestatic 36, 3) := dk_184 0 36 (dk_at dksX2_isSmall_0 5 rfl rfl)
theorem dX2_isSmall_8 : decode cX2_isSmall 8 = .ok (.ireturn, 1) := dk_172 (dk_at dksX2_isSmall_0 8 rfl rfl)
abbrev cX2_isDigit : ByteArray := prog_16_method_5_code
def yX2_isDigit : MethodName := ⟨RX2, "isDigit", "(I)Z"⟩
def dkwX2_isDigit_0 : List UInt8 := [26, 16, 48, 16, 57, 184, 0, 36, 172]
abbrev dktX2_isDigit_0 : List UInt8 := dkwX2_isDigit_0 ++ []
theorem dksX2_isDigit_0 : cX2_isDigit.data.toList.drop 0 = dktX2_isDigit_0 := by decide +kernel
theorem dX2_isDigit_0 : decode cX2_isDigit 0 = .ok (.iload_n 0, 1) := dk_26 (dk_at dksX2_isDigit_0 0 rfl rfl)
theorem dX2_isDigit_1 : decode cX2_isDigit 1 = .ok (.bipush 48, 2) := dk_16 48 (dk_at dksX2_isDigit_0 1 rfl rfl)
theorem dX2_isDigit_3 : decode cX2_isDigit 3 = .ok (.bipush 57, 2) := dk_16 57 (dk_at dksX2_isDigit_0 3 rfl rfl)
theorem dX2_isDigit_5 : decode cX2_isDigit 5 = .ok (.invokestatic 36, 3) := dk_184 0 36 (dk_at dksX2_isDigit_0 5 rfl rfl)
theorem dX2_isDigit_8 : decode cX2_isDigit 8 = .ok (.ireturn, 1) := dk_172 (dk_at dksX2_isDigit_0 8 rfl rfl)
abbrev cX2_line : ByteArray := prog_16_method_18_code
def yX2_line : MethodName := ⟨RX2, "line", "()V"⟩
def dkwX2_line_11 : List UInt8 := [167, 0, 9, 42, 4, 182, 0, 82, 191, 177]
abbrev dktX2_line_11 : List UInt8 := dkwX2_line_11 ++ []
def dkwX2_line_10 : List UInt8 := [182, 0, 156, 167, 0, 30, 42, 182, 0, 159, 167, 0, 23, 42, 182, 0, 161, 167, 0, 16, 42, 182, 0, 163]
abbrev dktX2_line_10 : List UInt8 := dkwX2_line_10 ++ dktX2_line_11
def dkwX2_line_9 : List UInt8 := [42, 182, 0, 147, 167, 0, 51, 42, 182, 0, 150, 167, 0, 44, 42, 182, 0, 153, 167, 0, 37, 42]
abbrev dktX2_line_9 : List UInt8 := dkwX2_line_9 ++ dktX2_line_10
def dkwX2_line_8 : List UInt8 := [170, 0, 0, 0, 0, 0, 92, 0, 0, 0, 0, 0, 0, 0, 6, 0, 0, 0, 43, 0, 0, 0, 50, 0, 0, 0, 57, 0, 0, 0, 64, 0, 0, 0, 71, 0, 0, 0, 78, 0, 0, 0, 85]
abbrev dktX2_line_8 : List UInt8 := dkwX2_line_8 ++ dktX2_line_9
def dkwX2_line_7 : List UInt8 := [61, 28]
abbrev dktX2_line_7 : List UInt8 := dkwX2_line_7 ++ dktX2_line_8
def dkwX2_line_6 : List UInt8 := [18, 100, 182, 0, 71, 153, 0, 20, 8, 61, 167, 0, 15, 43, 18, 102, 182, 0, 71, 153, 0, 6, 16, 6]
abbrev dktX2_line_6 : List UInt8 := dkwX2_line_6 ++ dktX2_line_7
def dkwX2_line_5 : List UInt8 := [153, 0, 48, 6, 61, 167, 0, 43, 43, 18, 98, 182, 0, 71, 153, 0, 34, 7, 61, 167, 0, 29, 43]
abbrev dktX2_line_5 : List UInt8 := dkwX2_line_5 ++ dktX2_line_6
def dkwX2_line_4 : List UInt8 := [61, 167, 0, 71, 43, 18, 94, 182, 0, 71, 153, 0, 62, 5, 61, 167, 0, 57, 43, 18, 96, 182, 0, 71]
abbrev dktX2_line_4 : List UInt8 := dkwX2_line_4 ++ dktX2_line_5
def dkwX2_line_3 : List UInt8 := [43, 18, 90, 182, 0, 71, 153, 0, 90, 3, 61, 167, 0, 85, 43, 18, 92, 182, 0, 71, 153, 0, 76, 4]
abbrev dktX2_line_3 : List UInt8 := dkwX2_line_3 ++ dktX2_line_4
def dkwX2_line_2 : List UInt8 := [171, 0, 0, 0, 0, 0, 163, 0, 0, 0, 7, 174, 216, 182, 0, 0, 0, 0, 151, 196, 227, 155, 85, 0, 0, 0, 95, 213, 248, 215, 164, 0, 0, 0, 67, 0, 1, 140, 201, 0, 0, 0, 109, 0, 1, 204, 150, 0, 0, 0, 123, 0, 46, 58, 196, 0, 0, 0, 81, 6, 91, 138, 238, 0, 0, 0, 137]
abbrev dktX2_line_2 : List UInt8 := dkwX2_line_2 ++ dktX2_line_3
def dkwX2_line_1 : List UInt8 := [182, 0, 86]
abbrev dktX2_line_1 : List UInt8 := dkwX2_line_1 ++ dktX2_line_2
def dkwX2_line_0 : List UInt8 := [42, 180, 0, 47, 5, 159, 0, 9, 42, 4, 182, 0, 82, 191, 42, 180, 0, 61, 76, 2, 61, 43]
abbrev dktX2_line_0 : List UInt8 := dkwX2_line_0 ++ dktX2_line_1
theorem dksX2_line_0 : cX2_line.data.toList.drop 0 = dktX2_line_0 := by decide +kernel
theorem dksX2_line_1 : cX2_line.data.toList.drop 22 = dktX2_line_1 := dk_seg dksX2_line_0 22 rfl rfl
theorem dksX2_line_2 : cX2_line.data.toList.drop 25 = dktX2_line_2 := dk_seg dksX2_line_1 3 rfl rfl
theorem dksX2_line_3 : cX2_line.data.toList.drop 92 = dktX2_line_3 := dk_seg dksX2_line_2 67 rfl rfl
theorem dksX2_line_4 : cX2_line.data.toList.drop 116 = dktX2_line_4 := dk_seg dksX2_line_3 24 rfl rfl
theorem dksX2_line_5 : cX2_line.data.toList.drop 140 = dktX2_line_5 := dk_seg dksX2_line_4 24 rfl rfl
theorem dksX2_line_6 : cX2_line.data.toList.drop 163 = dktX2_line_6 := dk_seg dksX2_line_5 23 rfl rfl
theorem dksX2_line_7 : cX2_line.data.toList.drop 187 = dktX2_line_7 := dk_seg dksX2_line_6 24 rfl rfl
theorem dksX2_line_8 : cX2_line.data.toList.drop 189 = dktX2_line_8 := dk_seg dksX2_line_7 2 rfl rfl
theorem dksX2_line_9 : cX2_line.data.toList.drop 232 = dktX2_line_9 := dk_seg dksX2_line_8 43 rfl rfl
theorem dksX2_line_10 : cX2_line.data.toList.drop 254 = dktX2_line_10 := dk_seg dksX2_line_9 22 rfl rfl
theorem dksX2_line_11 : cX2_line.data.toList.drop 278 = dktX2_line_11 := dk_seg dksX2_line_10 24 rfl rfl
theorem dX2_line_0 : decode cX2_line 0 = .ok (.aload_n 0, 1) := dk_42 (dk_at dksX2_line_0 0 rfl rfl)
theorem dX2_line_1 : decode cX2_line 1 = .ok (.getfield 47, 3) := dk_180 0 47 (dk_at dksX2_line_0 1 rfl rfl)
theorem dX2_line_4 : decode cX2_line 4 = .ok (.iconst 2, 1) := dk_5 (dk_at dksX2_line_0 4 rfl rfl)
theorem dX2_line_5 : decode cX2_line 5 = .ok (.if_icmp .eq 9, 3) := dk_159 0 9 (dk_at dksX2_line_0 5 rfl rfl)
theorem dX2_line_8 : decode cX2_line 8 = .ok (.aload_n 0, 1) := dk_42 (dk_at dksX2_line_0 8 rfl rfl)
theorem dX2_line_9 : decode cX2_line 9 = .ok (.iconst 1, 1) := dk_4 (dk_at dksX2_line_0 9 rfl rfl)
theorem dX2_line_10 : decode cX2_line 10 = .ok (.invokevirtual 82, 3) := dk_182 0 82 (dk_at dksX2_line_0 10 rfl rfl)
theorem dX2_line_13 : decode cX2_line 13 = .ok (.athrow, 1) := dk_191 (dk_at dksX2_line_0 13 rfl rfl)
theorem dX2_line_14 : decode cX2_line 14 = .ok (.aload_n 0, 1) := dk_42 (dk_at dksX2_line_0 14 rfl rfl)
theorem dX2_line_15 : decode cX2_line 15 = .ok (.getfield 61, 3) := dk_180 0 61 (dk_at dksX2_line_0 15 rfl rfl)
theorem dX2_line_18 : decode cX2_line 18 = .ok (.astore_n 1, 1) := dk_76 (dk_at dksX2_line_0 18 rfl rfl)
theorem dX2_line_19 : decode cX2_line 19 = .ok (.iconst (-1), 1) := dk_2 (dk_at dksX2_line_0 19 rfl rfl)
theorem dX2_line_20 : decode cX2_line 20 = .ok (.istore_n 2, 1) := dk_61 (dk_at dksX2_line_0 20 rfl rfl)
theorem dX2_line_21 : decode cX2_line 21 = .ok (.aload_n 1, 1) := dk_43 (dk_at dksX2_line_0 21 rfl rfl)
theorem dX2_line_22 : decode cX2_line 22 = .ok (.invokevirtual 86, 3) := dk_182 0 86 (dk_at dksX2_line_1 0 rfl rfl)
theorem dX2_line_25 : decode cX2_line 25 = .ok (.lookupswitch 163 #[(-1361529344, 151), (-991716523, 95), (-705112156, 67), (101577, 109), (117910, 123), (3029700, 81), (106662638, 137)], 67) := by decide +kernel
theorem dX2_line_92 : decode cX2_line 92 = .ok (.aload_n 1, 1) := dk_43 (dk_at dksX2_line_3 0 rfl rfl)
theorem dX2_line_93 : decode cX2_line 93 = .ok (.ldc 90, 2) := dk_18 90 (dk_at dksX2_line_3 1 rfl rfl)
theorem dX2_line_95 : decode cX2_line 95 = .ok (.invokevirtual 71, 3) := dk_182 0 71 (dk_at dksX2_line_3 3 rfl rfl)
theorem dX2_line_98 : decode cX2_line 98 = .ok (.ifCond .eq 90, 3) := dk_153 0 90 (dk_at dksX2_line_3 6 rfl rfl)
theorem dX2_line_101 : decode cX2_line 101 = .ok (.iconst 0, 1) := dk_3 (dk_at dksX2_line_3 9 rfl rfl)
theorem dX2_line_102 : decode cX2_line 102 = .ok (.istore_n 2, 1) := dk_61 (dk_at dksX2_line_3 10 rfl rfl)
theorem dX2_line_103 : decode cX2_line 103 = .ok (.goto 85, 3) := dk_167 0 85 (dk_at dksX2_line_3 11 rfl rfl)
theorem dX2_line_106 : decode cX2_line 106 = .ok (.aload_n 1, 1) := dk_43 (dk_at dksX2_line_3 14 rfl rfl)
theorem dX2_line_107 : decode cX2_line 107 = .ok (.ldc 92, 2) := dk_18 92 (dk_at dksX2_line_3 15 rfl rfl)
theorem dX2_line_109 : decode cX2_line 109 = .ok (.invokevirtual 71, 3) := dk_182 0 71 (dk_at dksX2_line_3 17 rfl rfl)
theorem dX2_line_112 : decode cX2_line 112 = .ok (.ifCond .eq 76, 3) := dk_153 0 76 (dk_at dksX2_line_3 20 rfl rfl)
theorem dX2_line_115 : decode cX2_line 115 = .ok (.iconst 1, 1) := dk_4 (dk_at dksX2_line_3 23 rfl rfl)
theorem dX2_line_116 : decode cX2_line 116 = .ok (.istore_n 2, 1) := dk_61 (dk_at dksX2_line_4 0 rfl rfl)
theorem dX2_line_117 : decode cX2_line 117 = .ok (.goto 71, 3) := dk_167 0 71 (dk_at dksX2_line_4 1 rfl rfl)
theorem dX2_line_120 : decode cX2_line 120 = .ok (.aload_n 1, 1) := dk_43 (dk_at dksX2_line_4 4 rfl rfl)
theorem dX2_line_121 : decode cX2_line 121 = .ok (.ldc 94, 2) := dk_18 94 (dk_at dksX2_line_4 5 rfl rfl)
theorem dX2_line_123 : decode cX2_line 123 = .ok (.invokevirtual 71, 3) := dk_182 0 71 (dk_at dksX2_line_4 7 rfl rfl)
theorem dX2_line_126 : decode cX2_line 126 = .ok (.ifCond .eq 62, 3) := dk_153 0 62 (dk_at dksX2_line_4 10 rfl rfl)
theorem dX2_line_129 : decode cX2_line 129 = .ok (.iconst 2, 1) := dk_5 (dk_at dksX2_line_4 13 rfl rfl)
theorem dX2_line_130 : decode cX2_line 130 = .ok (.istore_n 2, 1) := dk_61 (dk_at dksX2_line_4 14 rfl rfl)
theorem dX2_line_131 : decode cX2_line 131 = .ok (.goto 57, 3) := dk_167 0 57 (dk_at dksX2_line_4 15 rfl rfl)
theorem dX2_line_134 : decode cX2_line 134 = .ok (.aload_n 1, 1) := dk_43 (dk_at dksX2_line_4 18 rfl rfl)
theorem dX2_line_135 : decode cX2_line 135 = .ok (.ldc 96, 2) := dk_18 96 (dk_at dksX2_line_4 19 rfl rfl)
theorem dX2_line_137 : decode cX2_line 137 = .ok (.invokevirtual 71, 3) := dk_182 0 71 (dk_at dksX2_line_4 21 rfl rfl)
theorem dX2_line_140 : decode cX2_line 140 = .ok (.ifCond .eq 48, 3) := dk_153 0 48 (dk_at dksX2_line_5 0 rfl rfl)
theorem dX2_line_143 : decode cX2_line 143 = .ok (.iconst 3, 1) := dk_6 (dk_at dksX2_line_5 3 rfl rfl)
theorem dX2_line_144 : decode cX2_line 144 = .ok (.istore_n 2, 1) := dk_61 (dk_at dksX2_line_5 4 rfl rfl)
theorem dX2_line_145 : decode cX2_line 145 = .ok (.goto 43, 3) := dk_167 0 43 (dk_at dksX2_line_5 5 rfl rfl)
theorem dX2_line_148 : decode cX2_line 148 = .ok (.aload_n 1, 1) := dk_43 (dk_at dksX2_line_5 8 rfl rfl)
theorem dX2_line_149 : decode cX2_line 149 = .ok (.ldc 98, 2) := dk_18 98 (dk_at dksX2_line_5 9 rfl rfl)
theorem dX2_line_151 : decode cX2_line 151 = .ok (.invokevirtual 71, 3) := dk_182 0 71 (dk_at dksX2_line_5 11 rfl rfl)
theorem dX2_line_154 : decode cX2_line 154 = .ok (.ifCond .eq 34, 3) := dk_153 0 34 (dk_at dksX2_line_5 14 rfl rfl)
theorem dX2_line_157 : decode cX2_line 157 = .ok (.iconst 4, 1) := dk_7 (dk_at dksX2_line_5 17 rfl rfl)
theorem dX2_line_158 : decode cX2_line 158 = .ok (.istore_n 2, 1) := dk_61 (dk_at dksX2_line_5 18 rfl rfl)
theorem dX2_line_159 : decode cX2_line 159 = .ok (.goto 29, 3) := dk_167 0 29 (dk_at dksX2_line_5 19 rfl rfl)
theorem dX2_line_162 : decode cX2_line 162 = .ok (.aload_n 1, 1) := dk_43 (dk_at dksX2_line_5 22 rfl rfl)
theorem dX2_line_163 : decode cX2_line 163 = .ok (.ldc 100, 2) := dk_18 100 (dk_at dksX2_line_6 0 rfl rfl)
theorem dX2_line_165 : decode cX2_line 165 = .ok (.invokevirtual 71, 3) := dk_182 0 71 (dk_at dksX2_line_6 2 rfl rfl)
theorem dX2_line_168 : decode cX2_line 168 = .ok (.ifCond .eq 20, 3) := dk_153 0 20 (dk_at dksX2_line_6 5 rfl rfl)
theorem dX2_line_171 : decode cX2_line 171 = .ok (.iconst 5, 1) := dk_8 (dk_at dksX2_line_6 8 rfl rfl)
theorem dX2_line_172 : decode cX2_line 172 = .ok (.istore_n 2, 1) := dk_61 (dk_at dksX2_line_6 9 rfl rfl)
theorem dX2_line_173 : decode cX2_line 173 = .ok (.goto 15, 3) := dk_167 0 15 (dk_at dksX2_line_6 10 rfl rfl)
theorem dX2_line_176 : decode cX2_line 176 = .ok (.aload_n 1, 1) := dk_43 (dk_at dksX2_line_6 13 rfl rfl)
theorem dX2_line_177 : decode cX2_line 177 = .ok (.ldc 102, 2) := dk_18 102 (dk_at dksX2_line_6 14 rfl rfl)
theorem dX2_line_179 : decode cX2_line 179 = .ok (.invokevirtual 71, 3) := dk_182 0 71 (dk_at dksX2_line_6 16 rfl rfl)
theorem dX2_line_182 : decode cX2_line 182 = .ok (.ifCond .eq 6, 3) := dk_153 0 6 (dk_at dksX2_line_6 19 rfl rfl)
theorem dX2_line_185 : decode cX2_line 185 = .ok (.bipush 6, 2) := dk_16 6 (dk_at dksX2_line_6 22 rfl rfl)
theorem dX2_line_187 : decode cX2_line 187 = .ok (.istore_n 2, 1) := dk_61 (dk_at dksX2_line_7 0 rfl rfl)
theorem dX2_line_188 : decode cX2_line 188 = .ok (.iload_n 2, 1) := dk_28 (dk_at dksX2_line_7 1 rfl rfl)
theorem dX2_line_189 : decode cX2_line 189 = .ok (.tableswitch 92 0 6 #[43, 50, 57, 64, 71, 78, 85], 43) := by decide +kernel
theorem dX2_line_232 : decode cX2_line 232 = .ok (.aload_n 0, 1) := dk_42 (dk_at dksX2_line_9 0 rfl rfl)
theorem dX2_line_233 : decode cX2_line 233 = .ok (.invokevirtual 147, 3) := dk_182 0 147 (dk_at dksX2_line_9 1 rfl rfl)
theorem dX2_line_236 : decode cX2_line 236 = .ok (.goto 51, 3) := dk_167 0 51 (dk_at dksX2_line_9 4 rfl rfl)
theorem dX2_line_239 : decode cX2_line 239 = .ok (.aload_n 0, 1) := dk_42 (dk_at dksX2_line_9 7 rfl rfl)
theorem dX2_line_240 : decode cX2_line 240 = .ok (.invokevirtual 150, 3) := dk_182 0 150 (dk_at dksX2_line_9 8 rfl rfl)
theorem dX2_line_243 : decode cX2_line 243 = .ok (.goto 44, 3) := dk_167 0 44 (dk_at dksX2_line_9 11 rfl rfl)
theorem dX2_line_246 : decode cX2_line 246 = .ok (.aload_n 0, 1) := dk_42 (dk_at dksX2_line_9 14 rfl rfl)
theorem dX2_line_247 : decode cX2_line 247 = .ok (.invokevirtual 153, 3) := dk_182 0 153 (dk_at dksX2_line_9 15 rfl rfl)
theorem dX2_line_250 : decode cX2_line 250 = .ok (.goto 37, 3) := dk_167 0 37 (dk_at dksX2_line_9 18 rfl rfl)
theorem dX2_line_253 : decode cX2_line 253 = .ok (.aload_n 0, 1) := dk_42 (dk_at dksX2_line_9 21 rfl rfl)
theorem dX2_line_254 : decode cX2_line 254 = .ok (.invokevirtual 156, 3) := dk_182 0 156 (dk_at dksX2_line_10 0 rfl rfl)
theorem dX2_line_257 : decode cX2_line 257 = .ok (.goto 30, 3) := dk_167 0 30 (dk_at dksX2_line_10 3 rfl rfl)
theorem dX2_line_260 : decode cX2_line 260 = .ok (.aload_n 0, 1) := dk_42 (dk_at dksX2_line_10 6 rfl rfl)
theorem dX2_line_261 : decode cX2_line 261 = .ok (.invokevirtual 159, 3) := dk_182 0 159 (dk_at dksX2_line_10 7 rfl rfl)
theorem dX2_line_264 : decode cX2_line 264 = .ok (.goto 23, 3) := dk_167 0 23 (dk_at dksX2_line_10 10 rfl rfl)
theorem dX2_line_267 : decode cX2_line 267 = .ok (.aload_n 0, 1) := dk_42 (dk_at dksX2_line_10 13 rfl rfl)
theorem dX2_line_268 : decode cX2_line 268 = .ok (.invokevirtual 161, 3) := dk_182 0 161 (dk_at dksX2_line_10 14 rfl rfl)
theorem dX2_line_271 : decode cX2_line 271 = .ok (.goto 16, 3) := dk_167 0 16 (dk_at dksX2_line_10 17 rfl rfl)
theorem dX2_line_274 : decode cX2_line 274 = .ok (.aload_n 0, 1) := dk_42 (dk_at dksX2_line_10 20 rfl rfl)
theorem dX2_line_275 : decode cX2_line 275 = .ok (.invokevirtual 163, 3) := dk_182 0 163 (dk_at dksX2_line_10 21 rfl rfl)
theorem dX2_line_278 : decode cX2_line 278 = .ok (.goto 9, 3) := dk_167 0 9 (dk_at dksX2_line_11 0 rfl rfl)
theorem dX2_line_281 : decode cX2_line 281 = .ok (.aload_n 0, 1) := dk_42 (dk_at dksX2_line_11 3 rfl rfl)
theorem dX2_line_282 : decode cX2_line 282 = .ok (.iconst 1, 1) := dk_4 (dk_at dksX2_line_11 4 rfl rfl)
theorem dX2_line_283 : decode cX2_line 283 = .ok (.invokevirtual 82, 3) := dk_182 0 82 (dk_at dksX2_line_11 5 rfl rfl)
theorem dX2_line_286 : decode cX2_line 286 = .ok (.athrow, 1) := dk_191 (dk_at dksX2_line_11 8 rfl rfl)
theorem dX2_line_287 : decode cX2_line 287 = .ok (.return_, 1) := dk_177 (dk_at dksX2_line_11 9 rfl rfl)
abbrev cX2_fail : ByteArray := prog_16_method_2_code
def yX2_fail : MethodName := ⟨RX2, "fail", "(I)LLongerHalf$Refused;"⟩
def dkwX2_fail_0 : List UInt8 := [42, 180, 0, 12, 27, 42, 180, 0, 26, 182, 0, 30, 176]
abbrev dktX2_fail_0 : List UInt8 := dkwX2_fail_0 ++ []
theorem dksX2_fail_0 : cX2_fail.data.toList.drop 0 = dktX2_fail_0 := by decide +kernel
theorem dX2_fail_0 : decode cX2_fail 0 = .ok (.aload_n 0, 1) := dk_42 (dk_at dksX2_fail_0 0 rfl rfl)
theorem dX2_fail_1 : decode cX2_fail 1 = .ok (.getfield 12, 3) := dk_180 0 12 (dk_at dksX2_fail_0 1 rfl rfl)
theorem dX2_fail_4 : decode cX2_fail 4 = .ok (.iload_n 1, 1) := dk_27 (dk_at dksX2_fail_0 4 rfl rfl)
theorem dX2_fail_5 : decode cX2_fail 5 = .ok (.aload_n 0, 1) := dk_42 (dk_at dksX2_fail_0 5 rfl rfl)
theorem dX2_fail_6 : decode cX2_fail 6 = .ok (.getfield 26, 3) := dk_180 0 26 (dk_at dksX2_fail_0 6 rfl rfl)
theorem dX2_fail_9 : decode cX2_fail 9 = .ok (.invokevirtual 30, 3) := dk_182 0 30 (dk_at dksX2_fail_0 9 rfl rfl)
theorem dX2_fail_12 : decode cX2_fail 12 = .ok (.areturn, 1) := dk_176 (dk_at dksX2_fail_0 12 rfl rfl)
abbrev cX2_kitchenLine : ByteArray := prog_16_method_19_code
def yX2_kitchenLine : MethodName := ⟨RX2, "kitchenLine", "()V"⟩
def dkwX2_kitchenLine_4 : List UInt8 := [42, 180, 0, 111, 27, 181, 0, 134, 177]
abbrev dktX2_kitchenLine_4 : List UInt8 := dkwX2_kitchenLine_4 ++ []
def dkwX2_kitchenLine_3 : List UInt8 := [16, 99, 182, 0, 167, 181, 0, 180, 42, 180, 0, 111, 42, 18, 182, 3, 16, 99, 182, 0, 167, 181, 0, 184]
abbrev dktX2_kitchenLine_3 : List UInt8 := dkwX2_kitchenLine_3 ++ dktX2_kitchenLine_4
def dkwX2_kitchenLine_2 : List UInt8 := [180, 0, 111, 42, 18, 174, 3, 16, 99, 182, 0, 167, 181, 0, 176, 42, 180, 0, 111, 42, 18, 178, 3]
abbrev dktX2_kitchenLine_2 : List UInt8 := dkwX2_kitchenLine_2 ++ dktX2_kitchenLine_3
def dkwX2_kitchenLine_1 : List UInt8 := [42, 18, 165, 3, 16, 9, 182, 0, 167, 181, 0, 171, 42, 18, 173, 16, 25, 16, 60, 182, 0, 167, 60, 42]
abbrev dktX2_kitchenLine_1 : List UInt8 := dkwX2_kitchenLine_1 ++ dktX2_kitchenLine_2
def dkwX2_kitchenLine_0 : List UInt8 := [42, 180, 0, 111, 180, 0, 134, 158, 0, 9, 42, 6, 182, 0, 82, 191, 42, 182, 0, 75, 42, 180, 0, 111]
abbrev dktX2_kitchenLine_0 : List UInt8 := dkwX2_kitchenLine_0 ++ dktX2_kitchenLine_1
theorem dksX2_kitchenLine_0 : cX2_kitchenLine.data.toList.drop 0 = dktX2_kitchenLine_0 := by decide +kernel
theorem dksX2_kitchenLine_1 : cX2_kitchenLine.data.toList.drop 24 = dktX2_kitchenLine_1 := dk_seg dksX2_kitchenLine_0 24 rfl rfl
theorem dksX2_kitchenLine_2 : cX2_kitchenLine.data.toList.drop 48 = dktX2_kitchenLine_2 := dk_seg dksX2_kitchenLine_1 24 rfl rfl
theorem dksX2_kitchenLine_3 : cX2_kitchenLine.data.toList.drop 71 = dktX2_kitchenLine_3 := dk_seg dksX2_kitchenLine_2 23 rfl rfl
theorem dksX2_kitchenLine_4 : cX2_kitchenLine.data.toList.drop 95 = dktX2_kitchenLine_4 := dk_seg dksX2_kitchenLine_3 24 rfl rfl
theorem dX2_kitchenLine_0 : decode cX2_kitchenLine 0 = .ok (.aload_n 0, 1) := dk_42 (dk_at dksX2_kitchenLine_0 0 rfl rfl)
theorem dX2_kitchenLine_1 : decode cX2_kitchenLine 1 = .ok (.getfield 111, 3) := dk_180 0 111 (dk_at dksX2_kitchenLine_0 1 rfl rfl)
theorem dX2_kitchenLine_4 : decode cX2_kitchenLine 4 = .ok (.getfield 134, 3) := dk_180 0 134 (dk_at dksX2_kitchenLine_0 4 rfl rfl)
theorem dX2_kitchenLine_7 : decode cX2_kitchenLine 7 = .ok (.ifCond .le 9, 3) := dk_158 0 9 (dk_at dksX2_kitchenLine_0 7 rfl rfl)
theorem dX2_kitchenLine_10 : decode cX2_kitchenLine 10 = .ok (.aload_n 0, 1) := dk_42 (dk_at dksX2_kitchenLine_0 10 rfl rfl)
theorem dX2_kitchenLine_11 : decode cX2_kitchenLine 11 = .ok (.iconst 3, 1) := dk_6 (dk_at dksX2_kitchenLine_0 11 rfl rfl)
theorem dX2_kitchenLine_12 : decode cX2_kitchenLine 12 = .ok (.invokevirtual 82, 3) := dk_182 0 82 (dk_at dksX2_kitchenLine_0 12 rfl rfl)
theorem dX2_kitchenLine_15 : decode cX2_kitchenLine 15 = .ok (.athrow, 1) := dk_191 (dk_at dksX2_kitchenLine_0 15 rfl rfl)
theorem dX2_kitchenLine_16 : decode cX2_kitchenLine 16 = .ok (.aload_n 0, 1) := dk_42 (dk_at dksX2_kitchenLine_0 16 rfl rfl)
theorem dX2_kitchenLine_17 : decode cX2_kitchenLine 17 = .ok (.invokevirtual 75, 3) := dk_182 0 75 (dk_at dksX2_kitchenLine_0 17 rfl rfl)
theorem dX2_kitchenLine_20 : decode cX2_kitchenLine 20 = .ok (.aload_n 0, 1) := dk_42 (dk_at dksX2_kitchenLine_0 20 rfl rfl)
theorem dX2_kitchenLine_21 : decode cX2_kitchenLine 21 = .ok (.getfield 111, 3) := dk_180 0 111 (dk_at dksX2_kitchenLine_0 21 rfl rfl)
theorem dX2_kitchenLine_24 : decode cX2_kitchenLine 24 = .ok (.aload_n 0, 1) := dk_42 (dk_at dksX2_kitchenLine_1 0 rfl rfl)
theorem dX2_kitchenLine_25 : decode cX2_kitchenLine 25 = .ok (.ldc 165, 2) := dk_18 165 (dk_at dksX2_kitchenLine_1 1 rfl rfl)
theorem dX2_kitchenLine_27 : decode cX2_kitchenLine 27 = .ok (.iconst 0, 1) := dk_3 (dk_at dksX2_kitchenLine_1 3 rfl rfl)
theorem dX2_kitchenLine_28 : decode cX2_kitchenLine 28 = .ok (.bipush 9, 2) := dk_16 9 (dk_at dksX2_kitchenLine_1 4 rfl rfl)
theorem dX2_kitchenLine_30 : decode cX2_kitchenLine 30 = .ok (.invokevirtual 167, 3) := dk_182 0 167 (dk_at dksX2_kitchenLine_1 6 rfl rfl)
theorem dX2_kitchenLine_33 : decode cX2_kitchenLine 33 = .ok (.putfield 171, 3) := dk_181 0 171 (dk_at dksX2_kitchenLine_1 9 rfl rfl)
theorem dX2_kitchenLine_36 : decode cX2_kitchenLine 36 = .ok (.aload_n 0, 1) := dk_42 (dk_at dksX2_kitchenLine_1 12 rfl rfl)
theorem dX2_kitchenLine_37 : decode cX2_kitchenLine 37 = .ok (.ldc 173, 2) := dk_18 173 (dk_at dksX2_kitchenLine_1 13 rfl rfl)
theorem dX2_kitchenLine_39 : decode cX2_kitchenLine 39 = .ok (.bipush 25, 2) := dk_16 25 (dk_at dksX2_kitchenLine_1 15 rfl rfl)
theorem dX2_kitchenLine_41 : decode cX2_kitchenLine 41 = .ok (.bipush 60, 2) := dk_16 60 (dk_at dksX2_kitchenLine_1 17 rfl rfl)
theorem dX2_kitchenLine_43 : decode cX2_kitchenLine 43 = .ok (.invokevirtual 167, 3) := dk_182 0 167 (dk_at dksX2_kitchenLine_1 19 rfl rfl)
theorem dX2_kitchenLine_46 : decode cX2_kitchenLine 46 = .ok (.istore_n 1, 1) := dk_60 (dk_at dksX2_kitchenLine_1 22 rfl rfl)
theorem dX2_kitchenLine_47 : decode cX2_kitchenLine 47 = .ok (.aload_n 0, 1) := dk_42 (dk_at dksX2_kitchenLine_1 23 rfl rfl)
theorem dX2_kitchenLine_48 : decode cX2_kitchenLine 48 = .ok (.getfield 111, 3) := dk_180 0 111 (dk_at dksX2_kitchenLine_2 0 rfl rfl)
theorem dX2_kitchenLine_51 : decode cX2_kitchenLine 51 = .ok (.aload_n 0, 1) := dk_42 (dk_at dksX2_kitchenLine_2 3 rfl rfl)
theorem dX2_kitchenLine_52 : decode cX2_kitchenLine 52 = .ok (.ldc 174, 2) := dk_18 174 (dk_at dksX2_kitchenLine_2 4 rfl rfl)
theorem dX2_kitchenLine_54 : decode cX2_kitchenLine 54 = .ok (.iconst 0, 1) := dk_3 (dk_at dksX2_kitchenLine_2 6 rfl rfl)
theorem dX2_kitchenLine_55 : decode cX2_kitchenLine 55 = .ok (.bipush 99, 2) := dk_16 99 (dk_at dksX2_kitchenLine_2 7 rfl rfl)
theorem dX2_kitchenLine_57 : decode cX2_kitchenLine 57 = .ok (.invokevirtual 167, 3) := dk_182 0 167 (dk_at dksX2_kitchenLine_2 9 rfl rfl)
theorem dX2_kitchenLine_60 : decode cX2_kitchenLine 60 = .ok (.putfield 176, 3) := dk_181 0 176 (dk_at dksX2_kitchenLine_2 12 rfl rfl)
theorem dX2_kitchenLine_63 : decode cX2_kitchenLine 63 = .ok (.aload_n 0, 1) := dk_42 (dk_at dksX2_kitchenLine_2 15 rfl rfl)
theorem dX2_kitchenLine_64 : decode cX2_kitchenLine 64 = .ok (.getfield 111, 3) := dk_180 0 111 (dk_at dksX2_kitchenLine_2 16 rfl rfl)
theorem dX2_kitchenLine_67 : decode cX2_kitchenLine 67 = .ok (.aload_n 0, 1) := dk_42 (dk_at dksX2_kitchenLine_2 19 rfl rfl)
theorem dX2_kitchenLine_68 : decode cX2_kitchenLine 68 = .ok (.ldc 178, 2) := dk_18 178 (dk_at dksX2_kitchenLine_2 20 rfl rfl)
theorem dX2_kitchenLine_70 : decode cX2_kitchenLine 70 = .ok (.iconst 0, 1) := dk_3 (dk_at dksX2_kitchenLine_2 22 rfl rfl)
theorem dX2_kitchenLine_71 : decode cX2_kitchenLine 71 = .ok (.bipush 99, 2) := dk_16 99 (dk_at dksX2_kitchenLine_3 0 rfl rfl)
theorem dX2_kitchenLine_73 : decode cX2_kitchenLine 73 = .ok (.invokevirtual 167, 3) := dk_182 0 167 (dk_at dksX2_kitchenLine_3 2 rfl rfl)
theorem dX2_kitchenLine_76 : decode cX2_kitchenLine 76 = .ok (.putfield 180, 3) := dk_181 0 180 (dk_at dksX2_kitchenLine_3 5 rfl rfl)
theorem dX2_kitchenLine_79 : decode cX2_kitchenLine 79 = .ok (.aload_n 0, 1) := dk_42 (dk_at dksX2_kitchenLine_3 8 rfl rfl)
theorem dX2_kitchenLine_80 : decode cX2_kitchenLine 80 = .ok (.getfield 111, 3) := dk_180 0 111 (dk_at dksX2_kitchenLine_3 9 rfl rfl)
theorem dX2_kitchenLine_83 : decode cX2_kitchenLine 83 = .ok (.aload_n 0, 1) := dk_42 (dk_at dksX2_kitchenLine_3 12 rfl rfl)
theorem dX2_kitchenLine_84 : decode cX2_kitchenLine 84 = .ok (.ldc 182, 2) := dk_18 182 (dk_at dksX2_kitchenLine_3 13 rfl rfl)
theorem dX2_kitchenLine_86 : decode cX2_kitchenLine 86 = .ok (.iconst 0, 1) := dk_3 (dk_at dksX2_kitchenLine_3 15 rfl rfl)
theorem dX2_kitchenLine_87 : decode cX2_kitchenLine 87 = .ok (.bipush 99, 2) := dk_16 99 (dk_at dksX2_kitchenLine_3 16 rfl rfl)
theorem dX2_kitchenLine_89 : decode cX2_kitchenLine 89 = .ok (.invokevirtual 167, 3) := dk_182 0 167 (dk_at dksX2_kitchenLine_3 18 rfl rfl)
theorem dX2_kitchenLine_92 : decode cX2_kitchenLine 92 = .ok (.putfield 184, 3) := dk_181 0 184 (dk_at dksX2_kitchenLine_3 21 rfl rfl)
theorem dX2_kitchenLine_95 : decode cX2_kitchenLine 95 = .ok (.aload_n 0, 1) := dk_42 (dk_at dksX2_kitchenLine_4 0 rfl rfl)
theorem dX2_kitchenLine_96 : decode cX2_kitchenLine 96 = .ok (.getfield 111, 3) := dk_180 0 111 (dk_at dksX2_kitchenLine_4 1 rfl rfl)
theorem dX2_kitchenLine_99 : decode cX2_kitchenLine 99 = .ok (.iload_n 1, 1) := dk_27 (dk_at dksX2_kitchenLine_4 4 rfl rfl)
theorem dX2_kitchenLine_100 : decode cX2_kitchenLine 100 = .ok (.putfield 134, 3) := dk_181 0 134 (dk_at dksX2_kitchenLine_4 5 rfl rfl)
theorem dX2_kitchenLine_103 : decode cX2_kitchenLine 103 = .ok (.return_, 1) := dk_177 (dk_at dksX2_kitchenLine_4 8 rfl rfl)
abbrev cX2_after : ByteArray := prog_16_method_15_code
def yX2_after : MethodName := ⟨RX2, "after", "(Ljava/lang/String;II)I"⟩
def dkwX2_after_0 : List UInt8 := [42, 43, 182, 0, 126, 42, 28, 29, 182, 0, 130, 172]
abbrev dktX2_after_0 : List UInt8 := dkwX2_after_0 ++ []
theorem dksX2_after_0 : cX2_after.data.toList.drop 0 = dktX2_after_0 := by decide +kernel
theorem dX2_after_0 : decode cX2_after 0 = .ok (.aload_n 0, 1) := dk_42 (dk_at dksX2_after_0 0 rfl rfl)
theorem dX2_after_1 : decode cX2_after 1 = .ok (.aload_n 1, 1) := dk_43 (dk_at dksX2_after_0 1 rfl rfl)
theorem dX2_after_2 : decode cX2_after 2 = .ok (.invokevirtual 126, 3) := dk_182 0 126 (dk_at dksX2_after_0 2 rfl rfl)
theorem dX2_after_5 : decode cX2_after 5 = .ok (.aload_n 0, 1) := dk_42 (dk_at dksX2_after_0 5 rfl rfl)
theorem dX2_after_6 : decode cX2_after 6 = .ok (.iload_n 2, 1) := dk_28 (dk_at dksX2_after_0 6 rfl rfl)
theorem dX2_after_7 : decode cX2_after 7 = .ok (.iload_n 3, 1) := dk_29 (dk_at dksX2_after_0 7 rfl rfl)
theorem dX2_after_8 : decode cX2_after 8 = .ok (.invokevirtual 130, 3) := dk_182 0 130 (dk_at dksX2_after_0 8 rfl rfl)
theorem dX2_after_11 : decode cX2_after 11 = .ok (.ireturn, 1) := dk_172 (dk_at dksX2_after_0 11 rfl rfl)
abbrev cX2_must : ByteArray := prog_16_method_8_code
def yX2_must : MethodName := ⟨RX2, "must", "(Ljava/lang/String;)V"⟩
def dkwX2_must_0 : List UInt8 := [42, 43, 182, 0, 78, 154, 0, 9, 42, 4, 182, 0, 82, 191, 177]
abbrev dktX2_must_0 : List UInt8 := dkwX2_must_0 ++ []
theorem dksX2_must_0 : cX2_must.data.toList.drop 0 = dktX2_must_0 := by decide +kernel
theorem dX2_must_0 : decode cX2_must 0 = .ok (.aload_n 0, 1) := dk_42 (dk_at dksX2_must_0 0 rfl rfl)
theorem dX2_must_1 : decode cX2_must 1 = .ok (.aload_n 1, 1) := dk_43 (dk_at dksX2_must_0 1 rfl rfl)
theorem dX2_must_2 : decode cX2_must 2 = .ok (.invokevirtual 78, 3) := dk_182 0 78 (dk_at dksX2_must_0 2 rfl rfl)
theorem dX2_must_5 : decode cX2_must 5 = .ok (.ifCond .ne 9, 3) := dk_154 0 9 (dk_at dksX2_must_0 5 rfl rfl)
theorem dX2_must_8 : decode cX2_must 8 = .ok (.aload_n 0, 1) := dk_42 (dk_at dksX2_must_0 8 rfl rfl)
theorem dX2_must_9 : decode cX2_must 9 = .ok (.iconst 1, 1) := dk_4 (dk_at dksX2_must_0 9 rfl rfl)
theorem dX2_must_10 : decode cX2_must 10 = .ok (.invokevirtual 82, 3) := dk_182 0 82 (dk_at dksX2_must_0 10 rfl rfl)
theorem dX2_must_13 : decode cX2_must 13 = .ok (.athrow, 1) := dk_191 (dk_at dksX2_must_0 13 rfl rfl)
theorem dX2_must_14 : decode cX2_must 14 = .ok (.return_, 1) := dk_177 (dk_at dksX2_must_0 14 rfl rfl)
abbrev cX2_takes : ByteArray := prog_16_method_7_code
def yX2_takes : MethodName := ⟨RX2, "takes", "(Ljava/lang/String;)Z"⟩
def dkwX2_takes_1 : List UInt8 := [182, 0, 75, 4, 172]
abbrev dktX2_takes_1 : List UInt8 := dkwX2_takes_1 ++ []
def dkwX2_takes_0 : List UInt8 := [42, 180, 0, 47, 5, 160, 0, 14, 42, 180, 0, 61, 43, 182, 0, 71, 154, 0, 5, 3, 172, 42]
abbrev dktX2_takes_0 : List UInt8 := dkwX2_takes_0 ++ dktX2_takes_1
theorem dksX2_takes_0 : cX2_takes.data.toList.drop 0 = dktX2_takes_0 := by decide +kernel
theorem dksX2_takes_1 : cX2_takes.data.toList.drop 22 = dktX2_takes_1 := dk_seg dksX2_takes_0 22 rfl rfl
theorem dX2_takes_0 : decode cX2_takes 0 = .ok (.aload_n 0, 1) := dk_42 (dk_at dksX2_takes_0 0 rfl rfl)
theorem dX2_takes_1 : decode cX2_takes 1 = .ok (.getfield 47, 3) := dk_180 0 47 (dk_at dksX2_takes_0 1 rfl rfl)
theorem dX2_takes_4 : decode cX2_takes 4 = .ok (.iconst 2, 1) := dk_5 (dk_at dksX2_takes_0 4 rfl rfl)
theorem dX2_takes_5 : decode cX2_takes 5 = .ok (.if_icmp .ne 14, 3) := dk_160 0 14 (dk_at dksX2_takes_0 5 rfl rfl)
theorem dX2_takes_8 : decode cX2_takes 8 = .ok (.aload_n 0, 1) := dk_42 (dk_at dksX2_takes_0 8 rfl rfl)
theorem dX2_takes_9 : decode cX2_takes 9 = .ok (.getfield 61, 3) := dk_180 0 61 (dk_at dksX2_takes_0 9 rfl rfl)
theorem dX2_takes_12 : decode cX2_takes 12 = .ok (.aload_n 1, 1) := dk_43 (dk_at dksX2_takes_0 12 rfl rfl)
theorem dX2_takes_13 : decode cX2_takes 13 = .ok (.invokevirtual 71, 3) := dk_182 0 71 (dk_at dksX2_takes_0 13 rfl rfl)
theorem dX2_takes_16 : decode cX2_takes 16 = .ok (.ifCond .ne 5, 3) := dk_154 0 5 (dk_at dksX2_takes_0 16 rfl rfl)
theorem dX2_takes_19 : decode cX2_takes 19 = .ok (.iconst 0, 1) := dk_3 (dk_at dksX2_takes_0 19 rfl rfl)
theorem dX2_takes_20 : decode cX2_takes 20 = .ok (.ireturn, 1) := dk_172 (dk_at dksX2_takes_0 20 rfl rfl)
theorem dX2_takes_21 : decode cX2_takes 21 = .ok (.aload_n 0, 1) := dk_42 (dk_at dksX2_takes_0 21 rfl rfl)
theorem dX2_takes_22 : decode cX2_takes 22 = .ok (.invokevirtual 75, 3) := dk_182 0 75 (dk_at dksX2_takes_1 0 rfl rfl)
theorem dX2_takes_25 : decode cX2_takes 25 = .ok (.iconst 1, 1) := dk_4 (dk_at dksX2_takes_1 3 rfl rfl)
theorem dX2_takes_26 : decode cX2_takes 26 = .ok (.ireturn, 1) := dk_172 (dk_at dksX2_takes_1 4 rfl rfl)
abbrev cX2_number : ByteArray := prog_16_method_14_code
def yX2_number : MethodName := ⟨RX2, "number", "(II)I"⟩
def dkwX2_number_1 : List UInt8 := [154, 0, 9, 42, 7, 182, 0, 82, 191, 42, 180, 0, 68, 62, 42, 182, 0, 75, 29, 172]
abbrev dktX2_number_1 : List UInt8 := dkwX2_number_1 ++ []
def dkwX2_number_0 : List UInt8 := [42, 180, 0, 47, 6, 159, 0, 9, 42, 4, 182, 0, 82, 191, 42, 180, 0, 68, 27, 28, 184, 0, 36]
abbrev dktX2_number_0 : List UInt8 := dkwX2_number_0 ++ dktX2_number_1
theorem dksX2_number_0 : cX2_number.data.toList.drop 0 = dktX2_number_0 := by decide +kernel
theorem dksX2_number_1 : cX2_number.data.toList.drop 23 = dktX2_number_1 := dk_seg dksX2_number_0 23 rfl rfl
theorem dX2_number_0 : decode cX2_number 0 = .ok (.aload_n 0, 1) := dk_42 (dk_at dksX2_number_0 0 rfl rfl)
theorem dX2_number_1 : decode cX2_number 1 = .ok (.getfield 47, 3) := dk_180 0 47 (dk_at dksX2_number_0 1 rfl rfl)
theorem dX2_number_4 : decode cX2_number 4 = .ok (.iconst 3, 1) := dk_6 (dk_at dksX2_number_0 4 rfl rfl)
theorem dX2_number_5 : decode cX2_number 5 = .ok (.if_icmp .eq 9, 3) := dk_159 0 9 (dk_at dksX2_number_0 5 rfl rfl)
theorem dX2_number_8 : decode cX2_number 8 = .ok (.aload_n 0, 1) := dk_42 (dk_at dksX2_number_0 8 rfl rfl)
theorem dX2_number_9 : decode cX2_number 9 = .ok (.iconst 1, 1) := dk_4 (dk_at dksX2_number_0 9 rfl rfl)
theorem dX2_number_10 : decode cX2_number 10 = .ok (.invokevirtual 82, 3) := dk_182 0 82 (dk_at dksX2_number_0 10 rfl rfl)
theorem dX2_number_13 : decode cX2_number 13 = .ok (.athrow, 1) := dk_191 (dk_at dksX2_number_0 13 rfl rfl)
theorem dX2_number_14 : decode cX2_number 14 = .ok (.aload_n 0, 1) := dk_42 (dk_at dksX2_number_0 14 rfl rfl)
theorem dX2_number_15 : decode cX2_number 15 = .ok (.getfield 68, 3) := dk_180 0 68 (dk_at dksX2_number_0 15 rfl rfl)
theorem dX2_number_18 : decode cX2_number 18 = .ok (.iload_n 1, 1) := dk_27 (dk_at dksX2_number_0 18 rfl rfl)
theorem dX2_number_19 : decode cX2_number 19 = .ok (.iload_n 2, 1) := dk_28 (dk_at dksX2_number_0 19 rfl rfl)
theorem dX2_number_20 : decode cX2_number 20 = .ok (.invokestatic 36, 3) := dk_184 0 36 (dk_at dksX2_number_0 20 rfl rfl)
theorem dX2_number_23 : decode cX2_number 23 = .ok (.ifCond .ne 9, 3) := dk_154 0 9 (dk_at dksX2_number_1 0 rfl rfl)
theorem dX2_number_26 : decode cX2_number 26 = .ok (.aload_n 0, 1) := dk_42 (dk_at dksX2_number_1 3 rfl rfl)
theorem dX2_number_27 : decode cX2_number 27 = .ok (.iconst 4, 1) := dk_7 (dk_at dksX2_number_1 4 rfl rfl)
theorem dX2_number_28 : decode cX2_number 28 = .ok (.invokevirtual 82, 3) := dk_182 0 82 (dk_at dksX2_number_1 5 rfl rfl)
theorem dX2_number_31 : decode cX2_number 31 = .ok (.athrow, 1) := dk_191 (dk_at dksX2_number_1 8 rfl rfl)
theorem dX2_number_32 : decode cX2_number 32 = .ok (.aload_n 0, 1) := dk_42 (dk_at dksX2_number_1 9 rfl rfl)
theorem dX2_number_33 : decode cX2_number 33 = .ok (.getfield 68, 3) := dk_180 0 68 (dk_at dksX2_number_1 10 rfl rfl)
theorem dX2_number_36 : decode cX2_number 36 = .ok (.istore_n 3, 1) := dk_62 (dk_at dksX2_number_1 13 rfl rfl)
theorem dX2_number_37 : decode cX2_number 37 = .ok (.aload_n 0, 1) := dk_42 (dk_at dksX2_number_1 14 rfl rfl)
theorem dX2_number_38 : decode cX2_number 38 = .ok (.invokevirtual 75, 3) := dk_182 0 75 (dk_at dksX2_number_1 15 rfl rfl)
theorem dX2_number_41 : decode cX2_number 41 = .ok (.iload_n 3, 1) := dk_29 (dk_at dksX2_number_1 18 rfl rfl)
theorem dX2_number_42 : decode cX2_number 42 = .ok (.ireturn, 1) := dk_172 (dk_at dksX2_number_1 19 rfl rfl)
abbrev cX2_boneLine : ByteArray := prog_16_method_22_code
def yX2_boneLine : MethodName := ⟨RX2, "boneLine", "()V"⟩
def dkwX2_boneLine_4 : List UInt8 := [181, 0, 141, 177]
abbrev dktX2_boneLine_4 : List UInt8 := dkwX2_boneLine_4 ++ []
def dkwX2_boneLine_3 : List UInt8 := [180, 0, 235, 42, 180, 0, 111, 180, 0, 141, 43, 83, 42, 180, 0, 111, 89, 180, 0, 141, 4, 96]
abbrev dktX2_boneLine_3 : List UInt8 := dkwX2_boneLine_3 ++ dktX2_boneLine_4
def dkwX2_boneLine_2 : List UInt8 := [181, 0, 229, 42, 43, 3, 18, 104, 182, 0, 231, 42, 43, 4, 18, 106, 182, 0, 231, 42, 180, 0, 111]
abbrev dktX2_boneLine_2 : List UInt8 := dkwX2_boneLine_2 ++ dktX2_boneLine_3
def dkwX2_boneLine_1 : List UInt8 := [182, 0, 219, 42, 180, 0, 111, 180, 0, 141, 182, 0, 223, 76, 43, 42, 18, 227, 3, 16, 24, 182, 0, 167]
abbrev dktX2_boneLine_1 : List UInt8 := dkwX2_boneLine_1 ++ dktX2_boneLine_2
def dkwX2_boneLine_0 : List UInt8 := [42, 42, 180, 0, 111, 180, 0, 141, 8, 162, 0, 7, 4, 167, 0, 4, 3, 182, 0, 215, 42, 42]
abbrev dktX2_boneLine_0 : List UInt8 := dkwX2_boneLine_0 ++ dktX2_boneLine_1
theorem dksX2_boneLine_0 : cX2_boneLine.data.toList.drop 0 = dktX2_boneLine_0 := by decide +kernel
theorem dksX2_boneLine_1 : cX2_boneLine.data.toList.drop 22 = dktX2_boneLine_1 := dk_seg dksX2_boneLine_0 22 rfl rfl
theorem dksX2_boneLine_2 : cX2_boneLine.data.toList.drop 46 = dktX2_boneLine_2 := dk_seg dksX2_boneLine_1 24 rfl rfl
theorem dksX2_boneLine_3 : cX2_boneLine.data.toList.drop 69 = dktX2_boneLine_3 := dk_seg dksX2_boneLine_2 23 rfl rfl
theorem dksX2_boneLine_4 : cX2_boneLine.data.toList.drop 91 = dktX2_boneLine_4 := dk_seg dksX2_boneLine_3 22 rfl rfl
theorem dX2_boneLine_0 : decode cX2_boneLine 0 = .ok (.aload_n 0, 1) := dk_42 (dk_at dksX2_boneLine_0 0 rfl rfl)
theorem dX2_boneLine_1 : decode cX2_boneLine 1 = .ok (.aload_n 0, 1) := dk_42 (dk_at dksX2_boneLine_0 1 rfl rfl)
theorem dX2_boneLine_2 : decode cX2_boneLine 2 = .ok (.getfield 111, 3) := dk_180 0 111 (dk_at dksX2_boneLine_0 2 rfl rfl)
theorem dX2_boneLine_5 : decode cX2_boneLine 5 = .ok (.getfield 141, 3) := dk_180 0 141 (dk_at dksX2_boneLine_0 5 rfl rfl)
theorem dX2_boneLine_8 : decode cX2_boneLine 8 = .ok (.iconst 5, 1) := dk_8 (dk_at dksX2_boneLine_0 8 rfl rfl)
theorem dX2_boneLine_9 : decode cX2_boneLine 9 = .ok (.if_icmp .ge 7, 3) := dk_162 0 7 (dk_at dksX2_boneLine_0 9 rfl rfl)
theorem dX2_boneLine_12 : decode cX2_boneLine 12 = .ok (.iconst 1, 1) := dk_4 (dk_at dksX2_boneLine_0 12 rfl rfl)
theorem dX2_boneLine_13 : decode cX2_boneLine 13 = .ok (.goto 4, 3) := dk_167 0 4 (dk_at dksX2_boneLine_0 13 rfl rfl)
theorem dX2_boneLine_16 : decode cX2_boneLine 16 = .ok (.iconst 0, 1) := dk_3 (dk_at dksX2_boneLine_0 16 rfl rfl)
theorem dX2_boneLine_17 : decode cX2_boneLine 17 = .ok (.invokevirtual 215, 3) := dk_182 0 215 (dk_at dksX2_boneLine_0 17 rfl rfl)
theorem dX2_boneLine_20 : decode cX2_boneLine 20 = .ok (.aload_n 0, 1) := dk_42 (dk_at dksX2_boneLine_0 20 rfl rfl)
theorem dX2_boneLine_21 : decode cX2_boneLine 21 = .ok (.aload_n 0, 1) := dk_42 (dk_at dksX2_boneLine_0 21 rfl rfl)
theorem dX2_boneLine_22 : decode cX2_boneLine 22 = .ok (.invokevirtual 219, 3) := dk_182 0 219 (dk_at dksX2_boneLine_1 0 rfl rfl)
theorem dX2_boneLine_25 : decode cX2_boneLine 25 = .ok (.aload_n 0, 1) := dk_42 (dk_at dksX2_boneLine_1 3 rfl rfl)
theorem dX2_boneLine_26 : decode cX2_boneLine 26 = .ok (.getfield 111, 3) := dk_180 0 111 (dk_at dksX2_boneLine_1 4 rfl rfl)
theorem dX2_boneLine_29 : decode cX2_boneLine 29 = .ok (.getfield 141, 3) := dk_180 0 141 (dk_at dksX2_boneLine_1 7 rfl rfl)
theorem dX2_boneLine_32 : decode cX2_boneLine 32 = .ok (.invokevirtual 223, 3) := dk_182 0 223 (dk_at dksX2_boneLine_1 10 rfl rfl)
theorem dX2_boneLine_35 : decode cX2_boneLine 35 = .ok (.astore_n 1, 1) := dk_76 (dk_at dksX2_boneLine_1 13 rfl rfl)
theorem dX2_boneLine_36 : decode cX2_boneLine 36 = .ok (.aload_n 1, 1) := dk_43 (dk_at dksX2_boneLine_1 14 rfl rfl)
theorem dX2_boneLine_37 : decode cX2_boneLine 37 = .ok (.aload_n 0, 1) := dk_42 (dk_at dksX2_boneLine_1 15 rfl rfl)
theorem dX2_boneLine_38 : decode cX2_boneLine 38 = .ok (.ldc 227, 2) := dk_18 227 (dk_at dksX2_boneLine_1 16 rfl rfl)
theorem dX2_boneLine_40 : decode cX2_boneLine 40 = .ok (.iconst 0, 1) := dk_3 (dk_at dksX2_boneLine_1 18 rfl rfl)
theorem dX2_boneLine_41 : decode cX2_boneLine 41 = .ok (.bipush 24, 2) := dk_16 24 (dk_at dksX2_boneLine_1 19 rfl rfl)
theorem dX2_boneLine_43 : decode cX2_boneLine 43 = .ok (.invokevirtual 167, 3) := dk_182 0 167 (dk_at dksX2_boneLine_1 21 rfl rfl)
theorem dX2_boneLine_46 : decode cX2_boneLine 46 = .ok (.putfield 229, 3) := dk_181 0 229 (dk_at dksX2_boneLine_2 0 rfl rfl)
theorem dX2_boneLine_49 : decode cX2_boneLine 49 = .ok (.aload_n 0, 1) := dk_42 (dk_at dksX2_boneLine_2 3 rfl rfl)
theorem dX2_boneLine_50 : decode cX2_boneLine 50 = .ok (.aload_n 1, 1) := dk_43 (dk_at dksX2_boneLine_2 4 rfl rfl)
theorem dX2_boneLine_51 : decode cX2_boneLine 51 = .ok (.iconst 0, 1) := dk_3 (dk_at dksX2_boneLine_2 5 rfl rfl)
theorem dX2_boneLine_52 : decode cX2_boneLine 52 = .ok (.ldc 104, 2) := dk_18 104 (dk_at dksX2_boneLine_2 6 rfl rfl)
theorem dX2_boneLine_54 : decode cX2_boneLine 54 = .ok (.invokevirtual 231, 3) := dk_182 0 231 (dk_at dksX2_boneLine_2 8 rfl rfl)
theorem dX2_boneLine_57 : decode cX2_boneLine 57 = .ok (.aload_n 0, 1) := dk_42 (dk_at dksX2_boneLine_2 11 rfl rfl)
theorem dX2_boneLine_58 : decode cX2_boneLine 58 = .ok (.aload_n 1, 1) := dk_43 (dk_at dksX2_boneLine_2 12 rfl rfl)
theorem dX2_boneLine_59 : decode cX2_boneLine 59 = .ok (.iconst 1, 1) := dk_4 (dk_at dksX2_boneLine_2 13 rfl rfl)
theorem dX2_boneLine_60 : decode cX2_boneLine 60 = .ok (.ldc 106, 2) := dk_18 106 (dk_at dksX2_boneLine_2 14 rfl rfl)
theorem dX2_boneLine_62 : decode cX2_boneLine 62 = .ok (.invokevirtual 231, 3) := dk_182 0 231 (dk_at dksX2_boneLine_2 16 rfl rfl)
theorem dX2_boneLine_65 : decode cX2_boneLine 65 = .ok (.aload_n 0, 1) := dk_42 (dk_at dksX2_boneLine_2 19 rfl rfl)
theorem dX2_boneLine_66 : decode cX2_boneLine 66 = .ok (.getfield 111, 3) := dk_180 0 111 (dk_at dksX2_boneLine_2 20 rfl rfl)
theorem dX2_boneLine_69 : decode cX2_boneLine 69 = .ok (.getfield 235, 3) := dk_180 0 235 (dk_at dksX2_boneLine_3 0 rfl rfl)
theorem dX2_boneLine_72 : decode cX2_boneLine 72 = .ok (.aload_n 0, 1) := dk_42 (dk_at dksX2_boneLine_3 3 rfl rfl)
theorem dX2_boneLine_73 : decode cX2_boneLine 73 = .ok (.getfield 111, 3) := dk_180 0 111 (dk_at dksX2_boneLine_3 4 rfl rfl)
theorem dX2_boneLine_76 : decode cX2_boneLine 76 = .ok (.getfield 141, 3) := dk_180 0 141 (dk_at dksX2_boneLine_3 7 rfl rfl)
theorem dX2_boneLine_79 : decode cX2_boneLine 79 = .ok (.aload_n 1, 1) := dk_43 (dk_at dksX2_boneLine_3 10 rfl rfl)
theorem dX2_boneLine_80 : decode cX2_boneLine 80 = .ok (.aastore, 1) := dk_83 (dk_at dksX2_boneLine_3 11 rfl rfl)
theorem dX2_boneLine_81 : decode cX2_boneLine 81 = .ok (.aload_n 0, 1) := dk_42 (dk_at dksX2_boneLine_3 12 rfl rfl)
theorem dX2_boneLine_82 : decode cX2_boneLine 82 = .ok (.getfield 111, 3) := dk_180 0 111 (dk_at dksX2_boneLine_3 13 rfl rfl)
theorem dX2_boneLine_85 : decode cX2_boneLine 85 = .ok (.dup, 1) := dk_89 (dk_at dksX2_boneLine_3 16 rfl rfl)
theorem dX2_boneLine_86 : decode cX2_boneLine 86 = .ok (.getfield 141, 3) := dk_180 0 141 (dk_at dksX2_boneLine_3 17 rfl rfl)
theorem dX2_boneLine_89 : decode cX2_boneLine 89 = .ok (.iconst 1, 1) := dk_4 (dk_at dksX2_boneLine_3 20 rfl rfl)
theorem dX2_boneLine_90 : decode cX2_boneLine 90 = .ok (.iadd, 1) := dk_96 (dk_at dksX2_boneLine_3 21 rfl rfl)
theorem dX2_boneLine_91 : decode cX2_boneLine 91 = .ok (.putfield 141, 3) := dk_181 0 141 (dk_at dksX2_boneLine_4 0 rfl rfl)
theorem dX2_boneLine_94 : decode cX2_boneLine 94 = .ok (.return_, 1) := dk_177 (dk_at dksX2_boneLine_4 3 rfl rfl)
abbrev cX2_begins : ByteArray := prog_16_method_16_code
def yX2_begins : MethodName := ⟨RX2, "begins", "(Z)V"⟩
def dkwX2_begins_1 : List UInt8 := [182, 0, 82, 191, 42, 182, 0, 75, 177]
abbrev dktX2_begins_1 : List UInt8 := dkwX2_begins_1 ++ []
def dkwX2_begins_0 : List UInt8 := [27, 154, 0, 9, 42, 8, 182, 0, 82, 191, 42, 180, 0, 111, 180, 0, 134, 154, 0, 10, 42, 16, 6]
abbrev dktX2_begins_0 : List UInt8 := dkwX2_begins_0 ++ dktX2_begins_1
theorem dksX2_begins_0 : cX2_begins.data.toList.drop 0 = dktX2_begins_0 := by decide +kernel
theorem dksX2_begins_1 : cX2_begins.data.toList.drop 23 = dktX2_begins_1 := dk_seg dksX2_begins_0 23 rfl rfl
theorem dX2_begins_0 : decode cX2_begins 0 = .ok (.iload_n 1, 1) := dk_27 (dk_at dksX2_begins_0 0 rfl rfl)
theorem dX2_begins_1 : decode cX2_begins 1 = .ok (.ifCond .ne 9, 3) := dk_154 0 9 (dk_at dksX2_begins_0 1 rfl rfl)
theorem dX2_begins_4 : decode cX2_begins 4 = .ok (.aload_n 0, 1) := dk_42 (dk_at dksX2_begins_0 4 rfl rfl)
theorem dX2_begins_5 : decode cX2_begins 5 = .ok (.iconst 5, 1) := dk_8 (dk_at dksX2_begins_0 5 rfl rfl)
theorem dX2_begins_6 : decode cX2_begins 6 = .ok (.invokevirtual 82, 3) := dk_182 0 82 (dk_at dksX2_begins_0 6 rfl rfl)
theorem dX2_begins_9 : decode cX2_begins 9 = .ok (.athrow, 1) := dk_191 (dk_at dksX2_begins_0 9 rfl rfl)
theorem dX2_begins_10 : decode cX2_begins 10 = .ok (.aload_n 0, 1) := dk_42 (dk_at dksX2_begins_0 10 rfl rfl)
theorem dX2_begins_11 : decode cX2_begins 11 = .ok (.getfield 111, 3) := dk_180 0 111 (dk_at dksX2_begins_0 11 rfl rfl)
theorem dX2_begins_14 : decode cX2_begins 14 = .ok (.getfield 134, 3) := dk_180 0 134 (dk_at dksX2_begins_0 14 rfl rfl)
theorem dX2_begins_17 : decode cX2_begins 17 = .ok (.ifCond .ne 10, 3) := dk_154 0 10 (dk_at dksX2_begins_0 17 rfl rfl)
theorem dX2_begins_20 : decode cX2_begins 20 = .ok (.aload_n 0, 1) := dk_42 (dk_at dksX2_begins_0 20 rfl rfl)
theorem dX2_begins_21 : decode cX2_begins 21 = .ok (.bipush 6, 2) := dk_16 6 (dk_at dksX2_begins_0 21 rfl rfl)
theorem dX2_begins_23 : decode cX2_begins 23 = .ok (.invokevirtual 82, 3) := dk_182 0 82 (dk_at dksX2_begins_1 0 rfl rfl)
theorem dX2_begins_26 : decode cX2_begins 26 = .ok (.athrow, 1) := dk_191 (dk_at dksX2_begins_1 3 rfl rfl)
theorem dX2_begins_27 : decode cX2_begins 27 = .ok (.aload_n 0, 1) := dk_42 (dk_at dksX2_begins_1 4 rfl rfl)
theorem dX2_begins_28 : decode cX2_begins 28 = .ok (.invokevirtual 75, 3) := dk_182 0 75 (dk_at dksX2_begins_1 5 rfl rfl)
theorem dX2_begins_31 : decode cX2_begins 31 = .ok (.return_, 1) := dk_177 (dk_at dksX2_begins_1 8 rfl rfl)
abbrev cX2_newName : ByteArray := prog_16_method_11_code
def yX2_newName : MethodName := ⟨RX2, "newName", "()Ljava/lang/String;"⟩
def dkwX2_newName_1 : List UInt8 := [42, 180, 0, 61, 76, 42, 182, 0, 75, 43, 176]
abbrev dktX2_newName_1 : List UInt8 := dkwX2_newName_1 ++ []
def dkwX2_newName_0 : List UInt8 := [42, 182, 0, 108, 42, 180, 0, 111, 42, 180, 0, 61, 182, 0, 114, 198, 0, 9, 42, 6, 182, 0, 82, 191]
abbrev dktX2_newName_0 : List UInt8 := dkwX2_newName_0 ++ dktX2_newName_1
theorem dksX2_newName_0 : cX2_newName.data.toList.drop 0 = dktX2_newName_0 := by decide +kernel
theorem dksX2_newName_1 : cX2_newName.data.toList.drop 24 = dktX2_newName_1 := dk_seg dksX2_newName_0 24 rfl rfl
theorem dX2_newName_0 : decode cX2_newName 0 = .ok (.aload_n 0, 1) := dk_42 (dk_at dksX2_newName_0 0 rfl rfl)
theorem dX2_newName_1 : decode cX2_newName 1 = .ok (.invokevirtual 108, 3) := dk_182 0 108 (dk_at dksX2_newName_0 1 rfl rfl)
theorem dX2_newName_4 : decode cX2_newName 4 = .ok (.aload_n 0, 1) := dk_42 (dk_at dksX2_newName_0 4 rfl rfl)
theorem dX2_newName_5 : decode cX2_newName 5 = .ok (.getfield 111, 3) := dk_180 0 111 (dk_at dksX2_newName_0 5 rfl rfl)
theorem dX2_newName_8 : decode cX2_newName 8 = .ok (.aload_n 0, 1) := dk_42 (dk_at dksX2_newName_0 8 rfl rfl)
theorem dX2_newName_9 : decode cX2_newName 9 = .ok (.getfield 61, 3) := dk_180 0 61 (dk_at dksX2_newName_0 9 rfl rfl)
theorem dX2_newName_12 : decode cX2_newName 12 = .ok (.invokevirtual 114, 3) := dk_182 0 114 (dk_at dksX2_newName_0 12 rfl rfl)
theorem dX2_newName_15 : decode cX2_newName 15 = .ok (.ifnull 9, 3) := dk_198 0 9 (dk_at dksX2_newName_0 15 rfl rfl)
theorem dX2_newName_18 : decode cX2_newName 18 = .ok (.aload_n 0, 1) := dk_42 (dk_at dksX2_newName_0 18 rfl rfl)
theorem dX2_newName_19 : decode cX2_newName 19 = .ok (.iconst 3, 1) := dk_6 (dk_at dksX2_newName_0 19 rfl rfl)
theorem dX2_newName_20 : decode cX2_newName 20 = .ok (.invokevirtual 82, 3) := dk_182 0 82 (dk_at dksX2_newName_0 20 rfl rfl)
theorem dX2_newName_23 : decode cX2_newName 23 = .ok (.athrow, 1) := dk_191 (dk_at dksX2_newName_0 23 rfl rfl)
theorem dX2_newName_24 : decode cX2_newName 24 = .ok (.aload_n 0, 1) := dk_42 (dk_at dksX2_newName_1 0 rfl rfl)
theorem dX2_newName_25 : decode cX2_newName 25 = .ok (.getfield 61, 3) := dk_180 0 61 (dk_at dksX2_newName_1 1 rfl rfl)
theorem dX2_newName_28 : decode cX2_newName 28 = .ok (.astore_n 1, 1) := dk_76 (dk_at dksX2_newName_1 4 rfl rfl)
theorem dX2_newName_29 : decode cX2_newName 29 = .ok (.aload_n 0, 1) := dk_42 (dk_at dksX2_newName_1 5 rfl rfl)
theorem dX2_newName_30 : decode cX2_newName 30 = .ok (.invokevirtual 75, 3) := dk_182 0 75 (dk_at dksX2_newName_1 6 rfl rfl)
theorem dX2_newName_33 : decode cX2_newName 33 = .ok (.aload_n 1, 1) := dk_43 (dk_at dksX2_newName_1 9 rfl rfl)
theorem dX2_newName_34 : decode cX2_newName 34 = .ok (.areturn, 1) := dk_176 (dk_at dksX2_newName_1 10 rfl rfl)
abbrev cX2_mustName : ByteArray := prog_16_method_10_code
def yX2_mustName : MethodName := ⟨RX2, "mustName", "()V"⟩
def dkwX2_mustName_10 : List UInt8 := [42, 4, 182, 0, 82, 191, 177]
abbrev dktX2_mustName_10 : List UInt8 := dkwX2_mustName_10 ++ []
def dkwX2_mustName_9 : List UInt8 := [170, 0, 0, 0, 55, 0, 0, 0, 0, 0, 0, 0, 8, 0, 0, 0, 49, 0, 0, 0, 49, 0, 0, 0, 49, 0, 0, 0, 49, 0, 0, 0, 49, 0, 0, 0, 49, 0, 0, 0, 49, 0, 0, 0, 49, 0, 0, 0, 49]
abbrev dktX2_mustName_9 : List UInt8 := dkwX2_mustName_9 ++ dktX2_mustName_10
def dkwX2_mustName_8 : List UInt8 := [182, 0, 71, 153, 0, 6, 16, 8, 61, 28]
abbrev dktX2_mustName_8 : List UInt8 := dkwX2_mustName_8 ++ dktX2_mustName_9
def dkwX2_mustName_7 : List UInt8 := [61, 167, 0, 30, 43, 18, 104, 182, 0, 71, 153, 0, 21, 16, 7, 61, 167, 0, 15, 43, 18, 106]
abbrev dktX2_mustName_7 : List UInt8 := dkwX2_mustName_7 ++ dktX2_mustName_8
def dkwX2_mustName_6 : List UInt8 := [18, 100, 182, 0, 71, 153, 0, 50, 8, 61, 167, 0, 45, 43, 18, 102, 182, 0, 71, 153, 0, 36, 16, 6]
abbrev dktX2_mustName_6 : List UInt8 := dkwX2_mustName_6 ++ dktX2_mustName_7
def dkwX2_mustName_5 : List UInt8 := [153, 0, 78, 6, 61, 167, 0, 73, 43, 18, 98, 182, 0, 71, 153, 0, 64, 7, 61, 167, 0, 59, 43]
abbrev dktX2_mustName_5 : List UInt8 := dkwX2_mustName_5 ++ dktX2_mustName_6
def dkwX2_mustName_4 : List UInt8 := [61, 167, 0, 101, 43, 18, 94, 182, 0, 71, 153, 0, 92, 5, 61, 167, 0, 87, 43, 18, 96, 182, 0, 71]
abbrev dktX2_mustName_4 : List UInt8 := dkwX2_mustName_4 ++ dktX2_mustName_5
def dkwX2_mustName_3 : List UInt8 := [43, 18, 90, 182, 0, 71, 153, 0, 120, 3, 61, 167, 0, 115, 43, 18, 92, 182, 0, 71, 153, 0, 106, 4]
abbrev dktX2_mustName_3 : List UInt8 := dkwX2_mustName_3 ++ dktX2_mustName_4
def dkwX2_mustName_2 : List UInt8 := [171, 0, 0, 0, 0, 0, 209, 0, 0, 0, 9, 174, 216, 182, 0, 0, 0, 0, 167, 196, 227, 155, 85, 0, 0, 0, 111, 213, 248, 215, 164, 0, 0, 0, 83, 0, 1, 140, 201, 0, 0, 0, 125, 0, 1, 204, 150, 0, 0, 0, 139, 0, 46, 58, 196, 0, 0, 0, 97, 0, 50, 160, 7, 0, 0, 0, 182, 6, 91, 138, 238, 0, 0, 0, 153, 6, 119, 194, 28, 0, 0, 0, 197]
abbrev dktX2_mustName_2 : List UInt8 := dkwX2_mustName_2 ++ dktX2_mustName_3
def dkwX2_mustName_1 : List UInt8 := [182, 0, 86]
abbrev dktX2_mustName_1 : List UInt8 := dkwX2_mustName_1 ++ dktX2_mustName_2
def dkwX2_mustName_0 : List UInt8 := [42, 180, 0, 47, 5, 159, 0, 9, 42, 4, 182, 0, 82, 191, 42, 180, 0, 61, 76, 2, 61, 43]
abbrev dktX2_mustName_0 : List UInt8 := dkwX2_mustName_0 ++ dktX2_mustName_1
theorem dksX2_mustName_0 : cX2_mustName.data.toList.drop 0 = dktX2_mustName_0 := by decide +kernel
theorem dksX2_mustName_1 : cX2_mustName.data.toList.drop 22 = dktX2_mustName_1 := dk_seg dksX2_mustName_0 22 rfl rfl
theorem dksX2_mustName_2 : cX2_mustName.data.toList.drop 25 = dktX2_mustName_2 := dk_seg dksX2_mustName_1 3 rfl rfl
theorem dksX2_mustName_3 : cX2_mustName.data.toList.drop 108 = dktX2_mustName_3 := dk_seg dksX2_mustName_2 83 rfl rfl
theorem dksX2_mustName_4 : cX2_mustName.data.toList.drop 132 = dktX2_mustName_4 := dk_seg dksX2_mustName_3 24 rfl rfl
theorem dksX2_mustName_5 : cX2_mustName.data.toList.drop 156 = dktX2_mustName_5 := dk_seg dksX2_mustName_4 24 rfl rfl
theorem dksX2_mustName_6 : cX2_mustName.data.toList.drop 179 = dktX2_mustName_6 := dk_seg dksX2_mustName_5 23 rfl rfl
theorem dksX2_mustName_7 : cX2_mustName.data.toList.drop 203 = dktX2_mustName_7 := dk_seg dksX2_mustName_6 24 rfl rfl
theorem dksX2_mustName_8 : cX2_mustName.data.toList.drop 225 = dktX2_mustName_8 := dk_seg dksX2_mustName_7 22 rfl rfl
theorem dksX2_mustName_9 : cX2_mustName.data.toList.drop 235 = dktX2_mustName_9 := dk_seg dksX2_mustName_8 10 rfl rfl
theorem dksX2_mustName_10 : cX2_mustName.data.toList.drop 284 = dktX2_mustName_10 := dk_seg dksX2_mustName_9 49 rfl rfl
theorem dX2_mustName_0 : decode cX2_mustName 0 = .ok (.aload_n 0, 1) := dk_42 (dk_at dksX2_mustName_0 0 rfl rfl)
theorem dX2_mustName_1 : decode cX2_mustName 1 = .ok (.getfield 47, 3) := dk_180 0 47 (dk_at dksX2_mustName_0 1 rfl rfl)
theorem dX2_mustName_4 : decode cX2_mustName 4 = .ok (.iconst 2, 1) := dk_5 (dk_at dksX2_mustName_0 4 rfl rfl)
theorem dX2_mustName_5 : decode cX2_mustName 5 = .ok (.if_icmp .eq 9, 3) := dk_159 0 9 (dk_at dksX2_mustName_0 5 rfl rfl)
theorem dX2_mustName_8 : decode cX2_mustName 8 = .ok (.aload_n 0, 1) := dk_42 (dk_at dksX2_mustName_0 8 rfl rfl)
theorem dX2_mustName_9 : decode cX2_mustName 9 = .ok (.iconst 1, 1) := dk_4 (dk_at dksX2_mustName_0 9 rfl rfl)
theorem dX2_mustName_10 : decode cX2_mustName 10 = .ok (.invokevirtual 82, 3) := dk_182 0 82 (dk_at dksX2_mustName_0 10 rfl rfl)
theorem dX2_mustName_13 : decode cX2_mustName 13 = .ok (.athrow, 1) := dk_191 (dk_at dksX2_mustName_0 13 rfl rfl)
theorem dX2_mustName_14 : decode cX2_mustName 14 = .ok (.aload_n 0, 1) := dk_42 (dk_at dksX2_mustName_0 14 rfl rfl)
theorem dX2_mustName_15 : decode cX2_mustName 15 = .ok (.getfield 61, 3) := dk_180 0 61 (dk_at dksX2_mustName_0 15 rfl rfl)
theorem dX2_mustName_18 : decode cX2_mustName 18 = .ok (.astore_n 1, 1) := dk_76 (dk_at dksX2_mustName_0 18 rfl rfl)
theorem dX2_mustName_19 : decode cX2_mustName 19 = .ok (.iconst (-1), 1) := dk_2 (dk_at dksX2_mustName_0 19 rfl rfl)
theorem dX2_mustName_20 : decode cX2_mustName 20 = .ok (.istore_n 2, 1) := dk_61 (dk_at dksX2_mustName_0 20 rfl rfl)
theorem dX2_mustName_21 : decode cX2_mustName 21 = .ok (.aload_n 1, 1) := dk_43 (dk_at dksX2_mustName_0 21 rfl rfl)
theorem dX2_mustName_22 : decode cX2_mustName 22 = .ok (.invokevirtual 86, 3) := dk_182 0 86 (dk_at dksX2_mustName_1 0 rfl rfl)
theorem dX2_mustName_25 : decode cX2_mustName 25 = .ok (.lookupswitch 209 #[(-1361529344, 167), (-991716523, 111), (-705112156, 83), (101577, 125), (117910, 139), (3029700, 97), (3317767, 182), (106662638, 153), (108511772, 197)], 83) := by decide +kernel
theorem dX2_mustName_108 : decode cX2_mustName 108 = .ok (.aload_n 1, 1) := dk_43 (dk_at dksX2_mustName_3 0 rfl rfl)
theorem dX2_mustName_109 : decode cX2_mustName 109 = .ok (.ldc 90, 2) := dk_18 90 (dk_at dksX2_mustName_3 1 rfl rfl)
theorem dX2_mustName_111 : decode cX2_mustName 111 = .ok (.invokevirtual 71, 3) := dk_182 0 71 (dk_at dksX2_mustName_3 3 rfl rfl)
theorem dX2_mustName_114 : decode cX2_mustName 114 = .ok (.ifCond .eq 120, 3) := dk_153 0 120 (dk_at dksX2_mustName_3 6 rfl rfl)
theorem dX2_mustName_117 : decode cX2_mustName 117 = .ok (.iconst 0, 1) := dk_3 (dk_at dksX2_mustName_3 9 rfl rfl)
theorem dX2_mustName_118 : decode cX2_mustName 118 = .ok (.istore_n 2, 1) := dk_61 (dk_at dksX2_mustName_3 10 rfl rfl)
theorem dX2_mustName_119 : decode cX2_mustName 119 = .ok (.goto 115, 3) := dk_167 0 115 (dk_at dksX2_mustName_3 11 rfl rfl)
theorem dX2_mustName_122 : decode cX2_mustName 122 = .ok (.aload_n 1, 1) := dk_43 (dk_at dksX2_mustName_3 14 rfl rfl)
theorem dX2_mustName_123 : decode cX2_mustName 123 = .ok (.ldc 92, 2) := dk_18 92 (dk_at dksX2_mustName_3 15 rfl rfl)
theorem dX2_mustName_125 : decode cX2_mustName 125 = .ok (.invokevirtual 71, 3) := dk_182 0 71 (dk_at dksX2_mustName_3 17 rfl rfl)
theorem dX2_mustName_128 : decode cX2_mustName 128 = .ok (.ifCond .eq 106, 3) := dk_153 0 106 (dk_at dksX2_mustName_3 20 rfl rfl)
theorem dX2_mustName_131 : decode cX2_mustName 131 = .ok (.iconst 1, 1) := dk_4 (dk_at dksX2_mustName_3 23 rfl rfl)
theorem dX2_mustName_132 : decode cX2_mustName 132 = .ok (.istore_n 2, 1) := dk_61 (dk_at dksX2_mustName_4 0 rfl rfl)
theorem dX2_mustName_133 : decode cX2_mustName 133 = .ok (.goto 101, 3) := dk_167 0 101 (dk_at dksX2_mustName_4 1 rfl rfl)
theorem dX2_mustName_136 : decode cX2_mustName 136 = .ok (.aload_n 1, 1) := dk_43 (dk_at dksX2_mustName_4 4 rfl rfl)
theorem dX2_mustName_137 : decode cX2_mustName 137 = .ok (.ldc 94, 2) := dk_18 94 (dk_at dksX2_mustName_4 5 rfl rfl)
theorem dX2_mustName_139 : decode cX2_mustName 139 = .ok (.invokevirtual 71, 3) := dk_182 0 71 (dk_at dksX2_mustName_4 7 rfl rfl)
theorem dX2_mustName_142 : decode cX2_mustName 142 = .ok (.ifCond .eq 92, 3) := dk_153 0 92 (dk_at dksX2_mustName_4 10 rfl rfl)
theorem dX2_mustName_145 : decode cX2_mustName 145 = .ok (.iconst 2, 1) := dk_5 (dk_at dksX2_mustName_4 13 rfl rfl)
theorem dX2_mustName_146 : decode cX2_mustName 146 = .ok (.istore_n 2, 1) := dk_61 (dk_at dksX2_mustName_4 14 rfl rfl)
theorem dX2_mustName_147 : decode cX2_mustName 147 = .ok (.goto 87, 3) := dk_167 0 87 (dk_at dksX2_mustName_4 15 rfl rfl)
theorem dX2_mustName_150 : decode cX2_mustName 150 = .ok (.aload_n 1, 1) := dk_43 (dk_at dksX2_mustName_4 18 rfl rfl)
theorem dX2_mustName_151 : decode cX2_mustName 151 = .ok (.ldc 96, 2) := dk_18 96 (dk_at dksX2_mustName_4 19 rfl rfl)
theorem dX2_mustName_153 : decode cX2_mustName 153 = .ok (.invokevirtual 71, 3) := dk_182 0 71 (dk_at dksX2_mustName_4 21 rfl rfl)
theorem dX2_mustName_156 : decode cX2_mustName 156 = .ok (.ifCond .eq 78, 3) := dk_153 0 78 (dk_at dksX2_mustName_5 0 rfl rfl)
theorem dX2_mustName_159 : decode cX2_mustName 159 = .ok (.iconst 3, 1) := dk_6 (dk_at dksX2_mustName_5 3 rfl rfl)
theorem dX2_mustName_160 : decode cX2_mustName 160 = .ok (.istore_n 2, 1) := dk_61 (dk_at dksX2_mustName_5 4 rfl rfl)
theorem dX2_mustName_161 : decode cX2_mustName 161 = .ok (.goto 73, 3) := dk_167 0 73 (dk_at dksX2_mustName_5 5 rfl rfl)
theorem dX2_mustName_164 : decode cX2_mustName 164 = .ok (.aload_n 1, 1) := dk_43 (dk_at dksX2_mustName_5 8 rfl rfl)
theorem dX2_mustName_165 : decode cX2_mustName 165 = .ok (.ldc 98, 2) := dk_18 98 (dk_at dksX2_mustName_5 9 rfl rfl)
theorem dX2_mustName_167 : decode cX2_mustName 167 = .ok (.invokevirtual 71, 3) := dk_182 0 71 (dk_at dksX2_mustName_5 11 rfl rfl)
theorem dX2_mustName_170 : decode cX2_mustName 170 = .ok (.ifCond .eq 64, 3) := dk_153 0 64 (dk_at dksX2_mustName_5 14 rfl rfl)
theorem dX2_mustName_173 : decode cX2_mustName 173 = .ok (.iconst 4, 1) := dk_7 (dk_at dksX2_mustName_5 17 rfl rfl)
theorem dX2_mustName_174 : decode cX2_mustName 174 = .ok (.istore_n 2, 1) := dk_61 (dk_at dksX2_mustName_5 18 rfl rfl)
theorem dX2_mustName_175 : decode cX2_mustName 175 = .ok (.goto 59, 3) := dk_167 0 59 (dk_at dksX2_mustName_5 19 rfl rfl)
theorem dX2_mustName_178 : decode cX2_mustName 178 = .ok (.aload_n 1, 1) := dk_43 (dk_at dksX2_mustName_5 22 rfl rfl)
theorem dX2_mustName_179 : decode cX2_mustName 179 = .ok (.ldc 100, 2) := dk_18 100 (dk_at dksX2_mustName_6 0 rfl rfl)
theorem dX2_mustName_181 : decode cX2_mustName 181 = .ok (.invokevirtual 71, 3) := dk_182 0 71 (dk_at dksX2_mustName_6 2 rfl rfl)
theorem dX2_mustName_184 : decode cX2_mustName 184 = .ok (.ifCond .eq 50, 3) := dk_153 0 50 (dk_at dksX2_mustName_6 5 rfl rfl)
theorem dX2_mustName_187 : decode cX2_mustName 187 = .ok (.iconst 5, 1) := dk_8 (dk_at dksX2_mustName_6 8 rfl rfl)
theorem dX2_mustName_188 : decode cX2_mustName 188 = .ok (.istore_n 2, 1) := dk_61 (dk_at dksX2_mustName_6 9 rfl rfl)
theorem dX2_mustName_189 : decode cX2_mustName 189 = .ok (.goto 45, 3) := dk_167 0 45 (dk_at dksX2_mustName_6 10 rfl rfl)
theorem dX2_mustName_192 : decode cX2_mustName 192 = .ok (.aload_n 1, 1) := dk_43 (dk_at dksX2_mustName_6 13 rfl rfl)
theorem dX2_mustName_193 : decode cX2_mustName 193 = .ok (.ldc 102, 2) := dk_18 102 (dk_at dksX2_mustName_6 14 rfl rfl)
theorem dX2_mustName_195 : decode cX2_mustName 195 = .ok (.invokevirtual 71, 3) := dk_182 0 71 (dk_at dksX2_mustName_6 16 rfl rfl)
theorem dX2_mustName_198 : decode cX2_mustName 198 = .ok (.ifCond .eq 36, 3) := dk_153 0 36 (dk_at dksX2_mustName_6 19 rfl rfl)
theorem dX2_mustName_201 : decode cX2_mustName 201 = .ok (.bipush 6, 2) := dk_16 6 (dk_at dksX2_mustName_6 22 rfl rfl)
theorem dX2_mustName_203 : decode cX2_mustName 203 = .ok (.istore_n 2, 1) := dk_61 (dk_at dksX2_mustName_7 0 rfl rfl)
theorem dX2_mustName_204 : decode cX2_mustName 204 = .ok (.goto 30, 3) := dk_167 0 30 (dk_at dksX2_mustName_7 1 rfl rfl)
theorem dX2_mustName_207 : decode cX2_mustName 207 = .ok (.aload_n 1, 1) := dk_43 (dk_at dksX2_mustName_7 4 rfl rfl)
theorem dX2_mustName_208 : decode cX2_mustName 208 = .ok (.ldc 104, 2) := dk_18 104 (dk_at dksX2_mustName_7 5 rfl rfl)
theorem dX2_mustName_210 : decode cX2_mustName 210 = .ok (.invokevirtual 71, 3) := dk_182 0 71 (dk_at dksX2_mustName_7 7 rfl rfl)
theorem dX2_mustName_213 : decode cX2_mustName 213 = .ok (.ifCond .eq 21, 3) := dk_153 0 21 (dk_at dksX2_mustName_7 10 rfl rfl)
theorem dX2_mustName_216 : decode cX2_mustName 216 = .ok (.bipush 7, 2) := dk_16 7 (dk_at dksX2_mustName_7 13 rfl rfl)
theorem dX2_mustName_218 : decode cX2_mustName 218 = .ok (.istore_n 2, 1) := dk_61 (dk_at dksX2_mustName_7 15 rfl rfl)
theorem dX2_mustName_219 : decode cX2_mustName 219 = .ok (.goto 15, 3) := dk_167 0 15 (dk_at dksX2_mustName_7 16 rfl rfl)
theorem dX2_mustName_222 : decode cX2_mustName 222 = .ok (.aload_n 1, 1) := dk_43 (dk_at dksX2_mustName_7 19 rfl rfl)
theorem dX2_mustName_223 : decode cX2_mustName 223 = .ok (.ldc 106, 2) := dk_18 106 (dk_at dksX2_mustName_7 20 rfl rfl)
theorem dX2_mustName_225 : decode cX2_mustName 225 = .ok (.invokevirtual 71, 3) := dk_182 0 71 (dk_at dksX2_mustName_8 0 rfl rfl)
theorem dX2_mustName_228 : decode cX2_mustName 228 = .ok (.ifCond .eq 6, 3) := dk_153 0 6 (dk_at dksX2_mustName_8 3 rfl rfl)
theorem dX2_mustName_231 : decode cX2_mustName 231 = .ok (.bipush 8, 2) := dk_16 8 (dk_at dksX2_mustName_8 6 rfl rfl)
theorem dX2_mustName_233 : decode cX2_mustName 233 = .ok (.istore_n 2, 1) := dk_61 (dk_at dksX2_mustName_8 8 rfl rfl)
theorem dX2_mustName_234 : decode cX2_mustName 234 = .ok (.iload_n 2, 1) := dk_28 (dk_at dksX2_mustName_8 9 rfl rfl)
theorem dX2_mustName_235 : decode cX2_mustName 235 = .ok (.tableswitch 55 0 8 #[49, 49, 49, 49, 49, 49, 49, 49, 49], 49) := by decide +kernel
theorem dX2_mustName_284 : decode cX2_mustName 284 = .ok (.aload_n 0, 1) := dk_42 (dk_at dksX2_mustName_10 0 rfl rfl)
theorem dX2_mustName_285 : decode cX2_mustName 285 = .ok (.iconst 1, 1) := dk_4 (dk_at dksX2_mustName_10 1 rfl rfl)
theorem dX2_mustName_286 : decode cX2_mustName 286 = .ok (.invokevirtual 82, 3) := dk_182 0 82 (dk_at dksX2_mustName_10 2 rfl rfl)
theorem dX2_mustName_289 : decode cX2_mustName 289 = .ok (.athrow, 1) := dk_191 (dk_at dksX2_mustName_10 5 rfl rfl)
theorem dX2_mustName_290 : decode cX2_mustName 290 = .ok (.return_, 1) := dk_177 (dk_at dksX2_mustName_10 6 rfl rfl)
abbrev cX2_boneOf : ByteArray := prog_16_method_20_code
def yX2_boneOf : MethodName := ⟨RX2, "boneOf", "(Ljava/lang/String;I)LLongerHalf$Bone;"⟩
def dkwX2_boneOf_2 : List UInt8 := [187, 0, 200, 89, 43, 28, 183, 0, 202, 176]
abbrev dktX2_boneOf_2 : List UInt8 := dkwX2_boneOf_2 ++ []
def dkwX2_boneOf_1 : List UInt8 := [182, 0, 78, 153, 0, 13, 187, 0, 195, 89, 43, 28, 183, 0, 197, 176, 42, 18, 198, 182, 0, 126]
abbrev dktX2_boneOf_1 : List UInt8 := dkwX2_boneOf_1 ++ dktX2_boneOf_2
def dkwX2_boneOf_0 : List UInt8 := [42, 18, 186, 182, 0, 78, 153, 0, 13, 187, 0, 188, 89, 43, 28, 183, 0, 190, 176, 42, 18, 193]
abbrev dktX2_boneOf_0 : List UInt8 := dkwX2_boneOf_0 ++ dktX2_boneOf_1
theorem dksX2_boneOf_0 : cX2_boneOf.data.toList.drop 0 = dktX2_boneOf_0 := by decide +kernel
theorem dksX2_boneOf_1 : cX2_boneOf.data.toList.drop 22 = dktX2_boneOf_1 := dk_seg dksX2_boneOf_0 22 rfl rfl
theorem dksX2_boneOf_2 : cX2_boneOf.data.toList.drop 44 = dktX2_boneOf_2 := dk_seg dksX2_boneOf_1 22 rfl rfl
theorem dX2_boneOf_0 : decode cX2_boneOf 0 = .ok (.aload_n 0, 1) := dk_42 (dk_at dksX2_boneOf_0 0 rfl rfl)
theorem dX2_boneOf_1 : decode cX2_boneOf 1 = .ok (.ldc 186, 2) := dk_18 186 (dk_at dksX2_boneOf_0 1 rfl rfl)
theorem dX2_boneOf_3 : decode cX2_boneOf 3 = .ok (.invokevirtual 78, 3) := dk_182 0 78 (dk_at dksX2_boneOf_0 3 rfl rfl)
theorem dX2_boneOf_6 : decode cX2_boneOf 6 = .ok (.ifCond .eq 13, 3) := dk_153 0 13 (dk_at dksX2_boneOf_0 6 rfl rfl)
theorem dX2_boneOf_9 : decode cX2_boneOf 9 = .ok (.new 188, 3) := dk_187 0 188 (dk_at dksX2_boneOf_0 9 rfl rfl)
theorem dX2_boneOf_12 : decode cX2_boneOf 12 = .ok (.dup, 1) := dk_89 (dk_at dksX2_boneOf_0 12 rfl rfl)
theorem dX2_boneOf_13 : decode cX2_boneOf 13 = .ok (.aload_n 1, 1) := dk_43 (dk_at dksX2_boneOf_0 13 rfl rfl)
theorem dX2_boneOf_14 : decode cX2_boneOf 14 = .ok (.iload_n 2, 1) := dk_28 (dk_at dksX2_boneOf_0 14 rfl rfl)
theorem dX2_boneOf_15 : decode cX2_boneOf 15 = .ok (.invokespecial 190, 3) := dk_183 0 190 (dk_at dksX2_boneOf_0 15 rfl rfl)
theorem dX2_boneOf_18 : decode cX2_boneOf 18 = .ok (.areturn, 1) := dk_176 (dk_at dksX2_boneOf_0 18 rfl rfl)
theorem dX2_boneOf_19 : decode cX2_boneOf 19 = .ok (.aload_n 0, 1) := dk_42 (dk_at dksX2_boneOf_0 19 rfl rfl)
theorem dX2_boneOf_20 : decode cX2_boneOf 20 = .ok (.ldc 193, 2) := dk_18 193 (dk_at dksX2_boneOf_0 20 rfl rfl)
theorem dX2_boneOf_22 : decode cX2_boneOf 22 = .ok (.invokevirtual 78, 3) := dk_182 0 78 (dk_at dksX2_boneOf_1 0 rfl rfl)
theorem dX2_boneOf_25 : decode cX2_boneOf 25 = .ok (.ifCond .eq 13, 3) := dk_153 0 13 (dk_at dksX2_boneOf_1 3 rfl rfl)
theorem dX2_boneOf_28 : decode cX2_boneOf 28 = .ok (.new 195, 3) := dk_187 0 195 (dk_at dksX2_boneOf_1 6 rfl rfl)
theorem dX2_boneOf_31 : decode cX2_boneOf 31 = .ok (.dup, 1) := dk_89 (dk_at dksX2_boneOf_1 9 rfl rfl)
theorem dX2_boneOf_32 : decode cX2_boneOf 32 = .ok (.aload_n 1, 1) := dk_43 (dk_at dksX2_boneOf_1 10 rfl rfl)
theorem dX2_boneOf_33 : decode cX2_boneOf 33 = .ok (.iload_n 2, 1) := dk_28 (dk_at dksX2_boneOf_1 11 rfl rfl)
theorem dX2_boneOf_34 : decode cX2_boneOf 34 = .ok (.invokespecial 197, 3) := dk_183 0 197 (dk_at dksX2_boneOf_1 12 rfl rfl)
theorem dX2_boneOf_37 : decode cX2_boneOf 37 = .ok (.areturn, 1) := dk_176 (dk_at dksX2_boneOf_1 15 rfl rfl)
theorem dX2_boneOf_38 : decode cX2_boneOf 38 = .ok (.aload_n 0, 1) := dk_42 (dk_at dksX2_boneOf_1 16 rfl rfl)
theorem dX2_boneOf_39 : decode cX2_boneOf 39 = .ok (.ldc 198, 2) := dk_18 198 (dk_at dksX2_boneOf_1 17 rfl rfl)
theorem dX2_boneOf_41 : decode cX2_boneOf 41 = .ok (.invokevirtual 126, 3) := dk_182 0 126 (dk_at dksX2_boneOf_1 19 rfl rfl)
theorem dX2_boneOf_44 : decode cX2_boneOf 44 = .ok (.new 200, 3) := dk_187 0 200 (dk_at dksX2_boneOf_2 0 rfl rfl)
theorem dX2_boneOf_47 : decode cX2_boneOf 47 = .ok (.dup, 1) := dk_89 (dk_at dksX2_boneOf_2 3 rfl rfl)
theorem dX2_boneOf_48 : decode cX2_boneOf 48 = .ok (.aload_n 1, 1) := dk_43 (dk_at dksX2_boneOf_2 4 rfl rfl)
theorem dX2_boneOf_49 : decode cX2_boneOf 49 = .ok (.iload_n 2, 1) := dk_28 (dk_at dksX2_boneOf_2 5 rfl rfl)
theorem dX2_boneOf_50 : decode cX2_boneOf 50 = .ok (.invokespecial 202, 3) := dk_183 0 202 (dk_at dksX2_boneOf_2 6 rfl rfl)
theorem dX2_boneOf_53 : decode cX2_boneOf 53 = .ok (.areturn, 1) := dk_176 (dk_at dksX2_boneOf_2 9 rfl rfl)
abbrev cX2_arm : ByteArray := prog_16_method_21_code
def yX2_arm : MethodName := ⟨RX2, "arm", "(LLongerHalf$Bone;ILjava/lang/String;)V"⟩
def dkwX2_arm_6 : List UInt8 := [167, 0, 4, 3, 54, 5, 42, 21, 5, 153, 0, 8, 16, 6, 167, 0, 4, 4, 182, 0, 82, 191]
abbrev dktX2_arm_6 : List UInt8 := dkwX2_arm_6 ++ []
def dkwX2_arm_5 : List UInt8 := [167, 0, 28, 3, 167, 0, 24, 42, 180, 0, 47, 16, 59, 159, 0, 10, 42, 180, 0, 47, 154, 0, 7, 4]
abbrev dktX2_arm_5 : List UInt8 := dkwX2_arm_5 ++ dktX2_arm_6
def dkwX2_arm_4 : List UInt8 := [154, 0, 31, 42, 180, 0, 47, 5, 160, 0, 19, 42, 180, 0, 61, 18, 106, 182, 0, 71, 153, 0, 7, 4]
abbrev dktX2_arm_4 : List UInt8 := dkwX2_arm_4 ++ dktX2_arm_5
def dkwX2_arm_3 : List UInt8 := [42, 182, 0, 75, 42, 182, 0, 211, 54, 4, 167, 255, 183, 43, 28, 182, 0, 203, 4, 164, 0, 4, 177, 28]
abbrev dktX2_arm_3 : List UInt8 := dkwX2_arm_3 ++ dktX2_arm_4
def dkwX2_arm_2 : List UInt8 := [28, 182, 0, 203, 16, 6, 160, 0, 9, 42, 8, 182, 0, 82, 191, 43, 28, 42, 180, 0, 68, 182, 0, 207]
abbrev dktX2_arm_2 : List UInt8 := dkwX2_arm_2 ++ dktX2_arm_3
def dkwX2_arm_1 : List UInt8 := [182, 0, 82, 191, 42, 180, 0, 68, 4, 16, 9, 184, 0, 36, 154, 0, 9, 42, 7, 182, 0, 82, 191, 43]
abbrev dktX2_arm_1 : List UInt8 := dkwX2_arm_1 ++ dktX2_arm_2
def dkwX2_arm_0 : List UInt8 := [42, 45, 182, 0, 126, 4, 54, 4, 21, 4, 153, 0, 74, 42, 180, 0, 47, 6, 159, 0, 9, 42, 4]
abbrev dktX2_arm_0 : List UInt8 := dkwX2_arm_0 ++ dktX2_arm_1
theorem dksX2_arm_0 : cX2_arm.data.toList.drop 0 = dktX2_arm_0 := by decide +kernel
theorem dksX2_arm_1 : cX2_arm.data.toList.drop 23 = dktX2_arm_1 := dk_seg dksX2_arm_0 23 rfl rfl
theorem dksX2_arm_2 : cX2_arm.data.toList.drop 47 = dktX2_arm_2 := dk_seg dksX2_arm_1 24 rfl rfl
theorem dksX2_arm_3 : cX2_arm.data.toList.drop 71 = dktX2_arm_3 := dk_seg dksX2_arm_2 24 rfl rfl
theorem dksX2_arm_4 : cX2_arm.data.toList.drop 95 = dktX2_arm_4 := dk_seg dksX2_arm_3 24 rfl rfl
theorem dksX2_arm_5 : cX2_arm.data.toList.drop 119 = dktX2_arm_5 := dk_seg dksX2_arm_4 24 rfl rfl
theorem dksX2_arm_6 : cX2_arm.data.toList.drop 143 = dktX2_arm_6 := dk_seg dksX2_arm_5 24 rfl rfl
theorem dX2_arm_0 : decode cX2_arm 0 = .ok (.aload_n 0, 1) := dk_42 (dk_at dksX2_arm_0 0 rfl rfl)
theorem dX2_arm_1 : decode cX2_arm 1 = .ok (.aload_n 3, 1) := dk_45 (dk_at dksX2_arm_0 1 rfl rfl)
theorem dX2_arm_2 : decode cX2_arm 2 = .ok (.invokevirtual 126, 3) := dk_182 0 126 (dk_at dksX2_arm_0 2 rfl rfl)
theorem dX2_arm_5 : decode cX2_arm 5 = .ok (.iconst 1, 1) := dk_4 (dk_at dksX2_arm_0 5 rfl rfl)
theorem dX2_arm_6 : decode cX2_arm 6 = .ok (.istore 4, 2) := dk_54 4 (dk_at dksX2_arm_0 6 rfl rfl)
theorem dX2_arm_8 : decode cX2_arm 8 = .ok (.iload 4, 2) := dk_21 4 (dk_at dksX2_arm_0 8 rfl rfl)
theorem dX2_arm_10 : decode cX2_arm 10 = .ok (.ifCond .eq 74, 3) := dk_153 0 74 (dk_at dksX2_arm_0 10 rfl rfl)
theorem dX2_arm_13 : decode cX2_arm 13 = .ok (.aload_n 0, 1) := dk_42 (dk_at dksX2_arm_0 13 rfl rfl)
theorem dX2_arm_14 : decode cX2_arm 14 = .ok (.getfield 47, 3) := dk_180 0 47 (dk_at dksX2_arm_0 14 rfl rfl)
theorem dX2_arm_17 : decode cX2_arm 17 = .ok (.iconst 3, 1) := dk_6 (dk_at dksX2_arm_0 17 rfl rfl)
theorem dX2_arm_18 : decode cX2_arm 18 = .ok (.if_icmp .eq 9, 3) := dk_159 0 9 (dk_at dksX2_arm_0 18 rfl rfl)
theorem dX2_arm_21 : decode cX2_arm 21 = .ok (.aload_n 0, 1) := dk_42 (dk_at dksX2_arm_0 21 rfl rfl)
theorem dX2_arm_22 : decode cX2_arm 22 = .ok (.iconst 1, 1) := dk_4 (dk_at dksX2_arm_0 22 rfl rfl)
theorem dX2_arm_23 : decode cX2_arm 23 = .ok (.invokevirtual 82, 3) := dk_182 0 82 (dk_at dksX2_arm_1 0 rfl rfl)
theorem dX2_arm_26 : decode cX2_arm 26 = .ok (.athrow, 1) := dk_191 (dk_at dksX2_arm_1 3 rfl rfl)
theorem dX2_arm_27 : decode cX2_arm 27 = .ok (.aload_n 0, 1) := dk_42 (dk_at dksX2_arm_1 4 rfl rfl)
theorem dX2_arm_28 : decode cX2_arm 28 = .ok (.getfield 68, 3) := dk_180 0 68 (dk_at dksX2_arm_1 5 rfl rfl)
theorem dX2_arm_31 : decode cX2_arm 31 = .ok (.iconst 1, 1) := dk_4 (dk_at dksX2_arm_1 8 rfl rfl)
theorem dX2_arm_32 : decode cX2_arm 32 = .ok (.bipush 9, 2) := dk_16 9 (dk_at dksX2_arm_1 9 rfl rfl)
theorem dX2_arm_34 : decode cX2_arm 34 = .ok (.invokestatic 36, 3) := dk_184 0 36 (dk_at dksX2_arm_1 11 rfl rfl)
theorem dX2_arm_37 : decode cX2_arm 37 = .ok (.ifCond .ne 9, 3) := dk_154 0 9 (dk_at dksX2_arm_1 14 rfl rfl)
theorem dX2_arm_40 : decode cX2_arm 40 = .ok (.aload_n 0, 1) := dk_42 (dk_at dksX2_arm_1 17 rfl rfl)
theorem dX2_arm_41 : decode cX2_arm 41 = .ok (.iconst 4, 1) := dk_7 (dk_at dksX2_arm_1 18 rfl rfl)
theorem dX2_arm_42 : decode cX2_arm 42 = .ok (.invokevirtual 82, 3) := dk_182 0 82 (dk_at dksX2_arm_1 19 rfl rfl)
theorem dX2_arm_45 : decode cX2_arm 45 = .ok (.athrow, 1) := dk_191 (dk_at dksX2_arm_1 22 rfl rfl)
theorem dX2_arm_46 : decode cX2_arm 46 = .ok (.aload_n 1, 1) := dk_43 (dk_at dksX2_arm_1 23 rfl rfl)
theorem dX2_arm_47 : decode cX2_arm 47 = .ok (.iload_n 2, 1) := dk_28 (dk_at dksX2_arm_2 0 rfl rfl)
theorem dX2_arm_48 : decode cX2_arm 48 = .ok (.invokevirtual 203, 3) := dk_182 0 203 (dk_at dksX2_arm_2 1 rfl rfl)
theorem dX2_arm_51 : decode cX2_arm 51 = .ok (.bipush 6, 2) := dk_16 6 (dk_at dksX2_arm_2 4 rfl rfl)
theorem dX2_arm_53 : decode cX2_arm 53 = .ok (.if_icmp .ne 9, 3) := dk_160 0 9 (dk_at dksX2_arm_2 6 rfl rfl)
theorem dX2_arm_56 : decode cX2_arm 56 = .ok (.aload_n 0, 1) := dk_42 (dk_at dksX2_arm_2 9 rfl rfl)
theorem dX2_arm_57 : decode cX2_arm 57 = .ok (.iconst 5, 1) := dk_8 (dk_at dksX2_arm_2 10 rfl rfl)
theorem dX2_arm_58 : decode cX2_arm 58 = .ok (.invokevirtual 82, 3) := dk_182 0 82 (dk_at dksX2_arm_2 11 rfl rfl)
theorem dX2_arm_61 : decode cX2_arm 61 = .ok (.athrow, 1) := dk_191 (dk_at dksX2_arm_2 14 rfl rfl)
theorem dX2_arm_62 : decode cX2_arm 62 = .ok (.aload_n 1, 1) := dk_43 (dk_at dksX2_arm_2 15 rfl rfl)
theorem dX2_arm_63 : decode cX2_arm 63 = .ok (.iload_n 2, 1) := dk_28 (dk_at dksX2_arm_2 16 rfl rfl)
theorem dX2_arm_64 : decode cX2_arm 64 = .ok (.aload_n 0, 1) := dk_42 (dk_at dksX2_arm_2 17 rfl rfl)
theorem dX2_arm_65 : decode cX2_arm 65 = .ok (.getfield 68, 3) := dk_180 0 68 (dk_at dksX2_arm_2 18 rfl rfl)
theorem dX2_arm_68 : decode cX2_arm 68 = .ok (.invokevirtual 207, 3) := dk_182 0 207 (dk_at dksX2_arm_2 21 rfl rfl)
theorem dX2_arm_71 : decode cX2_arm 71 = .ok (.aload_n 0, 1) := dk_42 (dk_at dksX2_arm_3 0 rfl rfl)
theorem dX2_arm_72 : decode cX2_arm 72 = .ok (.invokevirtual 75, 3) := dk_182 0 75 (dk_at dksX2_arm_3 1 rfl rfl)
theorem dX2_arm_75 : decode cX2_arm 75 = .ok (.aload_n 0, 1) := dk_42 (dk_at dksX2_arm_3 4 rfl rfl)
theorem dX2_arm_76 : decode cX2_arm 76 = .ok (.invokevirtual 211, 3) := dk_182 0 211 (dk_at dksX2_arm_3 5 rfl rfl)
theorem dX2_arm_79 : decode cX2_arm 79 = .ok (.istore 4, 2) := dk_54 4 (dk_at dksX2_arm_3 8 rfl rfl)
theorem dX2_arm_81 : decode cX2_arm 81 = .ok (.goto (-73), 3) := dk_167 255 183 (dk_at dksX2_arm_3 10 rfl rfl)
theorem dX2_arm_84 : decode cX2_arm 84 = .ok (.aload_n 1, 1) := dk_43 (dk_at dksX2_arm_3 13 rfl rfl)
theorem dX2_arm_85 : decode cX2_arm 85 = .ok (.iload_n 2, 1) := dk_28 (dk_at dksX2_arm_3 14 rfl rfl)
theorem dX2_arm_86 : decode cX2_arm 86 = .ok (.invokevirtual 203, 3) := dk_182 0 203 (dk_at dksX2_arm_3 15 rfl rfl)
theorem dX2_arm_89 : decode cX2_arm 89 = .ok (.iconst 1, 1) := dk_4 (dk_at dksX2_arm_3 18 rfl rfl)
theorem dX2_arm_90 : decode cX2_arm 90 = .ok (.if_icmp .le 4, 3) := dk_164 0 4 (dk_at dksX2_arm_3 19 rfl rfl)
theorem dX2_arm_93 : decode cX2_arm 93 = .ok (.return_, 1) := dk_177 (dk_at dksX2_arm_3 22 rfl rfl)
theorem dX2_arm_94 : decode cX2_arm 94 = .ok (.iload_n 2, 1) := dk_28 (dk_at dksX2_arm_3 23 rfl rfl)
theorem dX2_arm_95 : decode cX2_arm 95 = .ok (.ifCond .ne 31, 3) := dk_154 0 31 (dk_at dksX2_arm_4 0 rfl rfl)
theorem dX2_arm_98 : decode cX2_arm 98 = .ok (.aload_n 0, 1) := dk_42 (dk_at dksX2_arm_4 3 rfl rfl)
theorem dX2_arm_99 : decode cX2_arm 99 = .ok (.getfield 47, 3) := dk_180 0 47 (dk_at dksX2_arm_4 4 rfl rfl)
theorem dX2_arm_102 : decode cX2_arm 102 = .ok (.iconst 2, 1) := dk_5 (dk_at dksX2_arm_4 7 rfl rfl)
theorem dX2_arm_103 : decode cX2_arm 103 = .ok (.if_icmp .ne 19, 3) := dk_160 0 19 (dk_at dksX2_arm_4 8 rfl rfl)
theorem dX2_arm_106 : decode cX2_arm 106 = .ok (.aload_n 0, 1) := dk_42 (dk_at dksX2_arm_4 11 rfl rfl)
theorem dX2_arm_107 : decode cX2_arm 107 = .ok (.getfield 61, 3) := dk_180 0 61 (dk_at dksX2_arm_4 12 rfl rfl)
theorem dX2_arm_110 : decode cX2_arm 110 = .ok (.ldc 106, 2) := dk_18 106 (dk_at dksX2_arm_4 15 rfl rfl)
theorem dX2_arm_112 : decode cX2_arm 112 = .ok (.invokevirtual 71, 3) := dk_182 0 71 (dk_at dksX2_arm_4 17 rfl rfl)
theorem dX2_arm_115 : decode cX2_arm 115 = .ok (.ifCond .eq 7, 3) := dk_153 0 7 (dk_at dksX2_arm_4 20 rfl rfl)
theorem dX2_arm_118 : decode cX2_arm 118 = .ok (.iconst 1, 1) := dk_4 (dk_at dksX2_arm_4 23 rfl rfl)
theorem dX2_arm_119 : decode cX2_arm 119 = .ok (.goto 28, 3) := dk_167 0 28 (dk_at dksX2_arm_5 0 rfl rfl)
theorem dX2_arm_122 : decode cX2_arm 122 = .ok (.iconst 0, 1) := dk_3 (dk_at dksX2_arm_5 3 rfl rfl)
theorem dX2_arm_123 : decode cX2_arm 123 = .ok (.goto 24, 3) := dk_167 0 24 (dk_at dksX2_arm_5 4 rfl rfl)
theorem dX2_arm_126 : decode cX2_arm 126 = .ok (.aload_n 0, 1) := dk_42 (dk_at dksX2_arm_5 7 rfl rfl)
theorem dX2_arm_127 : decode cX2_arm 127 = .ok (.getfield 47, 3) := dk_180 0 47 (dk_at dksX2_arm_5 8 rfl rfl)
theorem dX2_arm_130 : decode cX2_arm 130 = .ok (.bipush 59, 2) := dk_16 59 (dk_at dksX2_arm_5 11 rfl rfl)
theorem dX2_arm_132 : decode cX2_arm 132 = .ok (.if_icmp .eq 10, 3) := dk_159 0 10 (dk_at dksX2_arm_5 13 rfl rfl)
theorem dX2_arm_135 : decode cX2_arm 135 = .ok (.aload_n 0, 1) := dk_42 (dk_at dksX2_arm_5 16 rfl rfl)
theorem dX2_arm_136 : decode cX2_arm 136 = .ok (.getfield 47, 3) := dk_180 0 47 (dk_at dksX2_arm_5 17 rfl rfl)
theorem dX2_arm_139 : decode cX2_arm 139 = .ok (.ifCond .ne 7, 3) := dk_154 0 7 (dk_at dksX2_arm_5 20 rfl rfl)
theorem dX2_arm_142 : decode cX2_arm 142 = .ok (.iconst 1, 1) := dk_4 (dk_at dksX2_arm_5 23 rfl rfl)
theorem dX2_arm_143 : decode cX2_arm 143 = .ok (.goto 4, 3) := dk_167 0 4 (dk_at dksX2_arm_6 0 rfl rfl)
theorem dX2_arm_146 : decode cX2_arm 146 = .ok (.iconst 0, 1) := dk_3 (dk_at dksX2_arm_6 3 rfl rfl)
theorem dX2_arm_147 : decode cX2_arm 147 = .ok (.istore 5, 2) := dk_54 5 (dk_at dksX2_arm_6 4 rfl rfl)
theorem dX2_arm_149 : decode cX2_arm 149 = .ok (.aload_n 0, 1) := dk_42 (dk_at dksX2_arm_6 6 rfl rfl)
theorem dX2_arm_150 : decode cX2_arm 150 = .ok (.iload 5, 2) := dk_21 5 (dk_at dksX2_arm_6 7 rfl rfl)
theorem dX2_arm_152 : decode cX2_arm 152 = .ok (.ifCond .eq 8, 3) := dk_153 0 8 (dk_at dksX2_arm_6 9 rfl rfl)
theorem dX2_arm_155 : decode cX2_arm 155 = .ok (.bipush 6, 2) := dk_16 6 (dk_at dksX2_arm_6 12 rfl rfl)
theorem dX2_arm_157 : decode cX2_arm 157 = .ok (.goto 4, 3) := dk_167 0 4 (dk_at dksX2_arm_6 14 rfl rfl)
theorem dX2_arm_160 : decode cX2_arm 160 = .ok (.iconst 1, 1) := dk_4 (dk_at dksX2_arm_6 17 rfl rfl)
theorem dX2_arm_161 : decode cX2_arm 161 = .ok (.invokevirtual 82, 3) := dk_182 0 82 (dk_at dksX2_arm_6 18 rfl rfl)
theorem dX2_arm_164 : decode cX2_arm 164 = .ok (.athrow, 1) := dk_191 (dk_at dksX2_arm_6 21 rfl rfl)
abbrev cX2_comma : ByteArray := prog_16_method_9_code
def yX2_comma : MethodName := ⟨RX2, "comma", "()Z"⟩
def dkwX2_comma_0 : List UInt8 := [42, 180, 0, 47, 16, 44, 159, 0, 5, 3, 172, 42, 182, 0, 75, 4, 172]
abbrev dktX2_comma_0 : List UInt8 := dkwX2_comma_0 ++ []
theorem dksX2_comma_0 : cX2_comma.data.toList.drop 0 = dktX2_comma_0 := by decide +kernel
theorem dX2_comma_0 : decode cX2_comma 0 = .ok (.aload_n 0, 1) := dk_42 (dk_at dksX2_comma_0 0 rfl rfl)
theorem dX2_comma_1 : decode cX2_comma 1 = .ok (.getfield 47, 3) := dk_180 0 47 (dk_at dksX2_comma_0 1 rfl rfl)
theorem dX2_comma_4 : decode cX2_comma 4 = .ok (.bipush 44, 2) := dk_16 44 (dk_at dksX2_comma_0 4 rfl rfl)
theorem dX2_comma_6 : decode cX2_comma 6 = .ok (.if_icmp .eq 5, 3) := dk_159 0 5 (dk_at dksX2_comma_0 6 rfl rfl)
theorem dX2_comma_9 : decode cX2_comma 9 = .ok (.iconst 0, 1) := dk_3 (dk_at dksX2_comma_0 9 rfl rfl)
theorem dX2_comma_10 : decode cX2_comma 10 = .ok (.ireturn, 1) := dk_172 (dk_at dksX2_comma_0 10 rfl rfl)
theorem dX2_comma_11 : decode cX2_comma 11 = .ok (.aload_n 0, 1) := dk_42 (dk_at dksX2_comma_0 11 rfl rfl)
theorem dX2_comma_12 : decode cX2_comma 12 = .ok (.invokevirtual 75, 3) := dk_182 0 75 (dk_at dksX2_comma_0 12 rfl rfl)
theorem dX2_comma_15 : decode cX2_comma 15 = .ok (.iconst 1, 1) := dk_4 (dk_at dksX2_comma_0 15 rfl rfl)
theorem dX2_comma_16 : decode cX2_comma 16 = .ok (.ireturn, 1) := dk_172 (dk_at dksX2_comma_0 16 rfl rfl)
abbrev cX2_personLine : ByteArray := prog_16_method_24_code
def yX2_personLine : MethodName := ⟨RX2, "personLine", "()V"⟩
def dkwX2_personLine_4 : List UInt8 := [180, 0, 144, 43, 83, 42, 180, 0, 111, 89, 180, 0, 144, 4, 96, 181, 0, 144, 177]
abbrev dktX2_personLine_4 : List UInt8 := dkwX2_personLine_4 ++ []
def dkwX2_personLine_3 : List UInt8 := [19, 1, 15, 3, 16, 99, 182, 0, 167, 181, 1, 17, 42, 180, 0, 111, 180, 1, 19, 42, 180, 0, 111]
abbrev dktX2_personLine_3 : List UInt8 := dkwX2_personLine_3 ++ dktX2_personLine_4
def dkwX2_personLine_2 : List UInt8 := [182, 0, 167, 181, 1, 9, 43, 42, 19, 1, 11, 4, 16, 6, 182, 0, 167, 181, 1, 13, 43, 42]
abbrev dktX2_personLine_2 : List UInt8 := dkwX2_personLine_2 ++ dktX2_personLine_3
def dkwX2_personLine_1 : List UInt8 := [182, 0, 219, 42, 180, 0, 111, 180, 0, 144, 182, 1, 3, 76, 43, 42, 19, 1, 7, 4, 16, 40]
abbrev dktX2_personLine_1 : List UInt8 := dkwX2_personLine_1 ++ dktX2_personLine_2
def dkwX2_personLine_0 : List UInt8 := [42, 42, 180, 0, 111, 180, 0, 144, 16, 6, 162, 0, 7, 4, 167, 0, 4, 3, 182, 0, 215, 42, 42]
abbrev dktX2_personLine_0 : List UInt8 := dkwX2_personLine_0 ++ dktX2_personLine_1
theorem dksX2_personLine_0 : cX2_personLine.data.toList.drop 0 = dktX2_personLine_0 := by decide +kernel
theorem dksX2_personLine_1 : cX2_personLine.data.toList.drop 23 = dktX2_personLine_1 := dk_seg dksX2_personLine_0 23 rfl rfl
theorem dksX2_personLine_2 : cX2_personLine.data.toList.drop 45 = dktX2_personLine_2 := dk_seg dksX2_personLine_1 22 rfl rfl
theorem dksX2_personLine_3 : cX2_personLine.data.toList.drop 67 = dktX2_personLine_3 := dk_seg dksX2_personLine_2 22 rfl rfl
theorem dksX2_personLine_4 : cX2_personLine.data.toList.drop 90 = dktX2_personLine_4 := dk_seg dksX2_personLine_3 23 rfl rfl
theorem dX2_personLine_0 : decode cX2_personLine 0 = .ok (.aload_n 0, 1) := dk_42 (dk_at dksX2_personLine_0 0 rfl rfl)
theorem dX2_personLine_1 : decode cX2_personLine 1 = .ok (.aload_n 0, 1) := dk_42 (dk_at dksX2_personLine_0 1 rfl rfl)
theorem dX2_personLine_2 : decode cX2_personLine 2 = .ok (.getfield 111, 3) := dk_180 0 111 (dk_at dksX2_personLine_0 2 rfl rfl)
theorem dX2_personLine_5 : decode cX2_personLine 5 = .ok (.getfield 144, 3) := dk_180 0 144 (dk_at dksX2_personLine_0 5 rfl rfl)
theorem dX2_personLine_8 : decode cX2_personLine 8 = .ok (.bipush 6, 2) := dk_16 6 (dk_at dksX2_personLine_0 8 rfl rfl)
theorem dX2_personLine_10 : decode cX2_personLine 10 = .ok (.if_icmp .ge 7, 3) := dk_162 0 7 (dk_at dksX2_personLine_0 10 rfl rfl)
theorem dX2_personLine_13 : decode cX2_personLine 13 = .ok (.iconst 1, 1) := dk_4 (dk_at dksX2_personLine_0 13 rfl rfl)
theorem dX2_personLine_14 : decode cX2_personLine 14 = .ok (.goto 4, 3) := dk_167 0 4 (dk_at dksX2_personLine_0 14 rfl rfl)
theorem dX2_personLine_17 : decode cX2_personLine 17 = .ok (.iconst 0, 1) := dk_3 (dk_at dksX2_personLine_0 17 rfl rfl)
theorem dX2_personLine_18 : decode cX2_personLine 18 = .ok (.invokevirtual 215, 3) := dk_182 0 215 (dk_at dksX2_personLine_0 18 rfl rfl)
theorem dX2_personLine_21 : decode cX2_personLine 21 = .ok (.aload_n 0, 1) := dk_42 (dk_at dksX2_personLine_0 21 rfl rfl)
theorem dX2_personLine_22 : decode cX2_personLine 22 = .ok (.aload_n 0, 1) := dk_42 (dk_at dksX2_personLine_0 22 rfl rfl)
theorem dX2_personLine_23 : decode cX2_personLine 23 = .ok (.invokevirtual 219, 3) := dk_182 0 219 (dk_at dksX2_personLine_1 0 rfl rfl)
theorem dX2_personLine_26 : decode cX2_personLine 26 = .ok (.aload_n 0, 1) := dk_42 (dk_at dksX2_personLine_1 3 rfl rfl)
theorem dX2_personLine_27 : decode cX2_personLine 27 = .ok (.getfield 111, 3) := dk_180 0 111 (dk_at dksX2_personLine_1 4 rfl rfl)
theorem dX2_personLine_30 : decode cX2_personLine 30 = .ok (.getfield 144, 3) := dk_180 0 144 (dk_at dksX2_personLine_1 7 rfl rfl)
theorem dX2_personLine_33 : decode cX2_personLine 33 = .ok (.invokevirtual 259, 3) := dk_182 1 3 (dk_at dksX2_personLine_1 10 rfl rfl)
theorem dX2_personLine_36 : decode cX2_personLine 36 = .ok (.astore_n 1, 1) := dk_76 (dk_at dksX2_personLine_1 13 rfl rfl)
theorem dX2_personLine_37 : decode cX2_personLine 37 = .ok (.aload_n 1, 1) := dk_43 (dk_at dksX2_personLine_1 14 rfl rfl)
theorem dX2_personLine_38 : decode cX2_personLine 38 = .ok (.aload_n 0, 1) := dk_42 (dk_at dksX2_personLine_1 15 rfl rfl)
theorem dX2_personLine_39 : decode cX2_personLine 39 = .ok (.ldc_w 263, 3) := dk_19 1 7 (dk_at dksX2_personLine_1 16 rfl rfl)
theorem dX2_personLine_42 : decode cX2_personLine 42 = .ok (.iconst 1, 1) := dk_4 (dk_at dksX2_personLine_1 19 rfl rfl)
theorem dX2_personLine_43 : decode cX2_personLine 43 = .ok (.bipush 40, 2) := dk_16 40 (dk_at dksX2_personLine_1 20 rfl rfl)
theorem dX2_personLine_45 : decode cX2_personLine 45 = .ok (.invokevirtual 167, 3) := dk_182 0 167 (dk_at dksX2_personLine_2 0 rfl rfl)
theorem dX2_personLine_48 : decode cX2_personLine 48 = .ok (.putfield 265, 3) := dk_181 1 9 (dk_at dksX2_personLine_2 3 rfl rfl)
theorem dX2_personLine_51 : decode cX2_personLine 51 = .ok (.aload_n 1, 1) := dk_43 (dk_at dksX2_personLine_2 6 rfl rfl)
theorem dX2_personLine_52 : decode cX2_personLine 52 = .ok (.aload_n 0, 1) := dk_42 (dk_at dksX2_personLine_2 7 rfl rfl)
theorem dX2_personLine_53 : decode cX2_personLine 53 = .ok (.ldc_w 267, 3) := dk_19 1 11 (dk_at dksX2_personLine_2 8 rfl rfl)
theorem dX2_personLine_56 : decode cX2_personLine 56 = .ok (.iconst 1, 1) := dk_4 (dk_at dksX2_personLine_2 11 rfl rfl)
theorem dX2_personLine_57 : decode cX2_personLine 57 = .ok (.bipush 6, 2) := dk_16 6 (dk_at dksX2_personLine_2 12 rfl rfl)
theorem dX2_personLine_59 : decode cX2_personLine 59 = .ok (.invokevirtual 167, 3) := dk_182 0 167 (dk_at dksX2_personLine_2 14 rfl rfl)
theorem dX2_personLine_62 : decode cX2_personLine 62 = .ok (.putfield 269, 3) := dk_181 1 13 (dk_at dksX2_personLine_2 17 rfl rfl)
theorem dX2_personLine_65 : decode cX2_personLine 65 = .ok (.aload_n 1, 1) := dk_43 (dk_at dksX2_personLine_2 20 rfl rfl)
theorem dX2_personLine_66 : decode cX2_personLine 66 = .ok (.aload_n 0, 1) := dk_42 (dk_at dksX2_personLine_2 21 rfl rfl)
theorem dX2_personLine_67 : decode cX2_personLine 67 = .ok (.ldc_w 271, 3) := dk_19 1 15 (dk_at dksX2_personLine_3 0 rfl rfl)
theorem dX2_personLine_70 : decode cX2_personLine 70 = .ok (.iconst 0, 1) := dk_3 (dk_at dksX2_personLine_3 3 rfl rfl)
theorem dX2_personLine_71 : decode cX2_personLine 71 = .ok (.bipush 99, 2) := dk_16 99 (dk_at dksX2_personLine_3 4 rfl rfl)
theorem dX2_personLine_73 : decode cX2_personLine 73 = .ok (.invokevirtual 167, 3) := dk_182 0 167 (dk_at dksX2_personLine_3 6 rfl rfl)
theorem dX2_personLine_76 : decode cX2_personLine 76 = .ok (.putfield 273, 3) := dk_181 1 17 (dk_at dksX2_personLine_3 9 rfl rfl)
theorem dX2_personLine_79 : decode cX2_personLine 79 = .ok (.aload_n 0, 1) := dk_42 (dk_at dksX2_personLine_3 12 rfl rfl)
theorem dX2_personLine_80 : decode cX2_personLine 80 = .ok (.getfield 111, 3) := dk_180 0 111 (dk_at dksX2_personLine_3 13 rfl rfl)
theorem dX2_personLine_83 : decode cX2_personLine 83 = .ok (.getfield 275, 3) := dk_180 1 19 (dk_at dksX2_personLine_3 16 rfl rfl)
theorem dX2_personLine_86 : decode cX2_personLine 86 = .ok (.aload_n 0, 1) := dk_42 (dk_at dksX2_personLine_3 19 rfl rfl)
theorem dX2_personLine_87 : decode cX2_personLine 87 = .ok (.getfield 111, 3) := dk_180 0 111 (dk_at dksX2_personLine_3 20 rfl rfl)
theorem dX2_personLine_90 : decode cX2_personLine 90 = .ok (.getfield 144, 3) := dk_180 0 144 (dk_at dksX2_personLine_4 0 rfl rfl)
theorem dX2_personLine_93 : decode cX2_personLine 93 = .ok (.aload_n 1, 1) := dk_43 (dk_at dksX2_personLine_4 3 rfl rfl)
theorem dX2_personLine_94 : decode cX2_personLine 94 = .ok (.aastore, 1) := dk_83 (dk_at dksX2_personLine_4 4 rfl rfl)
theorem dX2_personLine_95 : decode cX2_personLine 95 = .ok (.aload_n 0, 1) := dk_42 (dk_at dksX2_personLine_4 5 rfl rfl)
theorem dX2_personLine_96 : decode cX2_personLine 96 = .ok (.getfield 111, 3) := dk_180 0 111 (dk_at dksX2_personLine_4 6 rfl rfl)
theorem dX2_personLine_99 : decode cX2_personLine 99 = .ok (.dup, 1) := dk_89 (dk_at dksX2_personLine_4 9 rfl rfl)
theorem dX2_personLine_100 : decode cX2_personLine 100 = .ok (.getfield 144, 3) := dk_180 0 144 (dk_at dksX2_personLine_4 10 rfl rfl)
theorem dX2_personLine_103 : decode cX2_personLine 103 = .ok (.iconst 1, 1) := dk_4 (dk_at dksX2_personLine_4 13 rfl rfl)
theorem dX2_personLine_104 : decode cX2_personLine 104 = .ok (.iadd, 1) := dk_96 (dk_at dksX2_personLine_4 14 rfl rfl)
theorem dX2_personLine_105 : decode cX2_personLine 105 = .ok (.putfield 144, 3) := dk_181 0 144 (dk_at dksX2_personLine_4 15 rfl rfl)
theorem dX2_personLine_108 : decode cX2_personLine 108 = .ok (.return_, 1) := dk_177 (dk_at dksX2_personLine_4 18 rfl rfl)
abbrev cX2_personOf : ByteArray := prog_16_method_23_code
def yX2_personOf : MethodName := ⟨RX2, "personOf", "(Ljava/lang/String;I)LLongerHalf$Person;"⟩
def dkwX2_personOf_3 : List UInt8 := [28, 183, 1, 2, 176]
abbrev dktX2_personOf_3 : List UInt8 := dkwX2_personOf_3 ++ []
def dkwX2_personOf_2 : List UInt8 := [153, 0, 13, 187, 0, 251, 89, 43, 28, 183, 0, 253, 176, 42, 18, 254, 182, 0, 126, 187, 1, 0, 89, 43]
abbrev dktX2_personOf_2 : List UInt8 := dkwX2_personOf_2 ++ dktX2_personOf_3
def dkwX2_personOf_1 : List UInt8 := [182, 0, 78, 153, 0, 13, 187, 0, 246, 89, 43, 28, 183, 0, 248, 176, 42, 18, 249, 182, 0, 78]
abbrev dktX2_personOf_1 : List UInt8 := dkwX2_personOf_1 ++ dktX2_personOf_2
def dkwX2_personOf_0 : List UInt8 := [42, 18, 239, 182, 0, 78, 153, 0, 13, 187, 0, 241, 89, 43, 28, 183, 0, 243, 176, 42, 18, 244]
abbrev dktX2_personOf_0 : List UInt8 := dkwX2_personOf_0 ++ dktX2_personOf_1
theorem dksX2_personOf_0 : cX2_personOf.data.toList.drop 0 = dktX2_personOf_0 := by decide +kernel
theorem dksX2_personOf_1 : cX2_personOf.data.toList.drop 22 = dktX2_personOf_1 := dk_seg dksX2_personOf_0 22 rfl rfl
theorem dksX2_personOf_2 : cX2_personOf.data.toList.drop 44 = dktX2_personOf_2 := dk_seg dksX2_personOf_1 22 rfl rfl
theorem dksX2_personOf_3 : cX2_personOf.data.toList.drop 68 = dktX2_personOf_3 := dk_seg dksX2_personOf_2 24 rfl rfl
theorem dX2_personOf_0 : decode cX2_personOf 0 = .ok (.aload_n 0, 1) := dk_42 (dk_at dksX2_personOf_0 0 rfl rfl)
theorem dX2_personOf_1 : decode cX2_personOf 1 = .ok (.ldc 239, 2) := dk_18 239 (dk_at dksX2_personOf_0 1 rfl rfl)
theorem dX2_personOf_3 : decode cX2_personOf 3 = .ok (.invokevirtual 78, 3) := dk_182 0 78 (dk_at dksX2_personOf_0 3 rfl rfl)
theorem dX2_personOf_6 : decode cX2_personOf 6 = .ok (.ifCond .eq 13, 3) := dk_153 0 13 (dk_at dksX2_personOf_0 6 rfl rfl)
theorem dX2_personOf_9 : decode cX2_personOf 9 = .ok (.new 241, 3) := dk_187 0 241 (dk_at dksX2_personOf_0 9 rfl rfl)
theorem dX2_personOf_12 : decode cX2_personOf 12 = .ok (.dup, 1) := dk_89 (dk_at dksX2_personOf_0 12 rfl rfl)
theorem dX2_personOf_13 : decode cX2_personOf 13 = .ok (.aload_n 1, 1) := dk_43 (dk_at dksX2_personOf_0 13 rfl rfl)
theorem dX2_personOf_14 : decode cX2_personOf 14 = .ok (.iload_n 2, 1) := dk_28 (dk_at dksX2_personOf_0 14 rfl rfl)
theorem dX2_personOf_15 : decode cX2_personOf 15 = .ok (.invokespecial 243, 3) := dk_183 0 243 (dk_at dksX2_personOf_0 15 rfl rfl)
theorem dX2_personOf_18 : decode cX2_personOf 18 = .ok (.areturn, 1) := dk_176 (dk_at dksX2_personOf_0 18 rfl rfl)
theorem dX2_personOf_19 : decode cX2_personOf 19 = .ok (.aload_n 0, 1) := dk_42 (dk_at dksX2_personOf_0 19 rfl rfl)
theorem dX2_personOf_20 : decode cX2_personOf 20 = .ok (.ldc 244, 2) := dk_18 244 (dk_at dksX2_personOf_0 20 rfl rfl)
theorem dX2_personOf_22 : decode cX2_personOf 22 = .ok (.invokevirtual 78, 3) := dk_182 0 78 (dk_at dksX2_personOf_1 0 rfl rfl)
theorem dX2_personOf_25 : decode cX2_personOf 25 = .ok (.ifCond .eq 13, 3) := dk_153 0 13 (dk_at dksX2_personOf_1 3 rfl rfl)
theorem dX2_personOf_28 : decode cX2_personOf 28 = .ok (.new 246, 3) := dk_187 0 246 (dk_at dksX2_personOf_1 6 rfl rfl)
theorem dX2_personOf_31 : decode cX2_personOf 31 = .ok (.dup, 1) := dk_89 (dk_at dksX2_personOf_1 9 rfl rfl)
theorem dX2_personOf_32 : decode cX2_personOf 32 = .ok (.aload_n 1, 1) := dk_43 (dk_at dksX2_personOf_1 10 rfl rfl)
theorem dX2_personOf_33 : decode cX2_personOf 33 = .ok (.iload_n 2, 1) := dk_28 (dk_at dksX2_personOf_1 11 rfl rfl)
theorem dX2_personOf_34 : decode cX2_personOf 34 = .ok (.invokespecial 248, 3) := dk_183 0 248 (dk_at dksX2_personOf_1 12 rfl rfl)
theorem dX2_personOf_37 : decode cX2_personOf 37 = .ok (.areturn, 1) := dk_176 (dk_at dksX2_personOf_1 15 rfl rfl)
theorem dX2_personOf_38 : decode cX2_personOf 38 = .ok (.aload_n 0, 1) := dk_42 (dk_at dksX2_personOf_1 16 rfl rfl)
theorem dX2_personOf_39 : decode cX2_personOf 39 = .ok (.ldc 249, 2) := dk_18 249 (dk_at dksX2_personOf_1 17 rfl rfl)
theorem dX2_personOf_41 : decode cX2_personOf 41 = .ok (.invokevirtual 78, 3) := dk_182 0 78 (dk_at dksX2_personOf_1 19 rfl rfl)
theorem dX2_personOf_44 : decode cX2_personOf 44 = .ok (.ifCond .eq 13, 3) := dk_153 0 13 (dk_at dksX2_personOf_2 0 rfl rfl)
theorem dX2_personOf_47 : decode cX2_personOf 47 = .ok (.new 251, 3) := dk_187 0 251 (dk_at dksX2_personOf_2 3 rfl rfl)
theorem dX2_personOf_50 : decode cX2_personOf 50 = .ok (.dup, 1) := dk_89 (dk_at dksX2_personOf_2 6 rfl rfl)
theorem dX2_personOf_51 : decode cX2_personOf 51 = .ok (.aload_n 1, 1) := dk_43 (dk_at dksX2_personOf_2 7 rfl rfl)
theorem dX2_personOf_52 : decode cX2_personOf 52 = .ok (.iload_n 2, 1) := dk_28 (dk_at dksX2_personOf_2 8 rfl rfl)
theorem dX2_personOf_53 : decode cX2_personOf 53 = .ok (.invokespecial 253, 3) := dk_183 0 253 (dk_at dksX2_personOf_2 9 rfl rfl)
theorem dX2_personOf_56 : decode cX2_personOf 56 = .ok (.areturn, 1) := dk_176 (dk_at dksX2_personOf_2 12 rfl rfl)
theorem dX2_personOf_57 : decode cX2_personOf 57 = .ok (.aload_n 0, 1) := dk_42 (dk_at dksX2_personOf_2 13 rfl rfl)
theorem dX2_personOf_58 : decode cX2_personOf 58 = .ok (.ldc 254, 2) := dk_18 254 (dk_at dksX2_personOf_2 14 rfl rfl)
theorem dX2_personOf_60 : decode cX2_personOf 60 = .ok (.invokevirtual 126, 3) := dk_182 0 126 (dk_at dksX2_personOf_2 16 rfl rfl)
theorem dX2_personOf_63 : decode cX2_personOf 63 = .ok (.new 256, 3) := dk_187 1 0 (dk_at dksX2_personOf_2 19 rfl rfl)
theorem dX2_personOf_66 : decode cX2_personOf 66 = .ok (.dup, 1) := dk_89 (dk_at dksX2_personOf_2 22 rfl rfl)
theorem dX2_personOf_67 : decode cX2_personOf 67 = .ok (.aload_n 1, 1) := dk_43 (dk_at dksX2_personOf_2 23 rfl rfl)
theorem dX2_personOf_68 : decode cX2_personOf 68 = .ok (.iload_n 2, 1) := dk_28 (dk_at dksX2_personOf_3 0 rfl rfl)
theorem dX2_personOf_69 : decode cX2_personOf 69 = .ok (.invokespecial 258, 3) := dk_183 1 2 (dk_at dksX2_personOf_3 1 rfl rfl)
theorem dX2_personOf_72 : decode cX2_personOf 72 = .ok (.areturn, 1) := dk_176 (dk_at dksX2_personOf_3 4 rfl rfl)
abbrev cX2_forLine : ByteArray := prog_16_method_25_code
def yX2_forLine : MethodName := ⟨RX2, "forLine", "()V"⟩
def dkwX2_forLine_4 : List UInt8 := [181, 1, 28, 42, 180, 0, 111, 89, 180, 1, 23, 4, 96, 181, 1, 23, 177]
abbrev dktX2_forLine_4 : List UInt8 := dkwX2_forLine_4 ++ []
def dkwX2_forLine_3 : List UInt8 := [43, 180, 1, 37, 44, 180, 1, 31, 29, 79, 43, 89, 180, 1, 28, 4, 44, 180, 1, 31, 120, 128]
abbrev dktX2_forLine_3 : List UInt8 := dkwX2_forLine_3 ++ dktX2_forLine_4
def dkwX2_forLine_2 : List UInt8 := [184, 1, 33, 153, 0, 9, 42, 6, 182, 0, 82, 191, 42, 182, 0, 75, 42, 3, 16, 99, 182, 0, 130, 62]
abbrev dktX2_forLine_2 : List UInt8 := dkwX2_forLine_2 ++ dktX2_forLine_3
def dkwX2_forLine_1 : List UInt8 := [182, 1, 26, 76, 42, 182, 0, 122, 77, 43, 44, 165, 0, 17, 43, 180, 1, 28, 44, 180, 1, 31]
abbrev dktX2_forLine_1 : List UInt8 := dkwX2_forLine_1 ++ dktX2_forLine_2
def dkwX2_forLine_0 : List UInt8 := [42, 42, 180, 0, 111, 180, 1, 23, 16, 10, 162, 0, 7, 4, 167, 0, 4, 3, 182, 0, 215, 42]
abbrev dktX2_forLine_0 : List UInt8 := dkwX2_forLine_0 ++ dktX2_forLine_1
theorem dksX2_forLine_0 : cX2_forLine.data.toList.drop 0 = dktX2_forLine_0 := by decide +kernel
theorem dksX2_forLine_1 : cX2_forLine.data.toList.drop 22 = dktX2_forLine_1 := dk_seg dksX2_forLine_0 22 rfl rfl
theorem dksX2_forLine_2 : cX2_forLine.data.toList.drop 44 = dktX2_forLine_2 := dk_seg dksX2_forLine_1 22 rfl rfl
theorem dksX2_forLine_3 : cX2_forLine.data.toList.drop 68 = dktX2_forLine_3 := dk_seg dksX2_forLine_2 24 rfl rfl
theorem dksX2_forLine_4 : cX2_forLine.data.toList.drop 90 = dktX2_forLine_4 := dk_seg dksX2_forLine_3 22 rfl rfl
theorem dX2_forLine_0 : decode cX2_forLine 0 = .ok (.aload_n 0, 1) := dk_42 (dk_at dksX2_forLine_0 0 rfl rfl)
theorem dX2_forLine_1 : decode cX2_forLine 1 = .ok (.aload_n 0, 1) := dk_42 (dk_at dksX2_forLine_0 1 rfl rfl)
theorem dX2_forLine_2 : decode cX2_forLine 2 = .ok (.getfield 111, 3) := dk_180 0 111 (dk_at dksX2_forLine_0 2 rfl rfl)
theorem dX2_forLine_5 : decode cX2_forLine 5 = .ok (.getfield 279, 3) := dk_180 1 23 (dk_at dksX2_forLine_0 5 rfl rfl)
theorem dX2_forLine_8 : decode cX2_forLine 8 = .ok (.bipush 10, 2) := dk_16 10 (dk_at dksX2_forLine_0 8 rfl rfl)
theorem dX2_forLine_10 : decode cX2_forLine 10 = .ok (.if_icmp .ge 7, 3) := dk_162 0 7 (dk_at dksX2_forLine_0 10 rfl rfl)
theorem dX2_forLine_13 : decode cX2_forLine 13 = .ok (.iconst 1, 1) := dk_4 (dk_at dksX2_forLine_0 13 rfl rfl)
theorem dX2_forLine_14 : decode cX2_forLine 14 = .ok (.goto 4, 3) := dk_167 0 4 (dk_at dksX2_forLine_0 14 rfl rfl)
theorem dX2_forLine_17 : decode cX2_forLine 17 = .ok (.iconst 0, 1) := dk_3 (dk_at dksX2_forLine_0 17 rfl rfl)
theorem dX2_forLine_18 : decode cX2_forLine 18 = .ok (.invokevirtual 215, 3) := dk_182 0 215 (dk_at dksX2_forLine_0 18 rfl rfl)
theorem dX2_forLine_21 : decode cX2_forLine 21 = .ok (.aload_n 0, 1) := dk_42 (dk_at dksX2_forLine_0 21 rfl rfl)
theorem dX2_forLine_22 : decode cX2_forLine 22 = .ok (.invokevirtual 282, 3) := dk_182 1 26 (dk_at dksX2_forLine_1 0 rfl rfl)
theorem dX2_forLine_25 : decode cX2_forLine 25 = .ok (.astore_n 1, 1) := dk_76 (dk_at dksX2_forLine_1 3 rfl rfl)
theorem dX2_forLine_26 : decode cX2_forLine 26 = .ok (.aload_n 0, 1) := dk_42 (dk_at dksX2_forLine_1 4 rfl rfl)
theorem dX2_forLine_27 : decode cX2_forLine 27 = .ok (.invokevirtual 122, 3) := dk_182 0 122 (dk_at dksX2_forLine_1 5 rfl rfl)
theorem dX2_forLine_30 : decode cX2_forLine 30 = .ok (.astore_n 2, 1) := dk_77 (dk_at dksX2_forLine_1 8 rfl rfl)
theorem dX2_forLine_31 : decode cX2_forLine 31 = .ok (.aload_n 1, 1) := dk_43 (dk_at dksX2_forLine_1 9 rfl rfl)
theorem dX2_forLine_32 : decode cX2_forLine 32 = .ok (.aload_n 2, 1) := dk_44 (dk_at dksX2_forLine_1 10 rfl rfl)
theorem dX2_forLine_33 : decode cX2_forLine 33 = .ok (.if_acmp .eq 17, 3) := dk_165 0 17 (dk_at dksX2_forLine_1 11 rfl rfl)
theorem dX2_forLine_36 : decode cX2_forLine 36 = .ok (.aload_n 1, 1) := dk_43 (dk_at dksX2_forLine_1 14 rfl rfl)
theorem dX2_forLine_37 : decode cX2_forLine 37 = .ok (.getfield 284, 3) := dk_180 1 28 (dk_at dksX2_forLine_1 15 rfl rfl)
theorem dX2_forLine_40 : decode cX2_forLine 40 = .ok (.aload_n 2, 1) := dk_44 (dk_at dksX2_forLine_1 18 rfl rfl)
theorem dX2_forLine_41 : decode cX2_forLine 41 = .ok (.getfield 287, 3) := dk_180 1 31 (dk_at dksX2_forLine_1 19 rfl rfl)
theorem dX2_forLine_44 : decode cX2_forLine 44 = .ok (.invokestatic 289, 3) := dk_184 1 33 (dk_at dksX2_forLine_2 0 rfl rfl)
theorem dX2_forLine_47 : decode cX2_forLine 47 = .ok (.ifCond .eq 9, 3) := dk_153 0 9 (dk_at dksX2_forLine_2 3 rfl rfl)
theorem dX2_forLine_50 : decode cX2_forLine 50 = .ok (.aload_n 0, 1) := dk_42 (dk_at dksX2_forLine_2 6 rfl rfl)
theorem dX2_forLine_51 : decode cX2_forLine 51 = .ok (.iconst 3, 1) := dk_6 (dk_at dksX2_forLine_2 7 rfl rfl)
theorem dX2_forLine_52 : decode cX2_forLine 52 = .ok (.invokevirtual 82, 3) := dk_182 0 82 (dk_at dksX2_forLine_2 8 rfl rfl)
theorem dX2_forLine_55 : decode cX2_forLine 55 = .ok (.athrow, 1) := dk_191 (dk_at dksX2_forLine_2 11 rfl rfl)
theorem dX2_forLine_56 : decode cX2_forLine 56 = .ok (.aload_n 0, 1) := dk_42 (dk_at dksX2_forLine_2 12 rfl rfl)
theorem dX2_forLine_57 : decode cX2_forLine 57 = .ok (.invokevirtual 75, 3) := dk_182 0 75 (dk_at dksX2_forLine_2 13 rfl rfl)
theorem dX2_forLine_60 : decode cX2_forLine 60 = .ok (.aload_n 0, 1) := dk_42 (dk_at dksX2_forLine_2 16 rfl rfl)
theorem dX2_forLine_61 : decode cX2_forLine 61 = .ok (.iconst 0, 1) := dk_3 (dk_at dksX2_forLine_2 17 rfl rfl)
theorem dX2_forLine_62 : decode cX2_forLine 62 = .ok (.bipush 99, 2) := dk_16 99 (dk_at dksX2_forLine_2 18 rfl rfl)
theorem dX2_forLine_64 : decode cX2_forLine 64 = .ok (.invokevirtual 130, 3) := dk_182 0 130 (dk_at dksX2_forLine_2 20 rfl rfl)
theorem dX2_forLine_67 : decode cX2_forLine 67 = .ok (.istore_n 3, 1) := dk_62 (dk_at dksX2_forLine_2 23 rfl rfl)
theorem dX2_forLine_68 : decode cX2_forLine 68 = .ok (.aload_n 1, 1) := dk_43 (dk_at dksX2_forLine_3 0 rfl rfl)
theorem dX2_forLine_69 : decode cX2_forLine 69 = .ok (.getfield 293, 3) := dk_180 1 37 (dk_at dksX2_forLine_3 1 rfl rfl)
theorem dX2_forLine_72 : decode cX2_forLine 72 = .ok (.aload_n 2, 1) := dk_44 (dk_at dksX2_forLine_3 4 rfl rfl)
theorem dX2_forLine_73 : decode cX2_forLine 73 = .ok (.getfield 287, 3) := dk_180 1 31 (dk_at dksX2_forLine_3 5 rfl rfl)
theorem dX2_forLine_76 : decode cX2_forLine 76 = .ok (.iload_n 3, 1) := dk_29 (dk_at dksX2_forLine_3 8 rfl rfl)
theorem dX2_forLine_77 : decode cX2_forLine 77 = .ok (.iastore, 1) := dk_79 (dk_at dksX2_forLine_3 9 rfl rfl)
theorem dX2_forLine_78 : decode cX2_forLine 78 = .ok (.aload_n 1, 1) := dk_43 (dk_at dksX2_forLine_3 10 rfl rfl)
theorem dX2_forLine_79 : decode cX2_forLine 79 = .ok (.dup, 1) := dk_89 (dk_at dksX2_forLine_3 11 rfl rfl)
theorem dX2_forLine_80 : decode cX2_forLine 80 = .ok (.getfield 284, 3) := dk_180 1 28 (dk_at dksX2_forLine_3 12 rfl rfl)
theorem dX2_forLine_83 : decode cX2_forLine 83 = .ok (.iconst 1, 1) := dk_4 (dk_at dksX2_forLine_3 15 rfl rfl)
theorem dX2_forLine_84 : decode cX2_forLine 84 = .ok (.aload_n 2, 1) := dk_44 (dk_at dksX2_forLine_3 16 rfl rfl)
theorem dX2_forLine_85 : decode cX2_forLine 85 = .ok (.getfield 287, 3) := dk_180 1 31 (dk_at dksX2_forLine_3 17 rfl rfl)
theorem dX2_forLine_88 : decode cX2_forLine 88 = .ok (.ishl, 1) := dk_120 (dk_at dksX2_forLine_3 20 rfl rfl)
theorem dX2_forLine_89 : decode cX2_forLine 89 = .ok (.ior, 1) := dk_128 (dk_at dksX2_forLine_3 21 rfl rfl)
theorem dX2_forLine_90 : decode cX2_forLine 90 = .ok (.putfield 284, 3) := dk_181 1 28 (dk_at dksX2_forLine_4 0 rfl rfl)
theorem dX2_forLine_93 : decode cX2_forLine 93 = .ok (.aload_n 0, 1) := dk_42 (dk_at dksX2_forLine_4 3 rfl rfl)
theorem dX2_forLine_94 : decode cX2_forLine 94 = .ok (.getfield 111, 3) := dk_180 0 111 (dk_at dksX2_forLine_4 4 rfl rfl)
theorem dX2_forLine_97 : decode cX2_forLine 97 = .ok (.dup, 1) := dk_89 (dk_at dksX2_forLine_4 7 rfl rfl)
theorem dX2_forLine_98 : decode cX2_forLine 98 = .ok (.getfield 279, 3) := dk_180 1 23 (dk_at dksX2_forLine_4 8 rfl rfl)
theorem dX2_forLine_101 : decode cX2_forLine 101 = .ok (.iconst 1, 1) := dk_4 (dk_at dksX2_forLine_4 11 rfl rfl)
theorem dX2_forLine_102 : decode cX2_forLine 102 = .ok (.iadd, 1) := dk_96 (dk_at dksX2_forLine_4 12 rfl rfl)
theorem dX2_forLine_103 : decode cX2_forLine 103 = .ok (.putfield 279, 3) := dk_181 1 23 (dk_at dksX2_forLine_4 13 rfl rfl)
theorem dX2_forLine_106 : decode cX2_forLine 106 = .ok (.return_, 1) := dk_177 (dk_at dksX2_forLine_4 16 rfl rfl)
abbrev cX2_person : ByteArray := prog_16_method_13_code
def yX2_person : MethodName := ⟨RX2, "person", "()LLongerHalf$Person;"⟩
def dkwX2_person_0 : List UInt8 := [42, 182, 0, 122, 76, 42, 182, 0, 75, 43, 176]
abbrev dktX2_person_0 : List UInt8 := dkwX2_person_0 ++ []
theorem dksX2_person_0 : cX2_person.data.toList.drop 0 = dktX2_person_0 := by decide +kernel
theorem dX2_person_0 : decode cX2_person 0 = .ok (.aload_n 0, 1) := dk_42 (dk_at dksX2_person_0 0 rfl rfl)
theorem dX2_person_1 : decode cX2_person 1 = .ok (.invokevirtual 122, 3) := dk_182 0 122 (dk_at dksX2_person_0 1 rfl rfl)
theorem dX2_person_4 : decode cX2_person 4 = .ok (.astore_n 1, 1) := dk_76 (dk_at dksX2_person_0 4 rfl rfl)
theorem dX2_person_5 : decode cX2_person 5 = .ok (.aload_n 0, 1) := dk_42 (dk_at dksX2_person_0 5 rfl rfl)
theorem dX2_person_6 : decode cX2_person 6 = .ok (.invokevirtual 75, 3) := dk_182 0 75 (dk_at dksX2_person_0 6 rfl rfl)
theorem dX2_person_9 : decode cX2_person 9 = .ok (.aload_n 1, 1) := dk_43 (dk_at dksX2_person_0 9 rfl rfl)
theorem dX2_person_10 : decode cX2_person 10 = .ok (.areturn, 1) := dk_176 (dk_at dksX2_person_0 10 rfl rfl)
abbrev cX2_personHere : ByteArray := prog_16_method_12_code
def yX2_personHere : MethodName := ⟨RX2, "personHere", "()LLongerHalf$Person;"⟩
def dkwX2_personHere_1 : List UInt8 := [5, 182, 0, 82, 191, 43, 192, 0, 120, 176]
abbrev dktX2_personHere_1 : List UInt8 := dkwX2_personHere_1 ++ []
def dkwX2_personHere_0 : List UInt8 := [42, 182, 0, 108, 42, 180, 0, 111, 42, 180, 0, 61, 182, 0, 114, 76, 43, 193, 0, 120, 154, 0, 9, 42]
abbrev dktX2_personHere_0 : List UInt8 := dkwX2_personHere_0 ++ dktX2_personHere_1
theorem dksX2_personHere_0 : cX2_personHere.data.toList.drop 0 = dktX2_personHere_0 := by decide +kernel
theorem dksX2_personHere_1 : cX2_personHere.data.toList.drop 24 = dktX2_personHere_1 := dk_seg dksX2_personHere_0 24 rfl rfl
theorem dX2_personHere_0 : decode cX2_personHere 0 = .ok (.aload_n 0, 1) := dk_42 (dk_at dksX2_personHere_0 0 rfl rfl)
theorem dX2_personHere_1 : decode cX2_personHere 1 = .ok (.invokevirtual 108, 3) := dk_182 0 108 (dk_at dksX2_personHere_0 1 rfl rfl)
theorem dX2_personHere_4 : decode cX2_personHere 4 = .ok (.aload_n 0, 1) := dk_42 (dk_at dksX2_personHere_0 4 rfl rfl)
theorem dX2_personHere_5 : decode cX2_personHere 5 = .ok (.getfield 111, 3) := dk_180 0 111 (dk_at dksX2_personHere_0 5 rfl rfl)
theorem dX2_personHere_8 : decode cX2_personHere 8 = .ok (.aload_n 0, 1) := dk_42 (dk_at dksX2_personHere_0 8 rfl rfl)
theorem dX2_personHere_9 : decode cX2_personHere 9 = .ok (.getfield 61, 3) := dk_180 0 61 (dk_at dksX2_personHere_0 9 rfl rfl)
theorem dX2_personHere_12 : decode cX2_personHere 12 = .ok (.invokevirtual 114, 3) := dk_182 0 114 (dk_at dksX2_personHere_0 12 rfl rfl)
theorem dX2_personHere_15 : decode cX2_personHere 15 = .ok (.astore_n 1, 1) := dk_76 (dk_at dksX2_personHere_0 15 rfl rfl)
theorem dX2_personHere_16 : decode cX2_personHere 16 = .ok (.aload_n 1, 1) := dk_43 (dk_at dksX2_personHere_0 16 rfl rfl)
theorem dX2_personHere_17 : decode cX2_personHere 17 = .ok (.instanceof 120, 3) := dk_193 0 120 (dk_at dksX2_personHere_0 17 rfl rfl)
theorem dX2_personHere_20 : decode cX2_personHere 20 = .ok (.ifCond .ne 9, 3) := dk_154 0 9 (dk_at dksX2_personHere_0 20 rfl rfl)
theorem dX2_personHere_23 : decode cX2_personHere 23 = .ok (.aload_n 0, 1) := dk_42 (dk_at dksX2_personHere_0 23 rfl rfl)
theorem dX2_personHere_24 : decode cX2_personHere 24 = .ok (.iconst 2, 1) := dk_5 (dk_at dksX2_personHere_1 0 rfl rfl)
theorem dX2_personHere_25 : decode cX2_personHere 25 = .ok (.invokevirtual 82, 3) := dk_182 0 82 (dk_at dksX2_personHere_1 1 rfl rfl)
theorem dX2_personHere_28 : decode cX2_personHere 28 = .ok (.athrow, 1) := dk_191 (dk_at dksX2_personHere_1 4 rfl rfl)
theorem dX2_personHere_29 : decode cX2_personHere 29 = .ok (.aload_n 1, 1) := dk_43 (dk_at dksX2_personHere_1 5 rfl rfl)
theorem dX2_personHere_30 : decode cX2_personHere 30 = .ok (.checkcast 120, 3) := dk_192 0 120 (dk_at dksX2_personHere_1 6 rfl rfl)
theorem dX2_personHere_33 : decode cX2_personHere 33 = .ok (.areturn, 1) := dk_176 (dk_at dksX2_personHere_1 9 rfl rfl)
abbrev cX2_won : ByteArray := prog_16_method_27_code
def yX2_won : MethodName := ⟨RX2, "won", "()V"⟩
def dkwX2_won_5 : List UInt8 := [181, 1, 41, 177]
abbrev dktX2_won_5 : List UInt8 := dkwX2_won_5 ++ []
def dkwX2_won_4 : List UInt8 := [154, 0, 7, 4, 167, 0, 4, 3, 96, 181, 1, 52, 42, 180, 0, 111, 89, 180, 1, 41, 4, 96]
abbrev dktX2_won_4 : List UInt8 := dkwX2_won_4 ++ dktX2_won_5
def dkwX2_won_3 : List UInt8 := [181, 1, 50, 44, 89, 180, 1, 47, 4, 96, 181, 1, 47, 42, 180, 0, 111, 89, 180, 1, 52, 29]
abbrev dktX2_won_3 : List UInt8 := dkwX2_won_3 ++ dktX2_won_4
def dkwX2_won_2 : List UInt8 := [42, 182, 1, 44, 62, 43, 89, 180, 1, 47, 4, 96, 181, 1, 47, 43, 89, 180, 1, 50, 4, 96]
abbrev dktX2_won_2 : List UInt8 := dkwX2_won_2 ++ dktX2_won_3
def dkwX2_won_1 : List UInt8 := [182, 1, 26, 76, 42, 182, 0, 122, 77, 43, 44, 166, 0, 9, 42, 6, 182, 0, 82, 191, 42, 182, 0, 75]
abbrev dktX2_won_1 : List UInt8 := dkwX2_won_1 ++ dktX2_won_2
def dkwX2_won_0 : List UInt8 := [42, 42, 180, 0, 111, 180, 1, 41, 16, 12, 162, 0, 7, 4, 167, 0, 4, 3, 182, 0, 215, 42]
abbrev dktX2_won_0 : List UInt8 := dkwX2_won_0 ++ dktX2_won_1
theorem dksX2_won_0 : cX2_won.data.toList.drop 0 = dktX2_won_0 := by decide +kernel
theorem dksX2_won_1 : cX2_won.data.toList.drop 22 = dktX2_won_1 := dk_seg dksX2_won_0 22 rfl rfl
theorem dksX2_won_2 : cX2_won.data.toList.drop 46 = dktX2_won_2 := dk_seg dksX2_won_1 24 rfl rfl
theorem dksX2_won_3 : cX2_won.data.toList.drop 68 = dktX2_won_3 := dk_seg dksX2_won_2 22 rfl rfl
theorem dksX2_won_4 : cX2_won.data.toList.drop 90 = dktX2_won_4 := dk_seg dksX2_won_3 22 rfl rfl
theorem dksX2_won_5 : cX2_won.data.toList.drop 112 = dktX2_won_5 := dk_seg dksX2_won_4 22 rfl rfl
theorem dX2_won_0 : decode cX2_won 0 = .ok (.aload_n 0, 1) := dk_42 (dk_at dksX2_won_0 0 rfl rfl)
theorem dX2_won_1 : decode cX2_won 1 = .ok (.aload_n 0, 1) := dk_42 (dk_at dksX2_won_0 1 rfl rfl)
theorem dX2_won_2 : decode cX2_won 2 = .ok (.getfield 111, 3) := dk_180 0 111 (dk_at dksX2_won_0 2 rfl rfl)
theorem dX2_won_5 : decode cX2_won 5 = .ok (.getfield 297, 3) := dk_180 1 41 (dk_at dksX2_won_0 5 rfl rfl)
theorem dX2_won_8 : decode cX2_won 8 = .ok (.bipush 12, 2) := dk_16 12 (dk_at dksX2_won_0 8 rfl rfl)
theorem dX2_won_10 : decode cX2_won 10 = .ok (.if_icmp .ge 7, 3) := dk_162 0 7 (dk_at dksX2_won_0 10 rfl rfl)
theorem dX2_won_13 : decode cX2_won 13 = .ok (.iconst 1, 1) := dk_4 (dk_at dksX2_won_0 13 rfl rfl)
theorem dX2_won_14 : decode cX2_won 14 = .ok (.goto 4, 3) := dk_167 0 4 (dk_at dksX2_won_0 14 rfl rfl)
theorem dX2_won_17 : decode cX2_won 17 = .ok (.iconst 0, 1) := dk_3 (dk_at dksX2_won_0 17 rfl rfl)
theorem dX2_won_18 : decode cX2_won 18 = .ok (.invokevirtual 215, 3) := dk_182 0 215 (dk_at dksX2_won_0 18 rfl rfl)
theorem dX2_won_21 : decode cX2_won 21 = .ok (.aload_n 0, 1) := dk_42 (dk_at dksX2_won_0 21 rfl rfl)
theorem dX2_won_22 : decode cX2_won 22 = .ok (.invokevirtual 282, 3) := dk_182 1 26 (dk_at dksX2_won_1 0 rfl rfl)
theorem dX2_won_25 : decode cX2_won 25 = .ok (.astore_n 1, 1) := dk_76 (dk_at dksX2_won_1 3 rfl rfl)
theorem dX2_won_26 : decode cX2_won 26 = .ok (.aload_n 0, 1) := dk_42 (dk_at dksX2_won_1 4 rfl rfl)
theorem dX2_won_27 : decode cX2_won 27 = .ok (.invokevirtual 122, 3) := dk_182 0 122 (dk_at dksX2_won_1 5 rfl rfl)
theorem dX2_won_30 : decode cX2_won 30 = .ok (.astore_n 2, 1) := dk_77 (dk_at dksX2_won_1 8 rfl rfl)
theorem dX2_won_31 : decode cX2_won 31 = .ok (.aload_n 1, 1) := dk_43 (dk_at dksX2_won_1 9 rfl rfl)
theorem dX2_won_32 : decode cX2_won 32 = .ok (.aload_n 2, 1) := dk_44 (dk_at dksX2_won_1 10 rfl rfl)
theorem dX2_won_33 : decode cX2_won 33 = .ok (.if_acmp .ne 9, 3) := dk_166 0 9 (dk_at dksX2_won_1 11 rfl rfl)
theorem dX2_won_36 : decode cX2_won 36 = .ok (.aload_n 0, 1) := dk_42 (dk_at dksX2_won_1 14 rfl rfl)
theorem dX2_won_37 : decode cX2_won 37 = .ok (.iconst 3, 1) := dk_6 (dk_at dksX2_won_1 15 rfl rfl)
theorem dX2_won_38 : decode cX2_won 38 = .ok (.invokevirtual 82, 3) := dk_182 0 82 (dk_at dksX2_won_1 16 rfl rfl)
theorem dX2_won_41 : decode cX2_won 41 = .ok (.athrow, 1) := dk_191 (dk_at dksX2_won_1 19 rfl rfl)
theorem dX2_won_42 : decode cX2_won 42 = .ok (.aload_n 0, 1) := dk_42 (dk_at dksX2_won_1 20 rfl rfl)
theorem dX2_won_43 : decode cX2_won 43 = .ok (.invokevirtual 75, 3) := dk_182 0 75 (dk_at dksX2_won_1 21 rfl rfl)
theorem dX2_won_46 : decode cX2_won 46 = .ok (.aload_n 0, 1) := dk_42 (dk_at dksX2_won_2 0 rfl rfl)
theorem dX2_won_47 : decode cX2_won 47 = .ok (.invokevirtual 300, 3) := dk_182 1 44 (dk_at dksX2_won_2 1 rfl rfl)
theorem dX2_won_50 : decode cX2_won 50 = .ok (.istore_n 3, 1) := dk_62 (dk_at dksX2_won_2 4 rfl rfl)
theorem dX2_won_51 : decode cX2_won 51 = .ok (.aload_n 1, 1) := dk_43 (dk_at dksX2_won_2 5 rfl rfl)
theorem dX2_won_52 : decode cX2_won 52 = .ok (.dup, 1) := dk_89 (dk_at dksX2_won_2 6 rfl rfl)
theorem dX2_won_53 : decode cX2_won 53 = .ok (.getfield 303, 3) := dk_180 1 47 (dk_at dksX2_won_2 7 rfl rfl)
theorem dX2_won_56 : decode cX2_won 56 = .ok (.iconst 1, 1) := dk_4 (dk_at dksX2_won_2 10 rfl rfl)
theorem dX2_won_57 : decode cX2_won 57 = .ok (.iadd, 1) := dk_96 (dk_at dksX2_won_2 11 rfl rfl)
theorem dX2_won_58 : decode cX2_won 58 = .ok (.putfield 303, 3) := dk_181 1 47 (dk_at dksX2_won_2 12 rfl rfl)
theorem dX2_won_61 : decode cX2_won 61 = .ok (.aload_n 1, 1) := dk_43 (dk_at dksX2_won_2 15 rfl rfl)
theorem dX2_won_62 : decode cX2_won 62 = .ok (.dup, 1) := dk_89 (dk_at dksX2_won_2 16 rfl rfl)
theorem dX2_won_63 : decode cX2_won 63 = .ok (.getfield 306, 3) := dk_180 1 50 (dk_at dksX2_won_2 17 rfl rfl)
theorem dX2_won_66 : decode cX2_won 66 = .ok (.iconst 1, 1) := dk_4 (dk_at dksX2_won_2 20 rfl rfl)
theorem dX2_won_67 : decode cX2_won 67 = .ok (.iadd, 1) := dk_96 (dk_at dksX2_won_2 21 rfl rfl)
theorem dX2_won_68 : decode cX2_won 68 = .ok (.putfield 306, 3) := dk_181 1 50 (dk_at dksX2_won_3 0 rfl rfl)
theorem dX2_won_71 : decode cX2_won 71 = .ok (.aload_n 2, 1) := dk_44 (dk_at dksX2_won_3 3 rfl rfl)
theorem dX2_won_72 : decode cX2_won 72 = .ok (.dup, 1) := dk_89 (dk_at dksX2_won_3 4 rfl rfl)
theorem dX2_won_73 : decode cX2_won 73 = .ok (.getfield 303, 3) := dk_180 1 47 (dk_at dksX2_won_3 5 rfl rfl)
theorem dX2_won_76 : decode cX2_won 76 = .ok (.iconst 1, 1) := dk_4 (dk_at dksX2_won_3 8 rfl rfl)
theorem dX2_won_77 : decode cX2_won 77 = .ok (.iadd, 1) := dk_96 (dk_at dksX2_won_3 9 rfl rfl)
theorem dX2_won_78 : decode cX2_won 78 = .ok (.putfield 303, 3) := dk_181 1 47 (dk_at dksX2_won_3 10 rfl rfl)
theorem dX2_won_81 : decode cX2_won 81 = .ok (.aload_n 0, 1) := dk_42 (dk_at dksX2_won_3 13 rfl rfl)
theorem dX2_won_82 : decode cX2_won 82 = .ok (.getfield 111, 3) := dk_180 0 111 (dk_at dksX2_won_3 14 rfl rfl)
theorem dX2_won_85 : decode cX2_won 85 = .ok (.dup, 1) := dk_89 (dk_at dksX2_won_3 17 rfl rfl)
theorem dX2_won_86 : decode cX2_won 86 = .ok (.getfield 308, 3) := dk_180 1 52 (dk_at dksX2_won_3 18 rfl rfl)
theorem dX2_won_89 : decode cX2_won 89 = .ok (.iload_n 3, 1) := dk_29 (dk_at dksX2_won_3 21 rfl rfl)
theorem dX2_won_90 : decode cX2_won 90 = .ok (.ifCond .ne 7, 3) := dk_154 0 7 (dk_at dksX2_won_4 0 rfl rfl)
theorem dX2_won_93 : decode cX2_won 93 = .ok (.iconst 1, 1) := dk_4 (dk_at dksX2_won_4 3 rfl rfl)
theorem dX2_won_94 : decode cX2_won 94 = .ok (.goto 4, 3) := dk_167 0 4 (dk_at dksX2_won_4 4 rfl rfl)
theorem dX2_won_97 : decode cX2_won 97 = .ok (.iconst 0, 1) := dk_3 (dk_at dksX2_won_4 7 rfl rfl)
theorem dX2_won_98 : decode cX2_won 98 = .ok (.iadd, 1) := dk_96 (dk_at dksX2_won_4 8 rfl rfl)
theorem dX2_won_99 : decode cX2_won 99 = .ok (.putfield 308, 3) := dk_181 1 52 (dk_at dksX2_won_4 9 rfl rfl)
theorem dX2_won_102 : decode cX2_won 102 = .ok (.aload_n 0, 1) := dk_42 (dk_at dksX2_won_4 12 rfl rfl)
theorem dX2_won_103 : decode cX2_won 103 = .ok (.getfield 111, 3) := dk_180 0 111 (dk_at dksX2_won_4 13 rfl rfl)
theorem dX2_won_106 : decode cX2_won 106 = .ok (.dup, 1) := dk_89 (dk_at dksX2_won_4 16 rfl rfl)
theorem dX2_won_107 : decode cX2_won 107 = .ok (.getfield 297, 3) := dk_180 1 41 (dk_at dksX2_won_4 17 rfl rfl)
theorem dX2_won_110 : decode cX2_won 110 = .ok (.iconst 1, 1) := dk_4 (dk_at dksX2_won_4 20 rfl rfl)
theorem dX2_won_111 : decode cX2_won 111 = .ok (.iadd, 1) := dk_96 (dk_at dksX2_won_4 21 rfl rfl)
theorem dX2_won_112 : decode cX2_won 112 = .ok (.putfield 297, 3) := dk_181 1 41 (dk_at dksX2_won_5 0 rfl rfl)
theorem dX2_won_115 : decode cX2_won 115 = .ok (.return_, 1) := dk_177 (dk_at dksX2_won_5 3 rfl rfl)
abbrev cX2_side : ByteArray := prog_16_method_26_code
def yX2_side : MethodName := ⟨RX2, "side", "()I"⟩
def dkwX2_side_0 : List UInt8 := [42, 18, 104, 182, 0, 78, 153, 0, 5, 3, 172, 42, 18, 106, 182, 0, 126, 4, 172]
abbrev dktX2_side_0 : List UInt8 := dkwX2_side_0 ++ []
theorem dksX2_side_0 : cX2_side.data.toList.drop 0 = dktX2_side_0 := by decide +kernel
theorem dX2_side_0 : decode cX2_side 0 = .ok (.aload_n 0, 1) := dk_42 (dk_at dksX2_side_0 0 rfl rfl)
theorem dX2_side_1 : decode cX2_side 1 = .ok (.ldc 104, 2) := dk_18 104 (dk_at dksX2_side_0 1 rfl rfl)
theorem dX2_side_3 : decode cX2_side 3 = .ok (.invokevirtual 78, 3) := dk_182 0 78 (dk_at dksX2_side_0 3 rfl rfl)
theorem dX2_side_6 : decode cX2_side 6 = .ok (.ifCond .eq 5, 3) := dk_153 0 5 (dk_at dksX2_side_0 6 rfl rfl)
theorem dX2_side_9 : decode cX2_side 9 = .ok (.iconst 0, 1) := dk_3 (dk_at dksX2_side_0 9 rfl rfl)
theorem dX2_side_10 : decode cX2_side 10 = .ok (.ireturn, 1) := dk_172 (dk_at dksX2_side_0 10 rfl rfl)
theorem dX2_side_11 : decode cX2_side 11 = .ok (.aload_n 0, 1) := dk_42 (dk_at dksX2_side_0 11 rfl rfl)
theorem dX2_side_12 : decode cX2_side 12 = .ok (.ldc 106, 2) := dk_18 106 (dk_at dksX2_side_0 12 rfl rfl)
theorem dX2_side_14 : decode cX2_side 14 = .ok (.invokevirtual 126, 3) := dk_182 0 126 (dk_at dksX2_side_0 14 rfl rfl)
theorem dX2_side_17 : decode cX2_side 17 = .ok (.iconst 1, 1) := dk_4 (dk_at dksX2_side_0 17 rfl rfl)
theorem dX2_side_18 : decode cX2_side 18 = .ok (.ireturn, 1) := dk_172 (dk_at dksX2_side_0 18 rfl rfl)
abbrev cX2_piece : ByteArray := prog_16_method_28_code
def yX2_piece : MethodName := ⟨RX2, "piece", "()V"⟩
def dkwX2_piece_3 : List UInt8 := [4, 96, 181, 1, 55, 177]
abbrev dktX2_piece_3 : List UInt8 := dkwX2_piece_3 ++ []
def dkwX2_piece_2 : List UInt8 := [42, 180, 0, 111, 180, 1, 61, 42, 180, 0, 111, 180, 1, 55, 28, 79, 42, 180, 0, 111, 89, 180, 1, 55]
abbrev dktX2_piece_2 : List UInt8 := dkwX2_piece_2 ++ dktX2_piece_3
def dkwX2_piece_1 : List UInt8 := [60, 42, 3, 8, 182, 0, 130, 61, 42, 180, 0, 111, 180, 1, 58, 42, 180, 0, 111, 180, 1, 55, 27, 79]
abbrev dktX2_piece_1 : List UInt8 := dkwX2_piece_1 ++ dktX2_piece_2
def dkwX2_piece_0 : List UInt8 := [42, 42, 180, 0, 111, 180, 1, 55, 7, 162, 0, 7, 4, 167, 0, 4, 3, 182, 0, 215, 42, 182, 1, 44]
abbrev dktX2_piece_0 : List UInt8 := dkwX2_piece_0 ++ dktX2_piece_1
theorem dksX2_piece_0 : cX2_piece.data.toList.drop 0 = dktX2_piece_0 := by decide +kernel
theorem dksX2_piece_1 : cX2_piece.data.toList.drop 24 = dktX2_piece_1 := dk_seg dksX2_piece_0 24 rfl rfl
theorem dksX2_piece_2 : cX2_piece.data.toList.drop 48 = dktX2_piece_2 := dk_seg dksX2_piece_1 24 rfl rfl
theorem dksX2_piece_3 : cX2_piece.data.toList.drop 72 = dktX2_piece_3 := dk_seg dksX2_piece_2 24 rfl rfl
theorem dX2_piece_0 : decode cX2_piece 0 = .ok (.aload_n 0, 1) := dk_42 (dk_at dksX2_piece_0 0 rfl rfl)
theorem dX2_piece_1 : decode cX2_piece 1 = .ok (.aload_n 0, 1) := dk_42 (dk_at dksX2_piece_0 1 rfl rfl)
theorem dX2_piece_2 : decode cX2_piece 2 = .ok (.getfield 111, 3) := dk_180 0 111 (dk_at dksX2_piece_0 2 rfl rfl)
theorem dX2_piece_5 : decode cX2_piece 5 = .ok (.getfield 311, 3) := dk_180 1 55 (dk_at dksX2_piece_0 5 rfl rfl)
theorem dX2_piece_8 : decode cX2_piece 8 = .ok (.iconst 4, 1) := dk_7 (dk_at dksX2_piece_0 8 rfl rfl)
theorem dX2_piece_9 : decode cX2_piece 9 = .ok (.if_icmp .ge 7, 3) := dk_162 0 7 (dk_at dksX2_piece_0 9 rfl rfl)
theorem dX2_piece_12 : decode cX2_piece 12 = .ok (.iconst 1, 1) := dk_4 (dk_at dksX2_piece_0 12 rfl rfl)
theorem dX2_piece_13 : decode cX2_piece 13 = .ok (.goto 4, 3) := dk_167 0 4 (dk_at dksX2_piece_0 13 rfl rfl)
theorem dX2_piece_16 : decode cX2_piece 16 = .ok (.iconst 0, 1) := dk_3 (dk_at dksX2_piece_0 16 rfl rfl)
theorem dX2_piece_17 : decode cX2_piece 17 = .ok (.invokevirtual 215, 3) := dk_182 0 215 (dk_at dksX2_piece_0 17 rfl rfl)
theorem dX2_piece_20 : decode cX2_piece 20 = .ok (.aload_n 0, 1) := dk_42 (dk_at dksX2_piece_0 20 rfl rfl)
theorem dX2_piece_21 : decode cX2_piece 21 = .ok (.invokevirtual 300, 3) := dk_182 1 44 (dk_at dksX2_piece_0 21 rfl rfl)
theorem dX2_piece_24 : decode cX2_piece 24 = .ok (.istore_n 1, 1) := dk_60 (dk_at dksX2_piece_1 0 rfl rfl)
theorem dX2_piece_25 : decode cX2_piece 25 = .ok (.aload_n 0, 1) := dk_42 (dk_at dksX2_piece_1 1 rfl rfl)
theorem dX2_piece_26 : decode cX2_piece 26 = .ok (.iconst 0, 1) := dk_3 (dk_at dksX2_piece_1 2 rfl rfl)
theorem dX2_piece_27 : decode cX2_piece 27 = .ok (.iconst 5, 1) := dk_8 (dk_at dksX2_piece_1 3 rfl rfl)
theorem dX2_piece_28 : decode cX2_piece 28 = .ok (.invokevirtual 130, 3) := dk_182 0 130 (dk_at dksX2_piece_1 4 rfl rfl)
theorem dX2_piece_31 : decode cX2_piece 31 = .ok (.istore_n 2, 1) := dk_61 (dk_at dksX2_piece_1 7 rfl rfl)
theorem dX2_piece_32 : decode cX2_piece 32 = .ok (.aload_n 0, 1) := dk_42 (dk_at dksX2_piece_1 8 rfl rfl)
theorem dX2_piece_33 : decode cX2_piece 33 = .ok (.getfield 111, 3) := dk_180 0 111 (dk_at dksX2_piece_1 9 rfl rfl)
theorem dX2_piece_36 : decode cX2_piece 36 = .ok (.getfield 314, 3) := dk_180 1 58 (dk_at dksX2_piece_1 12 rfl rfl)
theorem dX2_piece_39 : decode cX2_piece 39 = .ok (.aload_n 0, 1) := dk_42 (dk_at dksX2_piece_1 15 rfl rfl)
theorem dX2_piece_40 : decode cX2_piece 40 = .ok (.getfield 111, 3) := dk_180 0 111 (dk_at dksX2_piece_1 16 rfl rfl)
theorem dX2_piece_43 : decode cX2_piece 43 = .ok (.getfield 311, 3) := dk_180 1 55 (dk_at dksX2_piece_1 19 rfl rfl)
theorem dX2_piece_46 : decode cX2_piece 46 = .ok (.iload_n 1, 1) := dk_27 (dk_at dksX2_piece_1 22 rfl rfl)
theorem dX2_piece_47 : decode cX2_piece 47 = .ok (.iastore, 1) := dk_79 (dk_at dksX2_piece_1 23 rfl rfl)
theorem dX2_piece_48 : decode cX2_piece 48 = .ok (.aload_n 0, 1) := dk_42 (dk_at dksX2_piece_2 0 rfl rfl)
theorem dX2_piece_49 : decode cX2_piece 49 = .ok (.getfield 111, 3) := dk_180 0 111 (dk_at dksX2_piece_2 1 rfl rfl)
theorem dX2_piece_52 : decode cX2_piece 52 = .ok (.getfield 317, 3) := dk_180 1 61 (dk_at dksX2_piece_2 4 rfl rfl)
theorem dX2_piece_55 : decode cX2_piece 55 = .ok (.aload_n 0, 1) := dk_42 (dk_at dksX2_piece_2 7 rfl rfl)
theorem dX2_piece_56 : decode cX2_piece 56 = .ok (.getfield 111, 3) := dk_180 0 111 (dk_at dksX2_piece_2 8 rfl rfl)
theorem dX2_piece_59 : decode cX2_piece 59 = .ok (.getfield 311, 3) := dk_180 1 55 (dk_at dksX2_piece_2 11 rfl rfl)
theorem dX2_piece_62 : decode cX2_piece 62 = .ok (.iload_n 2, 1) := dk_28 (dk_at dksX2_piece_2 14 rfl rfl)
theorem dX2_piece_63 : decode cX2_piece 63 = .ok (.iastore, 1) := dk_79 (dk_at dksX2_piece_2 15 rfl rfl)
theorem dX2_piece_64 : decode cX2_piece 64 = .ok (.aload_n 0, 1) := dk_42 (dk_at dksX2_piece_2 16 rfl rfl)
theorem dX2_piece_65 : decode cX2_piece 65 = .ok (.getfield 111, 3) := dk_180 0 111 (dk_at dksX2_piece_2 17 rfl rfl)
theorem dX2_piece_68 : decode cX2_piece 68 = .ok (.dup, 1) := dk_89 (dk_at dksX2_piece_2 20 rfl rfl)
theorem dX2_piece_69 : decode cX2_piece 69 = .ok (.getfield 311, 3) := dk_180 1 55 (dk_at dksX2_piece_2 21 rfl rfl)
theorem dX2_piece_72 : decode cX2_piece 72 = .ok (.iconst 1, 1) := dk_4 (dk_at dksX2_piece_3 0 rfl rfl)
theorem dX2_piece_73 : decode cX2_piece 73 = .ok (.iadd, 1) := dk_96 (dk_at dksX2_piece_3 1 rfl rfl)
theorem dX2_piece_74 : decode cX2_piece 74 = .ok (.putfield 311, 3) := dk_181 1 55 (dk_at dksX2_piece_3 2 rfl rfl)
theorem dX2_piece_77 : decode cX2_piece 77 = .ok (.return_, 1) := dk_177 (dk_at dksX2_piece_3 5 rfl rfl)
abbrev cX2_cheats : ByteArray := prog_16_method_29_code
def yX2_cheats : MethodName := ⟨RX2, "cheats", "()V"⟩
def dkwX2_cheats_2 : List UInt8 := [181, 1, 67, 43, 42, 19, 1, 68, 4, 16, 9, 182, 0, 167, 181, 1, 70, 43, 28, 181, 1, 64, 177]
abbrev dktX2_cheats_2 : List UInt8 := dkwX2_cheats_2 ++ []
def dkwX2_cheats_1 : List UInt8 := [191, 42, 182, 0, 75, 42, 3, 16, 99, 182, 0, 130, 61, 43, 42, 18, 178, 4, 16, 9, 182, 0, 167]
abbrev dktX2_cheats_1 : List UInt8 := dkwX2_cheats_1 ++ dktX2_cheats_2
def dkwX2_cheats_0 : List UInt8 := [42, 4, 182, 0, 215, 42, 182, 0, 122, 76, 43, 180, 1, 64, 16, 254, 159, 0, 9, 42, 6, 182, 0, 82]
abbrev dktX2_cheats_0 : List UInt8 := dkwX2_cheats_0 ++ dktX2_cheats_1
theorem dksX2_cheats_0 : cX2_cheats.data.toList.drop 0 = dktX2_cheats_0 := by decide +kernel
theorem dksX2_cheats_1 : cX2_cheats.data.toList.drop 24 = dktX2_cheats_1 := dk_seg dksX2_cheats_0 24 rfl rfl
theorem dksX2_cheats_2 : cX2_cheats.data.toList.drop 47 = dktX2_cheats_2 := dk_seg dksX2_cheats_1 23 rfl rfl
theorem dX2_cheats_0 : decode cX2_cheats 0 = .ok (.aload_n 0, 1) := dk_42 (dk_at dksX2_cheats_0 0 rfl rfl)
theorem dX2_cheats_1 : decode cX2_cheats 1 = .ok (.iconst 1, 1) := dk_4 (dk_at dksX2_cheats_0 1 rfl rfl)
theorem dX2_cheats_2 : decode cX2_cheats 2 = .ok (.invokevirtual 215, 3) := dk_182 0 215 (dk_at dksX2_cheats_0 2 rfl rfl)
theorem dX2_cheats_5 : decode cX2_cheats 5 = .ok (.aload_n 0, 1) := dk_42 (dk_at dksX2_cheats_0 5 rfl rfl)
theorem dX2_cheats_6 : decode cX2_cheats 6 = .ok (.invokevirtual 122, 3) := dk_182 0 122 (dk_at dksX2_cheats_0 6 rfl rfl)
theorem dX2_cheats_9 : decode cX2_cheats 9 = .ok (.astore_n 1, 1) := dk_76 (dk_at dksX2_cheats_0 9 rfl rfl)
theorem dX2_cheats_10 : decode cX2_cheats 10 = .ok (.aload_n 1, 1) := dk_43 (dk_at dksX2_cheats_0 10 rfl rfl)
theorem dX2_cheats_11 : decode cX2_cheats 11 = .ok (.getfield 320, 3) := dk_180 1 64 (dk_at dksX2_cheats_0 11 rfl rfl)
theorem dX2_cheats_14 : decode cX2_cheats 14 = .ok (.bipush (-2), 2) := dk_16 254 (dk_at dksX2_cheats_0 14 rfl rfl)
theorem dX2_cheats_16 : decode cX2_cheats 16 = .ok (.if_icmp .eq 9, 3) := dk_159 0 9 (dk_at dksX2_cheats_0 16 rfl rfl)
theorem dX2_cheats_19 : decode cX2_cheats 19 = .ok (.aload_n 0, 1) := dk_42 (dk_at dksX2_cheats_0 19 rfl rfl)
theorem dX2_cheats_20 : decode cX2_cheats 20 = .ok (.iconst 3, 1) := dk_6 (dk_at dksX2_cheats_0 20 rfl rfl)
theorem dX2_cheats_21 : decode cX2_cheats 21 = .ok (.invokevirtual 82, 3) := dk_182 0 82 (dk_at dksX2_cheats_0 21 rfl rfl)
theorem dX2_cheats_24 : decode cX2_cheats 24 = .ok (.athrow, 1) := dk_191 (dk_at dksX2_cheats_1 0 rfl rfl)
theorem dX2_cheats_25 : decode cX2_cheats 25 = .ok (.aload_n 0, 1) := dk_42 (dk_at dksX2_cheats_1 1 rfl rfl)
theorem dX2_cheats_26 : decode cX2_cheats 26 = .ok (.invokevirtual 75, 3) := dk_182 0 75 (dk_at dksX2_cheats_1 2 rfl rfl)
theorem dX2_cheats_29 : decode cX2_cheats 29 = .ok (.aload_n 0, 1) := dk_42 (dk_at dksX2_cheats_1 5 rfl rfl)
theorem dX2_cheats_30 : decode cX2_cheats 30 = .ok (.iconst 0, 1) := dk_3 (dk_at dksX2_cheats_1 6 rfl rfl)
theorem dX2_cheats_31 : decode cX2_cheats 31 = .ok (.bipush 99, 2) := dk_16 99 (dk_at dksX2_cheats_1 7 rfl rfl)
theorem dX2_cheats_33 : decode cX2_cheats 33 = .ok (.invokevirtual 130, 3) := dk_182 0 130 (dk_at dksX2_cheats_1 9 rfl rfl)
theorem dX2_cheats_36 : decode cX2_cheats 36 = .ok (.istore_n 2, 1) := dk_61 (dk_at dksX2_cheats_1 12 rfl rfl)
theorem dX2_cheats_37 : decode cX2_cheats 37 = .ok (.aload_n 1, 1) := dk_43 (dk_at dksX2_cheats_1 13 rfl rfl)
theorem dX2_cheats_38 : decode cX2_cheats 38 = .ok (.aload_n 0, 1) := dk_42 (dk_at dksX2_cheats_1 14 rfl rfl)
theorem dX2_cheats_39 : decode cX2_cheats 39 = .ok (.ldc 178, 2) := dk_18 178 (dk_at dksX2_cheats_1 15 rfl rfl)
theorem dX2_cheats_41 : decode cX2_cheats 41 = .ok (.iconst 1, 1) := dk_4 (dk_at dksX2_cheats_1 17 rfl rfl)
theorem dX2_cheats_42 : decode cX2_cheats 42 = .ok (.bipush 9, 2) := dk_16 9 (dk_at dksX2_cheats_1 18 rfl rfl)
theorem dX2_cheats_44 : decode cX2_cheats 44 = .ok (.invokevirtual 167, 3) := dk_182 0 167 (dk_at dksX2_cheats_1 20 rfl rfl)
theorem dX2_cheats_47 : decode cX2_cheats 47 = .ok (.putfield 323, 3) := dk_181 1 67 (dk_at dksX2_cheats_2 0 rfl rfl)
theorem dX2_cheats_50 : decode cX2_cheats 50 = .ok (.aload_n 1, 1) := dk_43 (dk_at dksX2_cheats_2 3 rfl rfl)
theorem dX2_cheats_51 : decode cX2_cheats 51 = .ok (.aload_n 0, 1) := dk_42 (dk_at dksX2_cheats_2 4 rfl rfl)
theorem dX2_cheats_52 : decode cX2_cheats 52 = .ok (.ldc_w 324, 3) := dk_19 1 68 (dk_at dksX2_cheats_2 5 rfl rfl)
theorem dX2_cheats_55 : decode cX2_cheats 55 = .ok (.iconst 1, 1) := dk_4 (dk_at dksX2_cheats_2 8 rfl rfl)
theorem dX2_cheats_56 : decode cX2_cheats 56 = .ok (.bipush 9, 2) := dk_16 9 (dk_at dksX2_cheats_2 9 rfl rfl)
theorem dX2_cheats_58 : decode cX2_cheats 58 = .ok (.invokevirtual 167, 3) := dk_182 0 167 (dk_at dksX2_cheats_2 11 rfl rfl)
theorem dX2_cheats_61 : decode cX2_cheats 61 = .ok (.putfield 326, 3) := dk_181 1 70 (dk_at dksX2_cheats_2 14 rfl rfl)
theorem dX2_cheats_64 : decode cX2_cheats 64 = .ok (.aload_n 1, 1) := dk_43 (dk_at dksX2_cheats_2 17 rfl rfl)
theorem dX2_cheats_65 : decode cX2_cheats 65 = .ok (.iload_n 2, 1) := dk_28 (dk_at dksX2_cheats_2 18 rfl rfl)
theorem dX2_cheats_66 : decode cX2_cheats 66 = .ok (.putfield 320, 3) := dk_181 1 64 (dk_at dksX2_cheats_2 19 rfl rfl)
theorem dX2_cheats_69 : decode cX2_cheats 69 = .ok (.return_, 1) := dk_177 (dk_at dksX2_cheats_2 22 rfl rfl)
theorem q137 : (Jvm.Cond.initialized "LongerHalf$Reader") ∈ lw_all := lw_g (lw_at lw_m1 2 rfl) rfl
theorem q177 : (Jvm.Cond.instantiable "LongerHalf$Reader" (10 : Nat)) ∈ lw_all := lw_g (lw_at lw_m1 42 rfl) rfl
theorem q179 : (Jvm.Cond.instanceMethod ({ cls := "LongerHalf$Reader", name := "<init>", desc := "([B)V" } : Jvm.MethodName)) ∈ lw_all := lw_g (lw_at lw_m1 44 rfl) rfl
theorem q180 : (Jvm.Cond.code ({ cls := "LongerHalf$Reader", name := "<init>", desc := "([B)V" } : Jvm.MethodName) prog_16_method_1_code (2 : Nat) (Option.none : Option Jvm.ClassFile.FieldType)) ∈ lw_all := lw_g (lw_at lw_m1 45 rfl) rfl
theorem q181 : (Jvm.Cond.methodLink "LongerHalf$Reader" (3 : Nat) ({ cls := "java/lang/Object", name := "<init>", desc := "()V" } : Jvm.MethodName)) ∈ lw_all := lw_g (lw_at lw_m1 46 rfl) rfl
theorem q182 : (Jvm.Cond.classLink "LongerHalf$Reader" (9 : Nat) "LongerHalf$Refused") ∈ lw_all := lw_g (lw_at lw_m1 47 rfl) rfl
theorem q222 : (Jvm.Cond.methodLink "LongerHalf$Reader" (11 : Nat) ({ cls := "LongerHalf$Refused", name := "<init>", desc := "()V" } : Jvm.MethodName)) ∈ lw_all := lw_g (lw_at lw_m1 87 rfl) rfl
theorem q256 : (Jvm.Cond.fieldLink "LongerHalf$Reader" (12 : Nat) "LongerHalf$Reader" "wrong" "LLongerHalf$Refused;") ∈ lw_all := lw_g (lw_at lw_m1 121 rfl) rfl
theorem q257 : (Jvm.Cond.fieldLink "LongerHalf$Reader" (22 : Nat) "LongerHalf$Reader" "text" "[B") ∈ lw_all := lw_g (lw_at lw_m1 122 rfl) rfl
theorem q258 : (Jvm.Cond.fieldLink "LongerHalf$Reader" (18 : Nat) "LongerHalf$Reader" "letters" "[C") ∈ lw_all := lw_g (lw_at lw_m1 123 rfl) rfl
theorem q259 : (Jvm.Cond.fieldLink "LongerHalf$Reader" (33 : Nat) "LongerHalf$Reader" "size" "I") ∈ lw_all := lw_g (lw_at lw_m1 124 rfl) rfl
theorem q260 : (Jvm.Cond.fieldLink "LongerHalf$Reader" (40 : Nat) "LongerHalf$Reader" "end" "I") ∈ lw_all := lw_g (lw_at lw_m1 125 rfl) rfl
theorem q261 : (Jvm.Cond.fieldLink "LongerHalf$Reader" (47 : Nat) "LongerHalf$Reader" "token" "I") ∈ lw_all := lw_g (lw_at lw_m1 126 rfl) rfl
theorem q262 : (Jvm.Cond.fieldLink "LongerHalf$Reader" (26 : Nat) "LongerHalf$Reader" "at" "I") ∈ lw_all := lw_g (lw_at lw_m1 127 rfl) rfl
theorem q263 : (Jvm.Cond.fieldLink "LongerHalf$Reader" (68 : Nat) "LongerHalf$Reader" "whole" "I") ∈ lw_all := lw_g (lw_at lw_m1 128 rfl) rfl
theorem q264 : (Jvm.Cond.fieldLink "LongerHalf$Reader" (61 : Nat) "LongerHalf$Reader" "word" "Ljava/lang/String;") ∈ lw_all := lw_g (lw_at lw_m1 129 rfl) rfl
theorem q265 : (Jvm.Cond.fieldLink "LongerHalf$Reader" (111 : Nat) "LongerHalf$Reader" "kitchen" "LLongerHalf$Kitchen;") ∈ lw_all := lw_g (lw_at lw_m1 130 rfl) rfl
theorem q266 : (Jvm.Cond.laysFinal "LongerHalf$Reader" "LongerHalf$Reader" "wrong" "LLongerHalf$Refused;") ∈ lw_all := lw_g (lw_at lw_m1 131 rfl) rfl
theorem q267 : (Jvm.Cond.soleField "LongerHalf$Reader" "wrong") ∈ lw_all := lw_g (lw_at lw_m1 132 rfl) rfl
theorem q268 : (Jvm.Cond.laysFinal "LongerHalf$Reader" "LongerHalf$Reader" "text" "[B") ∈ lw_all := lw_g (lw_at lw_m1 133 rfl) rfl
theorem q269 : (Jvm.Cond.soleField "LongerHalf$Reader" "text") ∈ lw_all := lw_g (lw_at lw_m1 134 rfl) rfl
theorem q270 : (Jvm.Cond.laysFinal "LongerHalf$Reader" "LongerHalf$Reader" "letters" "[C") ∈ lw_all := lw_g (lw_at lw_m1 135 rfl) rfl
theorem q271 : (Jvm.Cond.soleField "LongerHalf$Reader" "letters") ∈ lw_all := lw_g (lw_at lw_m1 136 rfl) rfl
theorem q272 : (Jvm.Cond.lays "LongerHalf$Reader" "LongerHalf$Reader" "size" "I") ∈ lw_all := lw_g (lw_at lw_m1 137 rfl) rfl
theorem q273 : (Jvm.Cond.soleField "LongerHalf$Reader" "size") ∈ lw_all := lw_g (lw_at lw_m1 138 rfl) rfl
theorem q274 : (Jvm.Cond.lays "LongerHalf$Reader" "LongerHalf$Reader" "end" "I") ∈ lw_all := lw_g (lw_at lw_m1 139 rfl) rfl
theorem q275 : (Jvm.Cond.soleField "LongerHalf$Reader" "end") ∈ lw_all := lw_g (lw_at lw_m1 140 rfl) rfl
theorem q276 : (Jvm.Cond.lays "LongerHalf$Reader" "LongerHalf$Reader" "token" "I") ∈ lw_all := lw_g (lw_at lw_m1 141 rfl) rfl
theorem q277 : (Jvm.Cond.soleField "LongerHalf$Reader" "token") ∈ lw_all := lw_g (lw_at lw_m1 142 rfl) rfl
theorem q278 : (Jvm.Cond.lays "LongerHalf$Reader" "LongerHalf$Reader" "at" "I") ∈ lw_all := lw_g (lw_at lw_m1 143 rfl) rfl
theorem q279 : (Jvm.Cond.soleField "LongerHalf$Reader" "at") ∈ lw_all := lw_g (lw_at lw_m1 144 rfl) rfl
theorem q280 : (Jvm.Cond.lays "LongerHalf$Reader" "LongerHalf$Reader" "whole" "I") ∈ lw_all := lw_g (lw_at lw_m1 145 rfl) rfl
theorem q281 : (Jvm.Cond.soleField "LongerHalf$Reader" "whole") ∈ lw_all := lw_g (lw_at lw_m1 146 rfl) rfl
theorem q282 : (Jvm.Cond.lays "LongerHalf$Reader" "LongerHalf$Reader" "word" "Ljava/lang/String;") ∈ lw_all := lw_g (lw_at lw_m1 147 rfl) rfl
theorem q283 : (Jvm.Cond.soleField "LongerHalf$Reader" "word") ∈ lw_all := lw_g (lw_at lw_m1 148 rfl) rfl
theorem q284 : (Jvm.Cond.lays "LongerHalf$Reader" "LongerHalf$Reader" "kitchen" "LLongerHalf$Kitchen;") ∈ lw_all := lw_g (lw_at lw_m1 149 rfl) rfl
theorem q285 : (Jvm.Cond.soleField "LongerHalf$Reader" "kitchen") ∈ lw_all := lw_g (lw_at lw_m1 150 rfl) rfl
theorem q286 : (Jvm.Cond.superclass "LongerHalf$Reader" "java/lang/Object") ∈ lw_all := lw_g (lw_at lw_m1 151 rfl) rfl
theorem q507 : (Jvm.Cond.instanceMethod ({ cls := "LongerHalf$Reader", name := "read", desc := "(I)LLongerHalf$Kitchen;" } : Jvm.MethodName)) ∈ lw_all := lw_g (lw_at lw_m2 132 rfl) rfl
theorem q508 : (Jvm.Cond.selects "LongerHalf$Reader" ({ cls := "LongerHalf$Reader", name := "read", desc := "(I)LLongerHalf$Kitchen;" } : Jvm.MethodName) ({ cls := "LongerHalf$Reader", name := "read", desc := "(I)LLongerHalf$Kitchen;" } : Jvm.MethodName)) ∈ lw_all := lw_g (lw_at lw_m2 133 rfl) rfl
theorem q509 : (Jvm.Cond.code ({ cls := "LongerHalf$Reader", name := "read", desc := "(I)LLongerHalf$Kitchen;" } : Jvm.MethodName) prog_16_method_17_code (2 : Nat) (Option.some (Jvm.ClassFile.FieldType.object "LongerHalf$Kitchen"))) ∈ lw_all := lw_g (lw_at lw_m2 134 rfl) rfl
theorem q510 : (Jvm.Cond.classLink "LongerHalf$Reader" (115 : Nat) "LongerHalf$Kitchen") ∈ lw_all := lw_g (lw_at lw_m2 135 rfl) rfl
theorem q512 : (Jvm.Cond.methodLinkNest "LongerHalf$Reader" (137 : Nat) ({ cls := "LongerHalf$Kitchen", name := "<init>", desc := "()V" } : Jvm.MethodName) "LongerHalf") ∈ lw_tbl := lw_at lw_m2 137 rfl
theorem q522 : (Jvm.Cond.fieldLink "LongerHalf$Reader" (235 : Nat) "LongerHalf$Kitchen" "bones" "[LLongerHalf$Bone;") ∈ lw_all := lw_g (lw_at lw_m2 147 rfl) rfl
theorem q525 : (Jvm.Cond.fieldLink "LongerHalf$Reader" (275 : Nat) "LongerHalf$Kitchen" "people" "[LLongerHalf$Person;") ∈ lw_all := lw_g (lw_at lw_m2 150 rfl) rfl
theorem q527 : (Jvm.Cond.fieldLink "LongerHalf$Reader" (314 : Nat) "LongerHalf$Kitchen" "pieceArm" "[I") ∈ lw_all := lw_g (lw_at lw_m2 152 rfl) rfl
theorem q530 : (Jvm.Cond.fieldLink "LongerHalf$Reader" (317 : Nat) "LongerHalf$Kitchen" "piecePlace" "[I") ∈ lw_all := lw_g (lw_at lw_m2 155 rfl) rfl
theorem q533 : (Jvm.Cond.fieldLink "LongerHalf$Reader" (171 : Nat) "LongerHalf$Kitchen" "bends" "I") ∈ lw_all := lw_g (lw_at lw_m2 158 rfl) rfl
theorem q536 : (Jvm.Cond.fieldLink "LongerHalf$Reader" (134 : Nat) "LongerHalf$Kitchen" "tough" "I") ∈ lw_all := lw_g (lw_at lw_m2 161 rfl) rfl
theorem q539 : (Jvm.Cond.fieldLink "LongerHalf$Reader" (176 : Nat) "LongerHalf$Kitchen" "jerk" "I") ∈ lw_all := lw_g (lw_at lw_m2 164 rfl) rfl
theorem q542 : (Jvm.Cond.fieldLink "LongerHalf$Reader" (180 : Nat) "LongerHalf$Kitchen" "thumb" "I") ∈ lw_all := lw_g (lw_at lw_m2 167 rfl) rfl
theorem q545 : (Jvm.Cond.fieldLink "LongerHalf$Reader" (184 : Nat) "LongerHalf$Kitchen" "flaw" "I") ∈ lw_all := lw_g (lw_at lw_m2 170 rfl) rfl
theorem q550 : (Jvm.Cond.fieldLink "LongerHalf$Reader" (141 : Nat) "LongerHalf$Kitchen" "boneMany" "I") ∈ lw_all := lw_g (lw_at lw_m2 175 rfl) rfl
theorem q553 : (Jvm.Cond.fieldLink "LongerHalf$Reader" (144 : Nat) "LongerHalf$Kitchen" "personMany" "I") ∈ lw_all := lw_g (lw_at lw_m2 178 rfl) rfl
theorem q554 : (Jvm.Cond.fieldLink "LongerHalf$Reader" (279 : Nat) "LongerHalf$Kitchen" "forMany" "I") ∈ lw_all := lw_g (lw_at lw_m2 179 rfl) rfl
theorem q556 : (Jvm.Cond.fieldLink "LongerHalf$Reader" (297 : Nat) "LongerHalf$Kitchen" "wonMany" "I") ∈ lw_all := lw_g (lw_at lw_m2 181 rfl) rfl
theorem q558 : (Jvm.Cond.fieldLink "LongerHalf$Reader" (308 : Nat) "LongerHalf$Kitchen" "leftMany" "I") ∈ lw_all := lw_g (lw_at lw_m2 183 rfl) rfl
theorem q560 : (Jvm.Cond.fieldLink "LongerHalf$Reader" (311 : Nat) "LongerHalf$Kitchen" "pieceMany" "I") ∈ lw_all := lw_g (lw_at lw_m2 185 rfl) rfl
theorem q593 : (Jvm.Cond.methodLink "LongerHalf$Reader" (75 : Nat) ({ cls := "LongerHalf$Reader", name := "next", desc := "()V" } : Jvm.MethodName)) ∈ lw_all := lw_g (lw_at lw_m2 218 rfl) rfl
theorem q594 : (Jvm.Cond.privateMethod ({ cls := "LongerHalf$Reader", name := "next", desc := "()V" } : Jvm.MethodName)) ∈ lw_tbl := lw_at lw_m2 219 rfl
theorem q595 : (Jvm.Cond.instanceMethod ({ cls := "LongerHalf$Reader", name := "next", desc := "()V" } : Jvm.MethodName)) ∈ lw_all := lw_g (lw_at lw_m2 220 rfl) rfl
theorem q596 : (Jvm.Cond.code ({ cls := "LongerHalf$Reader", name := "next", desc := "()V" } : Jvm.MethodName) prog_16_method_6_code (3 : Nat) (Option.none : Option Jvm.ClassFile.FieldType)) ∈ lw_all := lw_g (lw_at lw_m2 221 rfl) rfl
theorem q597 : (Jvm.Cond.methodLink "LongerHalf$Reader" (43 : Nat) ({ cls := "LongerHalf$Reader", name := "see", desc := "(I)I" } : Jvm.MethodName)) ∈ lw_all := lw_g (lw_at lw_m2 222 rfl) rfl
theorem q598 : (Jvm.Cond.privateMethod ({ cls := "LongerHalf$Reader", name := "see", desc := "(I)I" } : Jvm.MethodName)) ∈ lw_tbl := lw_at lw_m2 223 rfl
theorem q599 : (Jvm.Cond.instanceMethod ({ cls := "LongerHalf$Reader", name := "see", desc := "(I)I" } : Jvm.MethodName)) ∈ lw_all := lw_g (lw_at lw_m2 224 rfl) rfl
theorem q600 : (Jvm.Cond.code ({ cls := "LongerHalf$Reader", name := "see", desc := "(I)I" } : Jvm.MethodName) prog_16_method_3_code (2 : Nat) (Option.some Jvm.ClassFile.FieldType.int)) ∈ lw_all := lw_g (lw_at lw_m2 225 rfl) rfl
theorem q601 : (Jvm.Cond.methodLink "LongerHalf$Reader" (50 : Nat) ({ cls := "LongerHalf$Reader", name := "isSmall", desc := "(I)Z" } : Jvm.MethodName)) ∈ lw_all := lw_g (lw_at lw_m2 226 rfl) rfl
theorem q602 : (Jvm.Cond.static ({ cls := "LongerHalf$Reader", name := "isSmall", desc := "(I)Z" } : Jvm.MethodName)) ∈ lw_all := lw_g (lw_at lw_m2 227 rfl) rfl
theorem q603 : (Jvm.Cond.code ({ cls := "LongerHalf$Reader", name := "isSmall", desc := "(I)Z" } : Jvm.MethodName) prog_16_method_4_code (1 : Nat) (Option.some Jvm.ClassFile.FieldType.boolean)) ∈ lw_all := lw_g (lw_at lw_m2 228 rfl) rfl
theorem q604 : (Jvm.Cond.methodLinkNest "LongerHalf$Reader" (36 : Nat) ({ cls := "LongerHalf", name := "in", desc := "(III)Z" } : Jvm.MethodName) "LongerHalf") ∈ lw_tbl := lw_at lw_m2 229 rfl
theorem q605 : (Jvm.Cond.classLink "LongerHalf$Reader" (54 : Nat) "java/lang/String") ∈ lw_all := lw_g (lw_at lw_m2 230 rfl) rfl
theorem q607 : (Jvm.Cond.methodLink "LongerHalf$Reader" (56 : Nat) ({ cls := "java/lang/String", name := "<init>", desc := "([CII)V" } : Jvm.MethodName)) ∈ lw_all := lw_g (lw_at lw_m2 232 rfl) rfl
theorem q683 : (Jvm.Cond.stringRef "LongerHalf$Reader" (59 : Nat) "") ∈ lw_tbl := lw_at lw_m3 68 rfl
theorem q684 : (Jvm.Cond.methodLink "LongerHalf$Reader" (65 : Nat) ({ cls := "LongerHalf$Reader", name := "isDigit", desc := "(I)Z" } : Jvm.MethodName)) ∈ lw_all := lw_g (lw_at lw_m3 69 rfl) rfl
theorem q685 : (Jvm.Cond.static ({ cls := "LongerHalf$Reader", name := "isDigit", desc := "(I)Z" } : Jvm.MethodName)) ∈ lw_all := lw_g (lw_at lw_m3 70 rfl) rfl
theorem q686 : (Jvm.Cond.code ({ cls := "LongerHalf$Reader", name := "isDigit", desc := "(I)Z" } : Jvm.MethodName) prog_16_method_5_code (1 : Nat) (Option.some Jvm.ClassFile.FieldType.boolean)) ∈ lw_all := lw_g (lw_at lw_m3 71 rfl) rfl
theorem q687 : (Jvm.Cond.methodLink "LongerHalf$Reader" (138 : Nat) ({ cls := "LongerHalf$Reader", name := "line", desc := "()V" } : Jvm.MethodName)) ∈ lw_all := lw_g (lw_at lw_m3 72 rfl) rfl
theorem q688 : (Jvm.Cond.privateMethod ({ cls := "LongerHalf$Reader", name := "line", desc := "()V" } : Jvm.MethodName)) ∈ lw_tbl := lw_at lw_m3 73 rfl
theorem q689 : (Jvm.Cond.instanceMethod ({ cls := "LongerHalf$Reader", name := "line", desc := "()V" } : Jvm.MethodName)) ∈ lw_all := lw_g (lw_at lw_m3 74 rfl) rfl
theorem q690 : (Jvm.Cond.code ({ cls := "LongerHalf$Reader", name := "line", desc := "()V" } : Jvm.MethodName) prog_16_method_18_code (3 : Nat) (Option.none : Option Jvm.ClassFile.FieldType)) ∈ lw_all := lw_g (lw_at lw_m3 75 rfl) rfl
theorem q691 : (Jvm.Cond.methodLink "LongerHalf$Reader" (82 : Nat) ({ cls := "LongerHalf$Reader", name := "fail", desc := "(I)LLongerHalf$Refused;" } : Jvm.MethodName)) ∈ lw_all := lw_g (lw_at lw_m3 76 rfl) rfl
theorem q692 : (Jvm.Cond.privateMethod ({ cls := "LongerHalf$Reader", name := "fail", desc := "(I)LLongerHalf$Refused;" } : Jvm.MethodName)) ∈ lw_tbl := lw_at lw_m3 77 rfl
theorem q693 : (Jvm.Cond.instanceMethod ({ cls := "LongerHalf$Reader", name := "fail", desc := "(I)LLongerHalf$Refused;" } : Jvm.MethodName)) ∈ lw_all := lw_g (lw_at lw_m3 78 rfl) rfl
theorem q694 : (Jvm.Cond.code ({ cls := "LongerHalf$Reader", name := "fail", desc := "(I)LLongerHalf$Refused;" } : Jvm.MethodName) prog_16_method_2_code (2 : Nat) (Option.some (Jvm.ClassFile.FieldType.object "LongerHalf$Refused"))) ∈ lw_all := lw_g (lw_at lw_m3 79 rfl) rfl
theorem q695 : (Jvm.Cond.methodLink "LongerHalf$Reader" (30 : Nat) ({ cls := "LongerHalf$Refused", name := "at", desc := "(II)LLongerHalf$Refused;" } : Jvm.MethodName)) ∈ lw_all := lw_g (lw_at lw_m3 80 rfl) rfl
theorem q699 : (Jvm.Cond.methodLink "LongerHalf$Reader" (86 : Nat) ({ cls := "java/lang/String", name := "hashCode", desc := "()I" } : Jvm.MethodName)) ∈ lw_all := lw_g (lw_at lw_m3 84 rfl) rfl
theorem q752 : (Jvm.Cond.stringRef "LongerHalf$Reader" (90 : Nat) "kitchen") ∈ lw_tbl := lw_at lw_m3 137 rfl
theorem q753 : (Jvm.Cond.methodLink "LongerHalf$Reader" (71 : Nat) ({ cls := "java/lang/String", name := "equals", desc := "(Ljava/lang/Object;)Z" } : Jvm.MethodName)) ∈ lw_all := lw_g (lw_at lw_m3 138 rfl) rfl
theorem q761 : (Jvm.Cond.stringRef "LongerHalf$Reader" (92 : Nat) "bone") ∈ lw_tbl := lw_at lw_m3 146 rfl
theorem q762 : (Jvm.Cond.stringRef "LongerHalf$Reader" (94 : Nat) "person") ∈ lw_tbl := lw_at lw_m3 147 rfl
theorem q763 : (Jvm.Cond.stringRef "LongerHalf$Reader" (96 : Nat) "for") ∈ lw_tbl := lw_at lw_m3 148 rfl
theorem q764 : (Jvm.Cond.stringRef "LongerHalf$Reader" (98 : Nat) "won") ∈ lw_tbl := lw_at lw_m3 149 rfl
theorem q765 : (Jvm.Cond.stringRef "LongerHalf$Reader" (100 : Nat) "piece") ∈ lw_tbl := lw_at lw_m3 150 rfl
theorem q766 : (Jvm.Cond.stringRef "LongerHalf$Reader" (102 : Nat) "cheats") ∈ lw_tbl := lw_at lw_m3 151 rfl
theorem q767 : (Jvm.Cond.methodLink "LongerHalf$Reader" (147 : Nat) ({ cls := "LongerHalf$Reader", name := "kitchenLine", desc := "()V" } : Jvm.MethodName)) ∈ lw_all := lw_g (lw_at lw_m3 152 rfl) rfl
theorem q768 : (Jvm.Cond.privateMethod ({ cls := "LongerHalf$Reader", name := "kitchenLine", desc := "()V" } : Jvm.MethodName)) ∈ lw_tbl := lw_at lw_m3 153 rfl
theorem q769 : (Jvm.Cond.instanceMethod ({ cls := "LongerHalf$Reader", name := "kitchenLine", desc := "()V" } : Jvm.MethodName)) ∈ lw_all := lw_g (lw_at lw_m3 154 rfl) rfl
theorem q770 : (Jvm.Cond.code ({ cls := "LongerHalf$Reader", name := "kitchenLine", desc := "()V" } : Jvm.MethodName) prog_16_method_19_code (2 : Nat) (Option.none : Option Jvm.ClassFile.FieldType)) ∈ lw_all := lw_g (lw_at lw_m3 155 rfl) rfl
theorem q771 : (Jvm.Cond.stringRef "LongerHalf$Reader" (165 : Nat) "bends") ∈ lw_tbl := lw_at lw_m3 156 rfl
theorem q772 : (Jvm.Cond.methodLink "LongerHalf$Reader" (167 : Nat) ({ cls := "LongerHalf$Reader", name := "after", desc := "(Ljava/lang/String;II)I" } : Jvm.MethodName)) ∈ lw_all := lw_g (lw_at lw_m3 157 rfl) rfl
theorem q773 : (Jvm.Cond.privateMethod ({ cls := "LongerHalf$Reader", name := "after", desc := "(Ljava/lang/String;II)I" } : Jvm.MethodName)) ∈ lw_tbl := lw_at lw_m3 158 rfl
theorem q774 : (Jvm.Cond.instanceMethod ({ cls := "LongerHalf$Reader", name := "after", desc := "(Ljava/lang/String;II)I" } : Jvm.MethodName)) ∈ lw_all := lw_g (lw_at lw_m3 159 rfl) rfl
theorem q775 : (Jvm.Cond.code ({ cls := "LongerHalf$Reader", name := "after", desc := "(Ljava/lang/String;II)I" } : Jvm.MethodName) prog_16_method_15_code (4 : Nat) (Option.some Jvm.ClassFile.FieldType.int)) ∈ lw_all := lw_g (lw_at lw_m3 160 rfl) rfl
theorem q776 : (Jvm.Cond.methodLink "LongerHalf$Reader" (126 : Nat) ({ cls := "LongerHalf$Reader", name := "must", desc := "(Ljava/lang/String;)V" } : Jvm.MethodName)) ∈ lw_all := lw_g (lw_at lw_m3 161 rfl) rfl
theorem q777 : (Jvm.Cond.privateMethod ({ cls := "LongerHalf$Reader", name := "must", desc := "(Ljava/lang/String;)V" } : Jvm.MethodName)) ∈ lw_tbl := lw_at lw_m3 162 rfl
theorem q778 : (Jvm.Cond.instanceMethod ({ cls := "LongerHalf$Reader", name := "must", desc := "(Ljava/lang/String;)V" } : Jvm.MethodName)) ∈ lw_all := lw_g (lw_at lw_m3 163 rfl) rfl
theorem q779 : (Jvm.Cond.code ({ cls := "LongerHalf$Reader", name := "must", desc := "(Ljava/lang/String;)V" } : Jvm.MethodName) prog_16_method_8_code (2 : Nat) (Option.none : Option Jvm.ClassFile.FieldType)) ∈ lw_all := lw_g (lw_at lw_m3 164 rfl) rfl
theorem q780 : (Jvm.Cond.methodLink "LongerHalf$Reader" (78 : Nat) ({ cls := "LongerHalf$Reader", name := "takes", desc := "(Ljava/lang/String;)Z" } : Jvm.MethodName)) ∈ lw_all := lw_g (lw_at lw_m3 165 rfl) rfl
theorem q781 : (Jvm.Cond.privateMethod ({ cls := "LongerHalf$Reader", name := "takes", desc := "(Ljava/lang/String;)Z" } : Jvm.MethodName)) ∈ lw_tbl := lw_at lw_m3 166 rfl
theorem q782 : (Jvm.Cond.instanceMethod ({ cls := "LongerHalf$Reader", name := "takes", desc := "(Ljava/lang/String;)Z" } : Jvm.MethodName)) ∈ lw_all := lw_g (lw_at lw_m3 167 rfl) rfl
theorem q783 : (Jvm.Cond.code ({ cls := "LongerHalf$Reader", name := "takes", desc := "(Ljava/lang/String;)Z" } : Jvm.MethodName) prog_16_method_7_code (2 : Nat) (Option.some Jvm.ClassFile.FieldType.boolean)) ∈ lw_all := lw_g (lw_at lw_m3 168 rfl) rfl
theorem q784 : (Jvm.Cond.methodLink "LongerHalf$Reader" (130 : Nat) ({ cls := "LongerHalf$Reader", name := "number", desc := "(II)I" } : Jvm.MethodName)) ∈ lw_all := lw_g (lw_at lw_m3 169 rfl) rfl
theorem q785 : (Jvm.Cond.privateMethod ({ cls := "LongerHalf$Reader", name := "number", desc := "(II)I" } : Jvm.MethodName)) ∈ lw_tbl := lw_at lw_m3 170 rfl
theorem q786 : (Jvm.Cond.instanceMethod ({ cls := "LongerHalf$Reader", name := "number", desc := "(II)I" } : Jvm.MethodName)) ∈ lw_all := lw_g (lw_at lw_m3 171 rfl) rfl
theorem q787 : (Jvm.Cond.code ({ cls := "LongerHalf$Reader", name := "number", desc := "(II)I" } : Jvm.MethodName) prog_16_method_14_code (4 : Nat) (Option.some Jvm.ClassFile.FieldType.int)) ∈ lw_all := lw_g (lw_at lw_m3 172 rfl) rfl
theorem q788 : (Jvm.Cond.stringRef "LongerHalf$Reader" (173 : Nat) "tough") ∈ lw_tbl := lw_at lw_m3 173 rfl
theorem q789 : (Jvm.Cond.stringRef "LongerHalf$Reader" (174 : Nat) "jerk") ∈ lw_tbl := lw_at lw_m3 174 rfl
theorem q790 : (Jvm.Cond.stringRef "LongerHalf$Reader" (178 : Nat) "thumb") ∈ lw_tbl := lw_at lw_m3 175 rfl
theorem q791 : (Jvm.Cond.stringRef "LongerHalf$Reader" (182 : Nat) "flaw") ∈ lw_tbl := lw_at lw_m3 176 rfl
theorem q792 : (Jvm.Cond.methodLink "LongerHalf$Reader" (150 : Nat) ({ cls := "LongerHalf$Reader", name := "boneLine", desc := "()V" } : Jvm.MethodName)) ∈ lw_all := lw_g (lw_at lw_m3 177 rfl) rfl
theorem q793 : (Jvm.Cond.privateMethod ({ cls := "LongerHalf$Reader", name := "boneLine", desc := "()V" } : Jvm.MethodName)) ∈ lw_tbl := lw_at lw_m3 178 rfl
theorem q794 : (Jvm.Cond.instanceMethod ({ cls := "LongerHalf$Reader", name := "boneLine", desc := "()V" } : Jvm.MethodName)) ∈ lw_all := lw_g (lw_at lw_m3 179 rfl) rfl
theorem q795 : (Jvm.Cond.code ({ cls := "LongerHalf$Reader", name := "boneLine", desc := "()V" } : Jvm.MethodName) prog_16_method_22_code (2 : Nat) (Option.none : Option Jvm.ClassFile.FieldType)) ∈ lw_all := lw_g (lw_at lw_m3 180 rfl) rfl
theorem q796 : (Jvm.Cond.methodLink "LongerHalf$Reader" (215 : Nat) ({ cls := "LongerHalf$Reader", name := "begins", desc := "(Z)V" } : Jvm.MethodName)) ∈ lw_all := lw_g (lw_at lw_m3 181 rfl) rfl
theorem q797 : (Jvm.Cond.privateMethod ({ cls := "LongerHalf$Reader", name := "begins", desc := "(Z)V" } : Jvm.MethodName)) ∈ lw_tbl := lw_at lw_m3 182 rfl
theorem q798 : (Jvm.Cond.instanceMethod ({ cls := "LongerHalf$Reader", name := "begins", desc := "(Z)V" } : Jvm.MethodName)) ∈ lw_all := lw_g (lw_at lw_m3 183 rfl) rfl
theorem q799 : (Jvm.Cond.code ({ cls := "LongerHalf$Reader", name := "begins", desc := "(Z)V" } : Jvm.MethodName) prog_16_method_16_code (2 : Nat) (Option.none : Option Jvm.ClassFile.FieldType)) ∈ lw_all := lw_g (lw_at lw_m3 184 rfl) rfl
theorem q800 : (Jvm.Cond.methodLink "LongerHalf$Reader" (219 : Nat) ({ cls := "LongerHalf$Reader", name := "newName", desc := "()Ljava/lang/String;" } : Jvm.MethodName)) ∈ lw_all := lw_g (lw_at lw_m3 185 rfl) rfl
theorem q801 : (Jvm.Cond.privateMethod ({ cls := "LongerHalf$Reader", name := "newName", desc := "()Ljava/lang/String;" } : Jvm.MethodName)) ∈ lw_tbl := lw_at lw_m3 186 rfl
theorem q802 : (Jvm.Cond.instanceMethod ({ cls := "LongerHalf$Reader", name := "newName", desc := "()Ljava/lang/String;" } : Jvm.MethodName)) ∈ lw_all := lw_g (lw_at lw_m3 187 rfl) rfl
theorem q803 : (Jvm.Cond.code ({ cls := "LongerHalf$Reader", name := "newName", desc := "()Ljava/lang/String;" } : Jvm.MethodName) prog_16_method_11_code (2 : Nat) (Option.some (Jvm.ClassFile.FieldType.object "java/lang/String"))) ∈ lw_all := lw_g (lw_at lw_m3 188 rfl) rfl
theorem q804 : (Jvm.Cond.methodLink "LongerHalf$Reader" (108 : Nat) ({ cls := "LongerHalf$Reader", name := "mustName", desc := "()V" } : Jvm.MethodName)) ∈ lw_all := lw_g (lw_at lw_m3 189 rfl) rfl
theorem q805 : (Jvm.Cond.privateMethod ({ cls := "LongerHalf$Reader", name := "mustName", desc := "()V" } : Jvm.MethodName)) ∈ lw_tbl := lw_at lw_m3 190 rfl
theorem q806 : (Jvm.Cond.instanceMethod ({ cls := "LongerHalf$Reader", name := "mustName", desc := "()V" } : Jvm.MethodName)) ∈ lw_all := lw_g (lw_at lw_m3 191 rfl) rfl
theorem q807 : (Jvm.Cond.code ({ cls := "LongerHalf$Reader", name := "mustName", desc := "()V" } : Jvm.MethodName) prog_16_method_10_code (3 : Nat) (Option.none : Option Jvm.ClassFile.FieldType)) ∈ lw_all := lw_g (lw_at lw_m3 192 rfl) rfl
theorem q808 : (Jvm.Cond.stringRef "LongerHalf$Reader" (104 : Nat) "left") ∈ lw_tbl := lw_at lw_m3 193 rfl
theorem q809 : (Jvm.Cond.stringRef "LongerHalf$Reader" (106 : Nat) "right") ∈ lw_tbl := lw_at lw_m3 194 rfl
theorem q810 : (Jvm.Cond.methodLink "LongerHalf$Reader" (114 : Nat) ({ cls := "LongerHalf$Kitchen", name := "find", desc := "(Ljava/lang/String;)LLongerHalf$Named;" } : Jvm.MethodName)) ∈ lw_all := lw_g (lw_at lw_m3 195 rfl) rfl
theorem q818 : (Jvm.Cond.methodLink "LongerHalf$Reader" (223 : Nat) ({ cls := "LongerHalf$Reader", name := "boneOf", desc := "(Ljava/lang/String;I)LLongerHalf$Bone;" } : Jvm.MethodName)) ∈ lw_all := lw_g (lw_at lw_m3 203 rfl) rfl
theorem q819 : (Jvm.Cond.privateMethod ({ cls := "LongerHalf$Reader", name := "boneOf", desc := "(Ljava/lang/String;I)LLongerHalf$Bone;" } : Jvm.MethodName)) ∈ lw_tbl := lw_at lw_m3 204 rfl
theorem q820 : (Jvm.Cond.instanceMethod ({ cls := "LongerHalf$Reader", name := "boneOf", desc := "(Ljava/lang/String;I)LLongerHalf$Bone;" } : Jvm.MethodName)) ∈ lw_all := lw_g (lw_at lw_m3 205 rfl) rfl
theorem q821 : (Jvm.Cond.code ({ cls := "LongerHalf$Reader", name := "boneOf", desc := "(Ljava/lang/String;I)LLongerHalf$Bone;" } : Jvm.MethodName) prog_16_method_20_code (3 : Nat) (Option.some (Jvm.ClassFile.FieldType.object "LongerHalf$Bone"))) ∈ lw_all := lw_g (lw_at lw_m3 206 rfl) rfl
theorem q822 : (Jvm.Cond.stringRef "LongerHalf$Reader" (186 : Nat) "hen") ∈ lw_tbl := lw_at lw_m3 207 rfl
theorem q823 : (Jvm.Cond.classLink "LongerHalf$Reader" (188 : Nat) "LongerHalf$Hen") ∈ lw_all := lw_g (lw_at lw_m3 208 rfl) rfl
theorem q825 : (Jvm.Cond.methodLink "LongerHalf$Reader" (190 : Nat) ({ cls := "LongerHalf$Hen", name := "<init>", desc := "(Ljava/lang/String;I)V" } : Jvm.MethodName)) ∈ lw_all := lw_g (lw_at lw_m3 210 rfl) rfl
theorem q838 : (Jvm.Cond.fieldLink "LongerHalf$Reader" (229 : Nat) "LongerHalf$Bone" "dry" "I") ∈ lw_all := lw_g (lw_at lw_m3 223 rfl) rfl
theorem q842 : (Jvm.Cond.fieldLink "LongerHalf$Reader" (287 : Nat) "LongerHalf$Person" "number" "I") ∈ lw_all := lw_g (lw_at lw_m3 227 rfl) rfl
theorem q855 : (Jvm.Cond.stringRef "LongerHalf$Reader" (193 : Nat) "goose") ∈ lw_tbl := lw_at lw_m4 0 rfl
theorem q856 : (Jvm.Cond.classLink "LongerHalf$Reader" (195 : Nat) "LongerHalf$Goose") ∈ lw_all := lw_g (lw_at lw_m4 1 rfl) rfl
theorem q858 : (Jvm.Cond.methodLink "LongerHalf$Reader" (197 : Nat) ({ cls := "LongerHalf$Goose", name := "<init>", desc := "(Ljava/lang/String;I)V" } : Jvm.MethodName)) ∈ lw_all := lw_g (lw_at lw_m4 3 rfl) rfl
theorem q868 : (Jvm.Cond.stringRef "LongerHalf$Reader" (198 : Nat) "boiled") ∈ lw_tbl := lw_at lw_m4 13 rfl
theorem q869 : (Jvm.Cond.classLink "LongerHalf$Reader" (200 : Nat) "LongerHalf$Boiled") ∈ lw_all := lw_g (lw_at lw_m4 14 rfl) rfl
theorem q871 : (Jvm.Cond.methodLink "LongerHalf$Reader" (202 : Nat) ({ cls := "LongerHalf$Boiled", name := "<init>", desc := "(Ljava/lang/String;I)V" } : Jvm.MethodName)) ∈ lw_all := lw_g (lw_at lw_m4 16 rfl) rfl
theorem q881 : (Jvm.Cond.stringRef "LongerHalf$Reader" (227 : Nat) "dry") ∈ lw_tbl := lw_at lw_m4 26 rfl
theorem q882 : (Jvm.Cond.methodLink "LongerHalf$Reader" (231 : Nat) ({ cls := "LongerHalf$Reader", name := "arm", desc := "(LLongerHalf$Bone;ILjava/lang/String;)V" } : Jvm.MethodName)) ∈ lw_all := lw_g (lw_at lw_m4 27 rfl) rfl
theorem q883 : (Jvm.Cond.privateMethod ({ cls := "LongerHalf$Reader", name := "arm", desc := "(LLongerHalf$Bone;ILjava/lang/String;)V" } : Jvm.MethodName)) ∈ lw_tbl := lw_at lw_m4 28 rfl
theorem q884 : (Jvm.Cond.instanceMethod ({ cls := "LongerHalf$Reader", name := "arm", desc := "(LLongerHalf$Bone;ILjava/lang/String;)V" } : Jvm.MethodName)) ∈ lw_all := lw_g (lw_at lw_m4 29 rfl) rfl
theorem q885 : (Jvm.Cond.code ({ cls := "LongerHalf$Reader", name := "arm", desc := "(LLongerHalf$Bone;ILjava/lang/String;)V" } : Jvm.MethodName) prog_16_method_21_code (6 : Nat) (Option.none : Option Jvm.ClassFile.FieldType)) ∈ lw_all := lw_g (lw_at lw_m4 30 rfl) rfl
theorem q886 : (Jvm.Cond.methodLink "LongerHalf$Reader" (203 : Nat) ({ cls := "LongerHalf$Bone", name := "size", desc := "(I)I" } : Jvm.MethodName)) ∈ lw_all := lw_g (lw_at lw_m4 31 rfl) rfl
theorem q893 : (Jvm.Cond.methodLink "LongerHalf$Reader" (207 : Nat) ({ cls := "LongerHalf$Bone", name := "add", desc := "(II)V" } : Jvm.MethodName)) ∈ lw_all := lw_g (lw_at lw_m4 38 rfl) rfl
theorem q900 : (Jvm.Cond.methodLink "LongerHalf$Reader" (211 : Nat) ({ cls := "LongerHalf$Reader", name := "comma", desc := "()Z" } : Jvm.MethodName)) ∈ lw_all := lw_g (lw_at lw_m4 45 rfl) rfl
theorem q901 : (Jvm.Cond.privateMethod ({ cls := "LongerHalf$Reader", name := "comma", desc := "()Z" } : Jvm.MethodName)) ∈ lw_tbl := lw_at lw_m4 46 rfl
theorem q902 : (Jvm.Cond.instanceMethod ({ cls := "LongerHalf$Reader", name := "comma", desc := "()Z" } : Jvm.MethodName)) ∈ lw_all := lw_g (lw_at lw_m4 47 rfl) rfl
theorem q903 : (Jvm.Cond.code ({ cls := "LongerHalf$Reader", name := "comma", desc := "()Z" } : Jvm.MethodName) prog_16_method_9_code (1 : Nat) (Option.some Jvm.ClassFile.FieldType.boolean)) ∈ lw_all := lw_g (lw_at lw_m4 48 rfl) rfl
theorem q904 : (Jvm.Cond.methodLink "LongerHalf$Reader" (153 : Nat) ({ cls := "LongerHalf$Reader", name := "personLine", desc := "()V" } : Jvm.MethodName)) ∈ lw_all := lw_g (lw_at lw_m4 49 rfl) rfl
theorem q905 : (Jvm.Cond.privateMethod ({ cls := "LongerHalf$Reader", name := "personLine", desc := "()V" } : Jvm.MethodName)) ∈ lw_tbl := lw_at lw_m4 50 rfl
theorem q906 : (Jvm.Cond.instanceMethod ({ cls := "LongerHalf$Reader", name := "personLine", desc := "()V" } : Jvm.MethodName)) ∈ lw_all := lw_g (lw_at lw_m4 51 rfl) rfl
theorem q907 : (Jvm.Cond.code ({ cls := "LongerHalf$Reader", name := "personLine", desc := "()V" } : Jvm.MethodName) prog_16_method_24_code (2 : Nat) (Option.none : Option Jvm.ClassFile.FieldType)) ∈ lw_all := lw_g (lw_at lw_m4 52 rfl) rfl
theorem q908 : (Jvm.Cond.methodLink "LongerHalf$Reader" (259 : Nat) ({ cls := "LongerHalf$Reader", name := "personOf", desc := "(Ljava/lang/String;I)LLongerHalf$Person;" } : Jvm.MethodName)) ∈ lw_all := lw_g (lw_at lw_m4 53 rfl) rfl
theorem q909 : (Jvm.Cond.privateMethod ({ cls := "LongerHalf$Reader", name := "personOf", desc := "(Ljava/lang/String;I)LLongerHalf$Person;" } : Jvm.MethodName)) ∈ lw_tbl := lw_at lw_m4 54 rfl
theorem q910 : (Jvm.Cond.instanceMethod ({ cls := "LongerHalf$Reader", name := "personOf", desc := "(Ljava/lang/String;I)LLongerHalf$Person;" } : Jvm.MethodName)) ∈ lw_all := lw_g (lw_at lw_m4 55 rfl) rfl
theorem q911 : (Jvm.Cond.code ({ cls := "LongerHalf$Reader", name := "personOf", desc := "(Ljava/lang/String;I)LLongerHalf$Person;" } : Jvm.MethodName) prog_16_method_23_code (3 : Nat) (Option.some (Jvm.ClassFile.FieldType.object "LongerHalf$Person"))) ∈ lw_all := lw_g (lw_at lw_m4 56 rfl) rfl
theorem q912 : (Jvm.Cond.stringRef "LongerHalf$Reader" (239 : Nat) "plain") ∈ lw_tbl := lw_at lw_m4 57 rfl
theorem q913 : (Jvm.Cond.classLink "LongerHalf$Reader" (241 : Nat) "LongerHalf$Plain") ∈ lw_all := lw_g (lw_at lw_m4 58 rfl) rfl
theorem q915 : (Jvm.Cond.methodLink "LongerHalf$Reader" (243 : Nat) ({ cls := "LongerHalf$Plain", name := "<init>", desc := "(Ljava/lang/String;I)V" } : Jvm.MethodName)) ∈ lw_all := lw_g (lw_at lw_m4 60 rfl) rfl
theorem q923 : (Jvm.Cond.fieldLink "LongerHalf$Reader" (293 : Nat) "LongerHalf$Person" "others" "[I") ∈ lw_all := lw_g (lw_at lw_m4 68 rfl) rfl
theorem q927 : (Jvm.Cond.fieldLink "LongerHalf$Reader" (265 : Nat) "LongerHalf$Person" "force" "I") ∈ lw_all := lw_g (lw_at lw_m4 72 rfl) rfl
theorem q930 : (Jvm.Cond.fieldLink "LongerHalf$Reader" (269 : Nat) "LongerHalf$Person" "hold" "I") ∈ lw_all := lw_g (lw_at lw_m4 75 rfl) rfl
theorem q932 : (Jvm.Cond.fieldLink "LongerHalf$Reader" (273 : Nat) "LongerHalf$Person" "wish" "I") ∈ lw_all := lw_g (lw_at lw_m4 77 rfl) rfl
theorem q934 : (Jvm.Cond.fieldLink "LongerHalf$Reader" (303 : Nat) "LongerHalf$Person" "plays" "I") ∈ lw_all := lw_g (lw_at lw_m4 79 rfl) rfl
theorem q936 : (Jvm.Cond.fieldLink "LongerHalf$Reader" (306 : Nat) "LongerHalf$Person" "won" "I") ∈ lw_all := lw_g (lw_at lw_m4 81 rfl) rfl
theorem q938 : (Jvm.Cond.fieldLink "LongerHalf$Reader" (320 : Nat) "LongerHalf$Person" "doubt" "I") ∈ lw_all := lw_g (lw_at lw_m4 83 rfl) rfl
theorem q940 : (Jvm.Cond.fieldLink "LongerHalf$Reader" (323 : Nat) "LongerHalf$Person" "thumb" "I") ∈ lw_all := lw_g (lw_at lw_m4 85 rfl) rfl
theorem q942 : (Jvm.Cond.fieldLink "LongerHalf$Reader" (326 : Nat) "LongerHalf$Person" "fair" "I") ∈ lw_all := lw_g (lw_at lw_m4 87 rfl) rfl
theorem q944 : (Jvm.Cond.fieldLink "LongerHalf$Reader" (284 : Nat) "LongerHalf$Person" "told" "I") ∈ lw_all := lw_g (lw_at lw_m4 89 rfl) rfl
theorem q968 : (Jvm.Cond.stringRef "LongerHalf$Reader" (244 : Nat) "cook") ∈ lw_tbl := lw_at lw_m4 113 rfl
theorem q969 : (Jvm.Cond.classLink "LongerHalf$Reader" (246 : Nat) "LongerHalf$Cook") ∈ lw_all := lw_g (lw_at lw_m4 114 rfl) rfl
theorem q971 : (Jvm.Cond.methodLink "LongerHalf$Reader" (248 : Nat) ({ cls := "LongerHalf$Cook", name := "<init>", desc := "(Ljava/lang/String;I)V" } : Jvm.MethodName)) ∈ lw_all := lw_g (lw_at lw_m4 116 rfl) rfl
theorem q988 : (Jvm.Cond.stringRef "LongerHalf$Reader" (249 : Nat) "child") ∈ lw_tbl := lw_at lw_m4 133 rfl
theorem q989 : (Jvm.Cond.classLink "LongerHalf$Reader" (251 : Nat) "LongerHalf$Child") ∈ lw_all := lw_g (lw_at lw_m4 134 rfl) rfl
theorem q991 : (Jvm.Cond.methodLink "LongerHalf$Reader" (253 : Nat) ({ cls := "LongerHalf$Child", name := "<init>", desc := "(Ljava/lang/String;I)V" } : Jvm.MethodName)) ∈ lw_all := lw_g (lw_at lw_m4 136 rfl) rfl
theorem q1008 : (Jvm.Cond.stringRef "LongerHalf$Reader" (254 : Nat) "cheat") ∈ lw_tbl := lw_at lw_m4 153 rfl
theorem q1009 : (Jvm.Cond.classLink "LongerHalf$Reader" (256 : Nat) "LongerHalf$Cheat") ∈ lw_all := lw_g (lw_at lw_m4 154 rfl) rfl
theorem q1011 : (Jvm.Cond.methodLink "LongerHalf$Reader" (258 : Nat) ({ cls := "LongerHalf$Cheat", name := "<init>", desc := "(Ljava/lang/String;I)V" } : Jvm.MethodName)) ∈ lw_all := lw_g (lw_at lw_m4 156 rfl) rfl
theorem q1028 : (Jvm.Cond.stringRef "LongerHalf$Reader" (263 : Nat) "force") ∈ lw_tbl := lw_at lw_m4 173 rfl
theorem q1029 : (Jvm.Cond.stringRef "LongerHalf$Reader" (267 : Nat) "hold") ∈ lw_tbl := lw_at lw_m4 174 rfl
theorem q1030 : (Jvm.Cond.stringRef "LongerHalf$Reader" (271 : Nat) "wish") ∈ lw_tbl := lw_at lw_m4 175 rfl
theorem q1031 : (Jvm.Cond.methodLink "LongerHalf$Reader" (156 : Nat) ({ cls := "LongerHalf$Reader", name := "forLine", desc := "()V" } : Jvm.MethodName)) ∈ lw_all := lw_g (lw_at lw_m4 176 rfl) rfl
theorem q1032 : (Jvm.Cond.privateMethod ({ cls := "LongerHalf$Reader", name := "forLine", desc := "()V" } : Jvm.MethodName)) ∈ lw_tbl := lw_at lw_m4 177 rfl
theorem q1033 : (Jvm.Cond.instanceMethod ({ cls := "LongerHalf$Reader", name := "forLine", desc := "()V" } : Jvm.MethodName)) ∈ lw_all := lw_g (lw_at lw_m4 178 rfl) rfl
theorem q1034 : (Jvm.Cond.code ({ cls := "LongerHalf$Reader", name := "forLine", desc := "()V" } : Jvm.MethodName) prog_16_method_25_code (4 : Nat) (Option.none : Option Jvm.ClassFile.FieldType)) ∈ lw_all := lw_g (lw_at lw_m4 179 rfl) rfl
theorem q1035 : (Jvm.Cond.methodLink "LongerHalf$Reader" (282 : Nat) ({ cls := "LongerHalf$Reader", name := "person", desc := "()LLongerHalf$Person;" } : Jvm.MethodName)) ∈ lw_all := lw_g (lw_at lw_m4 180 rfl) rfl
theorem q1036 : (Jvm.Cond.privateMethod ({ cls := "LongerHalf$Reader", name := "person", desc := "()LLongerHalf$Person;" } : Jvm.MethodName)) ∈ lw_tbl := lw_at lw_m4 181 rfl
theorem q1037 : (Jvm.Cond.instanceMethod ({ cls := "LongerHalf$Reader", name := "person", desc := "()LLongerHalf$Person;" } : Jvm.MethodName)) ∈ lw_all := lw_g (lw_at lw_m4 182 rfl) rfl
theorem q1038 : (Jvm.Cond.code ({ cls := "LongerHalf$Reader", name := "person", desc := "()LLongerHalf$Person;" } : Jvm.MethodName) prog_16_method_13_code (2 : Nat) (Option.some (Jvm.ClassFile.FieldType.object "LongerHalf$Person"))) ∈ lw_all := lw_g (lw_at lw_m4 183 rfl) rfl
theorem q1039 : (Jvm.Cond.methodLink "LongerHalf$Reader" (122 : Nat) ({ cls := "LongerHalf$Reader", name := "personHere", desc := "()LLongerHalf$Person;" } : Jvm.MethodName)) ∈ lw_all := lw_g (lw_at lw_m4 184 rfl) rfl
theorem q1040 : (Jvm.Cond.privateMethod ({ cls := "LongerHalf$Reader", name := "personHere", desc := "()LLongerHalf$Person;" } : Jvm.MethodName)) ∈ lw_tbl := lw_at lw_m4 185 rfl
theorem q1041 : (Jvm.Cond.instanceMethod ({ cls := "LongerHalf$Reader", name := "personHere", desc := "()LLongerHalf$Person;" } : Jvm.MethodName)) ∈ lw_all := lw_g (lw_at lw_m4 186 rfl) rfl
theorem q1042 : (Jvm.Cond.code ({ cls := "LongerHalf$Reader", name := "personHere", desc := "()LLongerHalf$Person;" } : Jvm.MethodName) prog_16_method_12_code (2 : Nat) (Option.some (Jvm.ClassFile.FieldType.object "LongerHalf$Person"))) ∈ lw_all := lw_g (lw_at lw_m4 187 rfl) rfl
theorem q1043 : (Jvm.Cond.classLink "LongerHalf$Reader" (120 : Nat) "LongerHalf$Person") ∈ lw_all := lw_g (lw_at lw_m4 188 rfl) rfl
theorem q1044 : (Jvm.Cond.methodLinkNest "LongerHalf$Reader" (289 : Nat) ({ cls := "LongerHalf", name := "has", desc := "(II)Z" } : Jvm.MethodName) "LongerHalf") ∈ lw_tbl := lw_at lw_m4 189 rfl
theorem q1047 : (Jvm.Cond.methodLink "LongerHalf$Reader" (159 : Nat) ({ cls := "LongerHalf$Reader", name := "won", desc := "()V" } : Jvm.MethodName)) ∈ lw_all := lw_g (lw_at lw_m4 192 rfl) rfl
theorem q1048 : (Jvm.Cond.privateMethod ({ cls := "LongerHalf$Reader", name := "won", desc := "()V" } : Jvm.MethodName)) ∈ lw_tbl := lw_at lw_m4 193 rfl
theorem q1049 : (Jvm.Cond.instanceMethod ({ cls := "LongerHalf$Reader", name := "won", desc := "()V" } : Jvm.MethodName)) ∈ lw_all := lw_g (lw_at lw_m4 194 rfl) rfl
theorem q1050 : (Jvm.Cond.code ({ cls := "LongerHalf$Reader", name := "won", desc := "()V" } : Jvm.MethodName) prog_16_method_27_code (4 : Nat) (Option.none : Option Jvm.ClassFile.FieldType)) ∈ lw_all := lw_g (lw_at lw_m4 195 rfl) rfl
theorem q1051 : (Jvm.Cond.methodLink "LongerHalf$Reader" (300 : Nat) ({ cls := "LongerHalf$Reader", name := "side", desc := "()I" } : Jvm.MethodName)) ∈ lw_all := lw_g (lw_at lw_m4 196 rfl) rfl
theorem q1052 : (Jvm.Cond.privateMethod ({ cls := "LongerHalf$Reader", name := "side", desc := "()I" } : Jvm.MethodName)) ∈ lw_tbl := lw_at lw_m4 197 rfl
theorem q1053 : (Jvm.Cond.instanceMethod ({ cls := "LongerHalf$Reader", name := "side", desc := "()I" } : Jvm.MethodName)) ∈ lw_all := lw_g (lw_at lw_m4 198 rfl) rfl
theorem q1054 : (Jvm.Cond.code ({ cls := "LongerHalf$Reader", name := "side", desc := "()I" } : Jvm.MethodName) prog_16_method_26_code (1 : Nat) (Option.some Jvm.ClassFile.FieldType.int)) ∈ lw_all := lw_g (lw_at lw_m4 199 rfl) rfl
theorem q1055 : (Jvm.Cond.methodLink "LongerHalf$Reader" (161 : Nat) ({ cls := "LongerHalf$Reader", name := "piece", desc := "()V" } : Jvm.MethodName)) ∈ lw_all := lw_g (lw_at lw_m4 200 rfl) rfl
theorem q1056 : (Jvm.Cond.privateMethod ({ cls := "LongerHalf$Reader", name := "piece", desc := "()V" } : Jvm.MethodName)) ∈ lw_tbl := lw_at lw_m4 201 rfl
theorem q1057 : (Jvm.Cond.instanceMethod ({ cls := "LongerHalf$Reader", name := "piece", desc := "()V" } : Jvm.MethodName)) ∈ lw_all := lw_g (lw_at lw_m4 202 rfl) rfl
theorem q1058 : (Jvm.Cond.code ({ cls := "LongerHalf$Reader", name := "piece", desc := "()V" } : Jvm.MethodName) prog_16_method_28_code (3 : Nat) (Option.none : Option Jvm.ClassFile.FieldType)) ∈ lw_all := lw_g (lw_at lw_m4 203 rfl) rfl
theorem q1059 : (Jvm.Cond.methodLink "LongerHalf$Reader" (163 : Nat) ({ cls := "LongerHalf$Reader", name := "cheats", desc := "()V" } : Jvm.MethodName)) ∈ lw_all := lw_g (lw_at lw_m4 204 rfl) rfl
theorem q1060 : (Jvm.Cond.privateMethod ({ cls := "LongerHalf$Reader", name := "cheats", desc := "()V" } : Jvm.MethodName)) ∈ lw_tbl := lw_at lw_m4 205 rfl
theorem q1061 : (Jvm.Cond.instanceMethod ({ cls := "LongerHalf$Reader", name := "cheats", desc := "()V" } : Jvm.MethodName)) ∈ lw_all := lw_g (lw_at lw_m4 206 rfl) rfl
theorem q1062 : (Jvm.Cond.code ({ cls := "LongerHalf$Reader", name := "cheats", desc := "()V" } : Jvm.MethodName) prog_16_method_29_code (3 : Nat) (Option.none : Option Jvm.ClassFile.FieldType)) ∈ lw_all := lw_g (lw_at lw_m4 207 rfl) rfl
theorem q1063 : (Jvm.Cond.stringRef "LongerHalf$Reader" (324 : Nat) "fair") ∈ lw_tbl := lw_at lw_m4 208 rfl
theorem q2465 : (Jvm.Cond.castable "LongerHalf$Reader" "java/lang/Object") ∈ lw_tbl := lw_at lw_m10 170 rfl
theorem in_X2 : ∀ w ∈ wsX20, w ∈ lw_all := lw_in wsX20 [266, 268, 270, 272, 274, 276, 278, 280, 282, 284] (by decide +kernel) (by decide +kernel)

