/-! LongerHalf -/
set_option maxRecDepth 100000
def RX1 : String := "LongerHalf"
def TX1 : u_T := fun k => match k with
  | 0 => ("LongerHalf", "tape", "[B", true)
  | 1 => ("LongerHalf", "taped", "I", false)
  | 2 => ("LongerHalf", "reader", "LLongerHalf$Reader;", true)
  | 3 => ("LongerHalf", "kitchen", "LLongerHalf$Kitchen;", false)
  | 4 => ("LongerHalf", "trouble", "I", false)
  | 5 => ("LongerHalf", "fault", "I", false)
  | 6 => ("LongerHalf", "where", "I", false)
  | 7 => ("LongerHalf", "markMany", "I", false)
  | 8 => ("LongerHalf", "undoMany", "I", false)
  | 9 => ("LongerHalf", "drawer", "LLongerHalf$Drawer;", true)
  | 10 => ("LongerHalf", "was", "LLongerHalf$Drawer;", true)
  | 11 => ("LongerHalf", "trial", "LLongerHalf$Drawer;", true)
  | 12 => ("LongerHalf", "pull", "LLongerHalf$Pull;", true)
  | 13 => ("LongerHalf", "game", "LLongerHalf$Game;", true)
  | 14 => ("LongerHalf", "turns", "LLongerHalf$Turns;", true)
  | 15 => ("LongerHalf", "undone", "[LLongerHalf$Drawer;", true)
  | 16 => ("LongerHalf", "marks", "[LLongerHalf$Drawer;", true)
  | 17 => ("LongerHalf", "knobMany", "I", false)
  | 18 => ("LongerHalf", "knobOwners", "I", false)
  | 19 => ("LongerHalf", "yearWins", "[I", true)
  | _ => ("LongerHalf", "yearSpoilt", "[I", true)
def tyX1 : Nat → FieldType := fun k => match k with
  | 0 => .array .byte
  | 1 => .int
  | 2 => .object "LongerHalf$Reader"
  | 3 => .object "LongerHalf$Kitchen"
  | 4 => .int
  | 5 => .int
  | 6 => .int
  | 7 => .int
  | 8 => .int
  | 9 => .object "LongerHalf$Drawer"
  | 10 => .object "LongerHalf$Drawer"
  | 11 => .object "LongerHalf$Drawer"
  | 12 => .object "LongerHalf$Pull"
  | 13 => .object "LongerHalf$Game"
  | 14 => .object "LongerHalf$Turns"
  | 15 => .array (.object "LongerHalf$Drawer")
  | 16 => .array (.object "LongerHalf$Drawer")
  | 17 => .int
  | 18 => .int
  | 19 => .array .int
  | _ => .array .int
abbrev wsX10 : List Cond := u_ws RX1 TX1 21
set_option maxRecDepth 100000 in
theorem nmX1 : ∀ a, a < 21 → ∀ b, b < 21 → a ≠ b → (TX1 a).2.1 ≠ (TX1 b).2.1 := by decide +kernel
set_option maxRecDepth 100000 in
theorem tyX1_ok : ∀ k, k < 21 → parseFieldDescriptor (TX1 k).2.2.1 = some (tyX1 k) := by decide +kernel
abbrev cX1_init : ByteArray := prog_1_method_5_code
def yX1_init : MethodName := ⟨RX1, "<init>", "()V"⟩
def dkwX1_init_8 : List UInt8 := [132, 1, 1, 167, 255, 235, 177]
abbrev dktX1_init_8 : List UInt8 := dkwX1_init_8 ++ []
def dkwX1_init_7 : List UInt8 := [167, 255, 234, 3, 60, 27, 6, 162, 0, 22, 42, 180, 0, 70, 27, 187, 0, 30, 89, 183, 0, 32, 83]
abbrev dktX1_init_7 : List UInt8 := dkwX1_init_7 ++ dktX1_init_8
def dkwX1_init_6 : List UInt8 := [27, 16, 16, 162, 0, 22, 42, 180, 0, 66, 27, 187, 0, 30, 89, 183, 0, 32, 83, 132, 1, 1]
abbrev dktX1_init_6 : List UInt8 := dkwX1_init_6 ++ dktX1_init_7
def dkwX1_init_5 : List UInt8 := [6, 189, 0, 30, 181, 0, 70, 42, 16, 6, 188, 10, 181, 0, 73, 42, 7, 188, 10, 181, 0, 77, 3, 60]
abbrev dktX1_init_5 : List UInt8 := dkwX1_init_5 ++ dktX1_init_6
def dkwX1_init_4 : List UInt8 := [181, 0, 55, 42, 187, 0, 59, 89, 183, 0, 61, 181, 0, 62, 42, 16, 16, 189, 0, 30, 181, 0, 66, 42]
abbrev dktX1_init_4 : List UInt8 := dkwX1_init_4 ++ dktX1_init_5
def dkwX1_init_3 : List UInt8 := [187, 0, 43, 89, 183, 0, 45, 181, 0, 46, 42, 187, 0, 50, 89, 42, 180, 0, 46, 183, 0, 52]
abbrev dktX1_init_3 : List UInt8 := dkwX1_init_3 ++ dktX1_init_4
def dkwX1_init_2 : List UInt8 := [187, 0, 30, 89, 183, 0, 32, 181, 0, 37, 42, 187, 0, 30, 89, 183, 0, 32, 181, 0, 40, 42]
abbrev dktX1_init_2 : List UInt8 := dkwX1_init_2 ++ dktX1_init_3
def dkwX1_init_1 : List UInt8 := [183, 0, 19, 181, 0, 22, 42, 2, 181, 0, 26, 42, 187, 0, 30, 89, 183, 0, 32, 181, 0, 33, 42]
abbrev dktX1_init_1 : List UInt8 := dkwX1_init_1 ++ dktX1_init_2
def dkwX1_init_0 : List UInt8 := [42, 183, 0, 7, 42, 17, 3, 232, 188, 8, 181, 0, 13, 42, 187, 0, 17, 89, 42, 180, 0, 13]
abbrev dktX1_init_0 : List UInt8 := dkwX1_init_0 ++ dktX1_init_1
theorem dksX1_init_0 : cX1_init.data.toList.drop 0 = dktX1_init_0 := by decide +kernel
theorem dksX1_init_1 : cX1_init.data.toList.drop 22 = dktX1_init_1 := dk_seg dksX1_init_0 22 rfl rfl
theorem dksX1_init_2 : cX1_init.data.toList.drop 45 = dktX1_init_2 := dk_seg dksX1_init_1 23 rfl rfl
theorem dksX1_init_3 : cX1_init.data.toList.drop 67 = dktX1_init_3 := dk_seg dksX1_init_2 22 rfl rfl
theorem dksX1_init_4 : cX1_init.data.toList.drop 89 = dktX1_init_4 := dk_seg dksX1_init_3 22 rfl rfl
theorem dksX1_init_5 : cX1_init.data.toList.drop 113 = dktX1_init_5 := dk_seg dksX1_init_4 24 rfl rfl
theorem dksX1_init_6 : cX1_init.data.toList.drop 137 = dktX1_init_6 := dk_seg dksX1_init_5 24 rfl rfl
theorem dksX1_init_7 : cX1_init.data.toList.drop 159 = dktX1_init_7 := dk_seg dksX1_init_6 22 rfl rfl
theorem dksX1_init_8 : cX1_init.data.toList.drop 182 = dktX1_init_8 := dk_seg dksX1_init_7 23 rfl rfl
theorem dX1_init_0 : decode cX1_init 0 = .ok (.aload_n 0, 1) := dk_42 (dk_at dksX1_init_0 0 rfl rfl)
theorem dX1_init_1 : decode cX1_init 1 = .ok (.invokespecial 7, 3) := dk_183 0 7 (dk_at dksX1_init_0 1 rfl rfl)
theorem dX1_init_4 : decode cX1_init 4 = .ok (.aload_n 0, 1) := dk_42 (dk_at dksX1_init_0 4 rfl rfl)
theorem dX1_init_5 : decode cX1_init 5 = .ok (.sipush 1000, 3) := dk_17 3 232 (dk_at dksX1_init_0 5 rfl rfl)
theorem dX1_init_8 : decode cX1_init 8 = .ok (.newarray .byte, 2) := dk_188_8 (dk_at dksX1_init_0 8 rfl rfl)
theorem dX1_init_10 : decode cX1_init 10 = .ok (.putfield 13, 3) := dk_181 0 13 (dk_at dksX1_init_0 10 rfl rfl)
theorem dX1_init_13 : decode cX1_init 13 = .ok (.aload_n 0, 1) := dk_42 (dk_at dksX1_init_0 13 rfl rfl)
theorem dX1_init_14 : decode cX1_init 14 = .ok (.new 17, 3) := dk_187 0 17 (dk_at dksX1_init_0 14 rfl rfl)
theorem dX1_init_17 : decode cX1_init 17 = .ok (.dup, 1) := dk_89 (dk_at dksX1_init_0 17 rfl rfl)
theorem dX1_init_18 : decode cX1_init 18 = .ok (.aload_n 0, 1) := dk_42 (dk_at dksX1_init_0 18 rfl rfl)
theorem dX1_init_19 : decode cX1_init 19 = .ok (.getfield 13, 3) := dk_180 0 13 (dk_at dksX1_init_0 19 rfl rfl)
theorem dX1_init_22 : decode cX1_init 22 = .ok (.invokespecial 19, 3) := dk_183 0 19 (dk_at dksX1_init_1 0 rfl rfl)
theorem dX1_init_25 : decode cX1_init 25 = .ok (.putfield 22, 3) := dk_181 0 22 (dk_at dksX1_init_1 3 rfl rfl)
theorem dX1_init_28 : decode cX1_init 28 = .ok (.aload_n 0, 1) := dk_42 (dk_at dksX1_init_1 6 rfl rfl)
theorem dX1_init_29 : decode cX1_init 29 = .ok (.iconst (-1), 1) := dk_2 (dk_at dksX1_init_1 7 rfl rfl)
theorem dX1_init_30 : decode cX1_init 30 = .ok (.putfield 26, 3) := dk_181 0 26 (dk_at dksX1_init_1 8 rfl rfl)
theorem dX1_init_33 : decode cX1_init 33 = .ok (.aload_n 0, 1) := dk_42 (dk_at dksX1_init_1 11 rfl rfl)
theorem dX1_init_34 : decode cX1_init 34 = .ok (.new 30, 3) := dk_187 0 30 (dk_at dksX1_init_1 12 rfl rfl)
theorem dX1_init_37 : decode cX1_init 37 = .ok (.dup, 1) := dk_89 (dk_at dksX1_init_1 15 rfl rfl)
theorem dX1_init_38 : decode cX1_init 38 = .ok (.invokespecial 32, 3) := dk_183 0 32 (dk_at dksX1_init_1 16 rfl rfl)
theorem dX1_init_41 : decode cX1_init 41 = .ok (.putfield 33, 3) := dk_181 0 33 (dk_at dksX1_init_1 19 rfl rfl)
theorem dX1_init_44 : decode cX1_init 44 = .ok (.aload_n 0, 1) := dk_42 (dk_at dksX1_init_1 22 rfl rfl)
theorem dX1_init_45 : decode cX1_init 45 = .ok (.new 30, 3) := dk_187 0 30 (dk_at dksX1_init_2 0 rfl rfl)
theorem dX1_init_48 : decode cX1_init 48 = .ok (.dup, 1) := dk_89 (dk_at dksX1_init_2 3 rfl rfl)
theorem dX1_init_49 : decode cX1_init 49 = .ok (.invokespecial 32, 3) := dk_183 0 32 (dk_at dksX1_init_2 4 rfl rfl)
theorem dX1_init_52 : decode cX1_init 52 = .ok (.putfield 37, 3) := dk_181 0 37 (dk_at dksX1_init_2 7 rfl rfl)
theorem dX1_init_55 : decode cX1_init 55 = .ok (.aload_n 0, 1) := dk_42 (dk_at dksX1_init_2 10 rfl rfl)
theorem dX1_init_56 : decode cX1_init 56 = .ok (.new 30, 3) := dk_187 0 30 (dk_at dksX1_init_2 11 rfl rfl)
theorem dX1_init_59 : decode cX1_init 59 = .ok (.dup, 1) := dk_89 (dk_at dksX1_init_2 14 rfl rfl)
theorem dX1_init_60 : decode cX1_init 60 = .ok (.invokespecial 32, 3) := dk_183 0 32 (dk_at dksX1_init_2 15 rfl rfl)
theorem dX1_init_63 : decode cX1_init 63 = .ok (.putfield 40, 3) := dk_181 0 40 (dk_at dksX1_init_2 18 rfl rfl)
theorem dX1_init_66 : decode cX1_init 66 = .ok (.aload_n 0, 1) := dk_42 (dk_at dksX1_init_2 21 rfl rfl)
theorem dX1_init_67 : decode cX1_init 67 = .ok (.new 43, 3) := dk_187 0 43 (dk_at dksX1_init_3 0 rfl rfl)
theorem dX1_init_70 : decode cX1_init 70 = .ok (.dup, 1) := dk_89 (dk_at dksX1_init_3 3 rfl rfl)
theorem dX1_init_71 : decode cX1_init 71 = .ok (.invokespecial 45, 3) := dk_183 0 45 (dk_at dksX1_init_3 4 rfl rfl)
theorem dX1_init_74 : decode cX1_init 74 = .ok (.putfield 46, 3) := dk_181 0 46 (dk_at dksX1_init_3 7 rfl rfl)
theorem dX1_init_77 : decode cX1_init 77 = .ok (.aload_n 0, 1) := dk_42 (dk_at dksX1_init_3 10 rfl rfl)
theorem dX1_init_78 : decode cX1_init 78 = .ok (.new 50, 3) := dk_187 0 50 (dk_at dksX1_init_3 11 rfl rfl)
theorem dX1_init_81 : decode cX1_init 81 = .ok (.dup, 1) := dk_89 (dk_at dksX1_init_3 14 rfl rfl)
theorem dX1_init_82 : decode cX1_init 82 = .ok (.aload_n 0, 1) := dk_42 (dk_at dksX1_init_3 15 rfl rfl)
theorem dX1_init_83 : decode cX1_init 83 = .ok (.getfield 46, 3) := dk_180 0 46 (dk_at dksX1_init_3 16 rfl rfl)
theorem dX1_init_86 : decode cX1_init 86 = .ok (.invokespecial 52, 3) := dk_183 0 52 (dk_at dksX1_init_3 19 rfl rfl)
theorem dX1_init_89 : decode cX1_init 89 = .ok (.putfield 55, 3) := dk_181 0 55 (dk_at dksX1_init_4 0 rfl rfl)
theorem dX1_init_92 : decode cX1_init 92 = .ok (.aload_n 0, 1) := dk_42 (dk_at dksX1_init_4 3 rfl rfl)
theorem dX1_init_93 : decode cX1_init 93 = .ok (.new 59, 3) := dk_187 0 59 (dk_at dksX1_init_4 4 rfl rfl)
theorem dX1_init_96 : decode cX1_init 96 = .ok (.dup, 1) := dk_89 (dk_at dksX1_init_4 7 rfl rfl)
theorem dX1_init_97 : decode cX1_init 97 = .ok (.invokespecial 61, 3) := dk_183 0 61 (dk_at dksX1_init_4 8 rfl rfl)
theorem dX1_init_100 : decode cX1_init 100 = .ok (.putfield 62, 3) := dk_181 0 62 (dk_at dksX1_init_4 11 rfl rfl)
theorem dX1_init_103 : decode cX1_init 103 = .ok (.aload_n 0, 1) := dk_42 (dk_at dksX1_init_4 14 rfl rfl)
theorem dX1_init_104 : decode cX1_init 104 = .ok (.bipush 16, 2) := dk_16 16 (dk_at dksX1_init_4 15 rfl rfl)
theorem dX1_init_106 : decode cX1_init 106 = .ok (.anewarray 30, 3) := dk_189 0 30 (dk_at dksX1_init_4 17 rfl rfl)
theorem dX1_init_109 : decode cX1_init 109 = .ok (.putfield 66, 3) := dk_181 0 66 (dk_at dksX1_init_4 20 rfl rfl)
theorem dX1_init_112 : decode cX1_init 112 = .ok (.aload_n 0, 1) := dk_42 (dk_at dksX1_init_4 23 rfl rfl)
theorem dX1_init_113 : decode cX1_init 113 = .ok (.iconst 3, 1) := dk_6 (dk_at dksX1_init_5 0 rfl rfl)
theorem dX1_init_114 : decode cX1_init 114 = .ok (.anewarray 30, 3) := dk_189 0 30 (dk_at dksX1_init_5 1 rfl rfl)
theorem dX1_init_117 : decode cX1_init 117 = .ok (.putfield 70, 3) := dk_181 0 70 (dk_at dksX1_init_5 4 rfl rfl)
theorem dX1_init_120 : decode cX1_init 120 = .ok (.aload_n 0, 1) := dk_42 (dk_at dksX1_init_5 7 rfl rfl)
theorem dX1_init_121 : decode cX1_init 121 = .ok (.bipush 6, 2) := dk_16 6 (dk_at dksX1_init_5 8 rfl rfl)
theorem dX1_init_123 : decode cX1_init 123 = .ok (.newarray .int, 2) := dk_188_10 (dk_at dksX1_init_5 10 rfl rfl)
theorem dX1_init_125 : decode cX1_init 125 = .ok (.putfield 73, 3) := dk_181 0 73 (dk_at dksX1_init_5 12 rfl rfl)
theorem dX1_init_128 : decode cX1_init 128 = .ok (.aload_n 0, 1) := dk_42 (dk_at dksX1_init_5 15 rfl rfl)
theorem dX1_init_129 : decode cX1_init 129 = .ok (.iconst 4, 1) := dk_7 (dk_at dksX1_init_5 16 rfl rfl)
theorem dX1_init_130 : decode cX1_init 130 = .ok (.newarray .int, 2) := dk_188_10 (dk_at dksX1_init_5 17 rfl rfl)
theorem dX1_init_132 : decode cX1_init 132 = .ok (.putfield 77, 3) := dk_181 0 77 (dk_at dksX1_init_5 19 rfl rfl)
theorem dX1_init_135 : decode cX1_init 135 = .ok (.iconst 0, 1) := dk_3 (dk_at dksX1_init_5 22 rfl rfl)
theorem dX1_init_136 : decode cX1_init 136 = .ok (.istore_n 1, 1) := dk_60 (dk_at dksX1_init_5 23 rfl rfl)
theorem dX1_init_137 : decode cX1_init 137 = .ok (.iload_n 1, 1) := dk_27 (dk_at dksX1_init_6 0 rfl rfl)
theorem dX1_init_138 : decode cX1_init 138 = .ok (.bipush 16, 2) := dk_16 16 (dk_at dksX1_init_6 1 rfl rfl)
theorem dX1_init_140 : decode cX1_init 140 = .ok (.if_icmp .ge 22, 3) := dk_162 0 22 (dk_at dksX1_init_6 3 rfl rfl)
theorem dX1_init_143 : decode cX1_init 143 = .ok (.aload_n 0, 1) := dk_42 (dk_at dksX1_init_6 6 rfl rfl)
theorem dX1_init_144 : decode cX1_init 144 = .ok (.getfield 66, 3) := dk_180 0 66 (dk_at dksX1_init_6 7 rfl rfl)
theorem dX1_init_147 : decode cX1_init 147 = .ok (.iload_n 1, 1) := dk_27 (dk_at dksX1_init_6 10 rfl rfl)
theorem dX1_init_148 : decode cX1_init 148 = .ok (.new 30, 3) := dk_187 0 30 (dk_at dksX1_init_6 11 rfl rfl)
theorem dX1_init_151 : decode cX1_init 151 = .ok (.dup, 1) := dk_89 (dk_at dksX1_init_6 14 rfl rfl)
theorem dX1_init_152 : decode cX1_init 152 = .ok (.invokespecial 32, 3) := dk_183 0 32 (dk_at dksX1_init_6 15 rfl rfl)
theorem dX1_init_155 : decode cX1_init 155 = .ok (.aastore, 1) := dk_83 (dk_at dksX1_init_6 18 rfl rfl)
theorem dX1_init_156 : decode cX1_init 156 = .ok (.iinc 1 1, 3) := dk_132 1 1 (dk_at dksX1_init_6 19 rfl rfl)
theorem dX1_init_159 : decode cX1_init 159 = .ok (.goto (-22), 3) := dk_167 255 234 (dk_at dksX1_init_7 0 rfl rfl)
theorem dX1_init_162 : decode cX1_init 162 = .ok (.iconst 0, 1) := dk_3 (dk_at dksX1_init_7 3 rfl rfl)
theorem dX1_init_163 : decode cX1_init 163 = .ok (.istore_n 1, 1) := dk_60 (dk_at dksX1_init_7 4 rfl rfl)
theorem dX1_init_164 : decode cX1_init 164 = .ok (.iload_n 1, 1) := dk_27 (dk_at dksX1_init_7 5 rfl rfl)
theorem dX1_init_165 : decode cX1_init 165 = .ok (.iconst 3, 1) := dk_6 (dk_at dksX1_init_7 6 rfl rfl)
theorem dX1_init_166 : decode cX1_init 166 = .ok (.if_icmp .ge 22, 3) := dk_162 0 22 (dk_at dksX1_init_7 7 rfl rfl)
theorem dX1_init_169 : decode cX1_init 169 = .ok (.aload_n 0, 1) := dk_42 (dk_at dksX1_init_7 10 rfl rfl)
theorem dX1_init_170 : decode cX1_init 170 = .ok (.getfield 70, 3) := dk_180 0 70 (dk_at dksX1_init_7 11 rfl rfl)
theorem dX1_init_173 : decode cX1_init 173 = .ok (.iload_n 1, 1) := dk_27 (dk_at dksX1_init_7 14 rfl rfl)
theorem dX1_init_174 : decode cX1_init 174 = .ok (.new 30, 3) := dk_187 0 30 (dk_at dksX1_init_7 15 rfl rfl)
theorem dX1_init_177 : decode cX1_init 177 = .ok (.dup, 1) := dk_89 (dk_at dksX1_init_7 18 rfl rfl)
theorem dX1_init_178 : decode cX1_init 178 = .ok (.invokespecial 32, 3) := dk_183 0 32 (dk_at dksX1_init_7 19 rfl rfl)
theorem dX1_init_181 : decode cX1_init 181 = .ok (.aastore, 1) := dk_83 (dk_at dksX1_init_7 22 rfl rfl)
theorem dX1_init_182 : decode cX1_init 182 = .ok (.iinc 1 1, 3) := dk_132 1 1 (dk_at dksX1_init_8 0 rfl rfl)
theorem dX1_init_185 : decode cX1_init 185 = .ok (.goto (-21), 3) := dk_167 255 235 (dk_at dksX1_init_8 3 rfl rfl)
theorem dX1_init_188 : decode cX1_init 188 = .ok (.return_, 1) := dk_177 (dk_at dksX1_init_8 6 rfl rfl)
abbrev cX1_feed : ByteArray := prog_1_method_9_code
def yX1_feed : MethodName := ⟨RX1, "feed", "(IIIII)I"⟩
def dkwX1_feed_2 : List UInt8 := [172]
abbrev dktX1_feed_2 : List UInt8 := dkwX1_feed_2 ++ []
def dkwX1_feed_1 : List UInt8 := [182, 0, 89, 42, 29, 182, 0, 89, 42, 21, 4, 182, 0, 89, 42, 21, 5, 182, 0, 89, 42, 180, 0, 86]
abbrev dktX1_feed_1 : List UInt8 := dkwX1_feed_1 ++ dktX1_feed_2
def dkwX1_feed_0 : List UInt8 := [42, 180, 0, 86, 16, 20, 96, 17, 3, 232, 164, 0, 5, 2, 172, 42, 27, 182, 0, 89, 42, 28]
abbrev dktX1_feed_0 : List UInt8 := dkwX1_feed_0 ++ dktX1_feed_1
theorem dksX1_feed_0 : cX1_feed.data.toList.drop 0 = dktX1_feed_0 := by decide +kernel
theorem dksX1_feed_1 : cX1_feed.data.toList.drop 22 = dktX1_feed_1 := dk_seg dksX1_feed_0 22 rfl rfl
theorem dksX1_feed_2 : cX1_feed.data.toList.drop 46 = dktX1_feed_2 := dk_seg dksX1_feed_1 24 rfl rfl
theorem dX1_feed_0 : decode cX1_feed 0 = .ok (.aload_n 0, 1) := dk_42 (dk_at dksX1_feed_0 0 rfl rfl)
theorem dX1_feed_1 : decode cX1_feed 1 = .ok (.getfield 86, 3) := dk_180 0 86 (dk_at dksX1_feed_0 1 rfl rfl)
theorem dX1_feed_4 : decode cX1_feed 4 = .ok (.bipush 20, 2) := dk_16 20 (dk_at dksX1_feed_0 4 rfl rfl)
theorem dX1_feed_6 : decode cX1_feed 6 = .ok (.iadd, 1) := dk_96 (dk_at dksX1_feed_0 6 rfl rfl)
theorem dX1_feed_7 : decode cX1_feed 7 = .ok (.sipush 1000, 3) := dk_17 3 232 (dk_at dksX1_feed_0 7 rfl rfl)
theorem dX1_feed_10 : decode cX1_feed 10 = .ok (.if_icmp .le 5, 3) := dk_164 0 5 (dk_at dksX1_feed_0 10 rfl rfl)
theorem dX1_feed_13 : decode cX1_feed 13 = .ok (.iconst (-1), 1) := dk_2 (dk_at dksX1_feed_0 13 rfl rfl)
theorem dX1_feed_14 : decode cX1_feed 14 = .ok (.ireturn, 1) := dk_172 (dk_at dksX1_feed_0 14 rfl rfl)
theorem dX1_feed_15 : decode cX1_feed 15 = .ok (.aload_n 0, 1) := dk_42 (dk_at dksX1_feed_0 15 rfl rfl)
theorem dX1_feed_16 : decode cX1_feed 16 = .ok (.iload_n 1, 1) := dk_27 (dk_at dksX1_feed_0 16 rfl rfl)
theorem dX1_feed_17 : decode cX1_feed 17 = .ok (.invokevirtual 89, 3) := dk_182 0 89 (dk_at dksX1_feed_0 17 rfl rfl)
theorem dX1_feed_20 : decode cX1_feed 20 = .ok (.aload_n 0, 1) := dk_42 (dk_at dksX1_feed_0 20 rfl rfl)
theorem dX1_feed_21 : decode cX1_feed 21 = .ok (.iload_n 2, 1) := dk_28 (dk_at dksX1_feed_0 21 rfl rfl)
theorem dX1_feed_22 : decode cX1_feed 22 = .ok (.invokevirtual 89, 3) := dk_182 0 89 (dk_at dksX1_feed_1 0 rfl rfl)
theorem dX1_feed_25 : decode cX1_feed 25 = .ok (.aload_n 0, 1) := dk_42 (dk_at dksX1_feed_1 3 rfl rfl)
theorem dX1_feed_26 : decode cX1_feed 26 = .ok (.iload_n 3, 1) := dk_29 (dk_at dksX1_feed_1 4 rfl rfl)
theorem dX1_feed_27 : decode cX1_feed 27 = .ok (.invokevirtual 89, 3) := dk_182 0 89 (dk_at dksX1_feed_1 5 rfl rfl)
theorem dX1_feed_30 : decode cX1_feed 30 = .ok (.aload_n 0, 1) := dk_42 (dk_at dksX1_feed_1 8 rfl rfl)
theorem dX1_feed_31 : decode cX1_feed 31 = .ok (.iload 4, 2) := dk_21 4 (dk_at dksX1_feed_1 9 rfl rfl)
theorem dX1_feed_33 : decode cX1_feed 33 = .ok (.invokevirtual 89, 3) := dk_182 0 89 (dk_at dksX1_feed_1 11 rfl rfl)
theorem dX1_feed_36 : decode cX1_feed 36 = .ok (.aload_n 0, 1) := dk_42 (dk_at dksX1_feed_1 14 rfl rfl)
theorem dX1_feed_37 : decode cX1_feed 37 = .ok (.iload 5, 2) := dk_21 5 (dk_at dksX1_feed_1 15 rfl rfl)
theorem dX1_feed_39 : decode cX1_feed 39 = .ok (.invokevirtual 89, 3) := dk_182 0 89 (dk_at dksX1_feed_1 17 rfl rfl)
theorem dX1_feed_42 : decode cX1_feed 42 = .ok (.aload_n 0, 1) := dk_42 (dk_at dksX1_feed_1 20 rfl rfl)
theorem dX1_feed_43 : decode cX1_feed 43 = .ok (.getfield 86, 3) := dk_180 0 86 (dk_at dksX1_feed_1 21 rfl rfl)
theorem dX1_feed_46 : decode cX1_feed 46 = .ok (.ireturn, 1) := dk_172 (dk_at dksX1_feed_2 0 rfl rfl)
abbrev cX1_bytes : ByteArray := prog_1_method_10_code
def yX1_bytes : MethodName := ⟨RX1, "bytes", "(I)V"⟩
def dkwX1_bytes_1 : List UInt8 := [180, 0, 86, 4, 96, 181, 0, 86, 132, 2, 248, 167, 255, 226, 177]
abbrev dktX1_bytes_1 : List UInt8 := dkwX1_bytes_1 ++ []
def dkwX1_bytes_0 : List UInt8 := [16, 24, 61, 28, 155, 0, 32, 42, 180, 0, 13, 42, 180, 0, 86, 27, 28, 122, 145, 84, 42, 89]
abbrev dktX1_bytes_0 : List UInt8 := dkwX1_bytes_0 ++ dktX1_bytes_1
theorem dksX1_bytes_0 : cX1_bytes.data.toList.drop 0 = dktX1_bytes_0 := by decide +kernel
theorem dksX1_bytes_1 : cX1_bytes.data.toList.drop 22 = dktX1_bytes_1 := dk_seg dksX1_bytes_0 22 rfl rfl
theorem dX1_bytes_0 : decode cX1_bytes 0 = .ok (.bipush 24, 2) := dk_16 24 (dk_at dksX1_bytes_0 0 rfl rfl)
theorem dX1_bytes_2 : decode cX1_bytes 2 = .ok (.istore_n 2, 1) := dk_61 (dk_at dksX1_bytes_0 2 rfl rfl)
theorem dX1_bytes_3 : decode cX1_bytes 3 = .ok (.iload_n 2, 1) := dk_28 (dk_at dksX1_bytes_0 3 rfl rfl)
theorem dX1_bytes_4 : decode cX1_bytes 4 = .ok (.ifCond .lt 32, 3) := dk_155 0 32 (dk_at dksX1_bytes_0 4 rfl rfl)
theorem dX1_bytes_7 : decode cX1_bytes 7 = .ok (.aload_n 0, 1) := dk_42 (dk_at dksX1_bytes_0 7 rfl rfl)
theorem dX1_bytes_8 : decode cX1_bytes 8 = .ok (.getfield 13, 3) := dk_180 0 13 (dk_at dksX1_bytes_0 8 rfl rfl)
theorem dX1_bytes_11 : decode cX1_bytes 11 = .ok (.aload_n 0, 1) := dk_42 (dk_at dksX1_bytes_0 11 rfl rfl)
theorem dX1_bytes_12 : decode cX1_bytes 12 = .ok (.getfield 86, 3) := dk_180 0 86 (dk_at dksX1_bytes_0 12 rfl rfl)
theorem dX1_bytes_15 : decode cX1_bytes 15 = .ok (.iload_n 1, 1) := dk_27 (dk_at dksX1_bytes_0 15 rfl rfl)
theorem dX1_bytes_16 : decode cX1_bytes 16 = .ok (.iload_n 2, 1) := dk_28 (dk_at dksX1_bytes_0 16 rfl rfl)
theorem dX1_bytes_17 : decode cX1_bytes 17 = .ok (.ishr, 1) := dk_122 (dk_at dksX1_bytes_0 17 rfl rfl)
theorem dX1_bytes_18 : decode cX1_bytes 18 = .ok (.i2b, 1) := dk_145 (dk_at dksX1_bytes_0 18 rfl rfl)
theorem dX1_bytes_19 : decode cX1_bytes 19 = .ok (.bastore, 1) := dk_84 (dk_at dksX1_bytes_0 19 rfl rfl)
theorem dX1_bytes_20 : decode cX1_bytes 20 = .ok (.aload_n 0, 1) := dk_42 (dk_at dksX1_bytes_0 20 rfl rfl)
theorem dX1_bytes_21 : decode cX1_bytes 21 = .ok (.dup, 1) := dk_89 (dk_at dksX1_bytes_0 21 rfl rfl)
theorem dX1_bytes_22 : decode cX1_bytes 22 = .ok (.getfield 86, 3) := dk_180 0 86 (dk_at dksX1_bytes_1 0 rfl rfl)
theorem dX1_bytes_25 : decode cX1_bytes 25 = .ok (.iconst 1, 1) := dk_4 (dk_at dksX1_bytes_1 3 rfl rfl)
theorem dX1_bytes_26 : decode cX1_bytes 26 = .ok (.iadd, 1) := dk_96 (dk_at dksX1_bytes_1 4 rfl rfl)
theorem dX1_bytes_27 : decode cX1_bytes 27 = .ok (.putfield 86, 3) := dk_181 0 86 (dk_at dksX1_bytes_1 5 rfl rfl)
theorem dX1_bytes_30 : decode cX1_bytes 30 = .ok (.iinc 2 (-8), 3) := dk_132 2 248 (dk_at dksX1_bytes_1 8 rfl rfl)
theorem dX1_bytes_33 : decode cX1_bytes 33 = .ok (.goto (-30), 3) := dk_167 255 226 (dk_at dksX1_bytes_1 11 rfl rfl)
theorem dX1_bytes_36 : decode cX1_bytes 36 = .ok (.return_, 1) := dk_177 (dk_at dksX1_bytes_1 14 rfl rfl)
abbrev cX1_kitchen : ByteArray := prog_1_method_11_code
def yX1_kitchen : MethodName := ⟨RX1, "kitchen", "(I)I"⟩
def dkwX1_kitchen_4 : List UInt8 := [180, 0, 128, 172]
abbrev dktX1_kitchen_4 : List UInt8 := dkwX1_kitchen_4 ++ []
def dkwX1_kitchen_3 : List UInt8 := [180, 0, 33, 42, 180, 0, 108, 182, 0, 118, 42, 3, 181, 0, 122, 42, 3, 181, 0, 125, 42, 180, 0, 108]
abbrev dktX1_kitchen_3 : List UInt8 := dkwX1_kitchen_3 ++ dktX1_kitchen_4
def dkwX1_kitchen_2 : List UInt8 := [42, 44, 180, 0, 114, 181, 0, 101, 42, 44, 180, 0, 115, 181, 0, 26, 42, 7, 182, 0, 97, 172, 42]
abbrev dktX1_kitchen_2 : List UInt8 := dkwX1_kitchen_2 ++ dktX1_kitchen_3
def dkwX1_kitchen_1 : List UInt8 := [181, 0, 86, 42, 3, 181, 0, 101, 42, 42, 180, 0, 22, 27, 182, 0, 104, 181, 0, 108, 167, 0, 26, 77]
abbrev dktX1_kitchen_1 : List UInt8 := dkwX1_kitchen_1 ++ dktX1_kitchen_2
def dkwX1_kitchen_0 : List UInt8 := [42, 182, 0, 83, 27, 3, 42, 180, 0, 86, 184, 0, 93, 154, 0, 9, 42, 5, 182, 0, 97, 172, 42, 3]
abbrev dktX1_kitchen_0 : List UInt8 := dkwX1_kitchen_0 ++ dktX1_kitchen_1
theorem dksX1_kitchen_0 : cX1_kitchen.data.toList.drop 0 = dktX1_kitchen_0 := by decide +kernel
theorem dksX1_kitchen_1 : cX1_kitchen.data.toList.drop 24 = dktX1_kitchen_1 := dk_seg dksX1_kitchen_0 24 rfl rfl
theorem dksX1_kitchen_2 : cX1_kitchen.data.toList.drop 48 = dktX1_kitchen_2 := dk_seg dksX1_kitchen_1 24 rfl rfl
theorem dksX1_kitchen_3 : cX1_kitchen.data.toList.drop 71 = dktX1_kitchen_3 := dk_seg dksX1_kitchen_2 23 rfl rfl
theorem dksX1_kitchen_4 : cX1_kitchen.data.toList.drop 95 = dktX1_kitchen_4 := dk_seg dksX1_kitchen_3 24 rfl rfl
theorem dX1_kitchen_0 : decode cX1_kitchen 0 = .ok (.aload_n 0, 1) := dk_42 (dk_at dksX1_kitchen_0 0 rfl rfl)
theorem dX1_kitchen_1 : decode cX1_kitchen 1 = .ok (.invokevirtual 83, 3) := dk_182 0 83 (dk_at dksX1_kitchen_0 1 rfl rfl)
theorem dX1_kitchen_4 : decode cX1_kitchen 4 = .ok (.iload_n 1, 1) := dk_27 (dk_at dksX1_kitchen_0 4 rfl rfl)
theorem dX1_kitchen_5 : decode cX1_kitchen 5 = .ok (.iconst 0, 1) := dk_3 (dk_at dksX1_kitchen_0 5 rfl rfl)
theorem dX1_kitchen_6 : decode cX1_kitchen 6 = .ok (.aload_n 0, 1) := dk_42 (dk_at dksX1_kitchen_0 6 rfl rfl)
theorem dX1_kitchen_7 : decode cX1_kitchen 7 = .ok (.getfield 86, 3) := dk_180 0 86 (dk_at dksX1_kitchen_0 7 rfl rfl)
theorem dX1_kitchen_10 : decode cX1_kitchen 10 = .ok (.invokestatic 93, 3) := dk_184 0 93 (dk_at dksX1_kitchen_0 10 rfl rfl)
theorem dX1_kitchen_13 : decode cX1_kitchen 13 = .ok (.ifCond .ne 9, 3) := dk_154 0 9 (dk_at dksX1_kitchen_0 13 rfl rfl)
theorem dX1_kitchen_16 : decode cX1_kitchen 16 = .ok (.aload_n 0, 1) := dk_42 (dk_at dksX1_kitchen_0 16 rfl rfl)
theorem dX1_kitchen_17 : decode cX1_kitchen 17 = .ok (.iconst 2, 1) := dk_5 (dk_at dksX1_kitchen_0 17 rfl rfl)
theorem dX1_kitchen_18 : decode cX1_kitchen 18 = .ok (.invokevirtual 97, 3) := dk_182 0 97 (dk_at dksX1_kitchen_0 18 rfl rfl)
theorem dX1_kitchen_21 : decode cX1_kitchen 21 = .ok (.ireturn, 1) := dk_172 (dk_at dksX1_kitchen_0 21 rfl rfl)
theorem dX1_kitchen_22 : decode cX1_kitchen 22 = .ok (.aload_n 0, 1) := dk_42 (dk_at dksX1_kitchen_0 22 rfl rfl)
theorem dX1_kitchen_23 : decode cX1_kitchen 23 = .ok (.iconst 0, 1) := dk_3 (dk_at dksX1_kitchen_0 23 rfl rfl)
theorem dX1_kitchen_24 : decode cX1_kitchen 24 = .ok (.putfield 86, 3) := dk_181 0 86 (dk_at dksX1_kitchen_1 0 rfl rfl)
theorem dX1_kitchen_27 : decode cX1_kitchen 27 = .ok (.aload_n 0, 1) := dk_42 (dk_at dksX1_kitchen_1 3 rfl rfl)
theorem dX1_kitchen_28 : decode cX1_kitchen 28 = .ok (.iconst 0, 1) := dk_3 (dk_at dksX1_kitchen_1 4 rfl rfl)
theorem dX1_kitchen_29 : decode cX1_kitchen 29 = .ok (.putfield 101, 3) := dk_181 0 101 (dk_at dksX1_kitchen_1 5 rfl rfl)
theorem dX1_kitchen_32 : decode cX1_kitchen 32 = .ok (.aload_n 0, 1) := dk_42 (dk_at dksX1_kitchen_1 8 rfl rfl)
theorem dX1_kitchen_33 : decode cX1_kitchen 33 = .ok (.aload_n 0, 1) := dk_42 (dk_at dksX1_kitchen_1 9 rfl rfl)
theorem dX1_kitchen_34 : decode cX1_kitchen 34 = .ok (.getfield 22, 3) := dk_180 0 22 (dk_at dksX1_kitchen_1 10 rfl rfl)
theorem dX1_kitchen_37 : decode cX1_kitchen 37 = .ok (.iload_n 1, 1) := dk_27 (dk_at dksX1_kitchen_1 13 rfl rfl)
theorem dX1_kitchen_38 : decode cX1_kitchen 38 = .ok (.invokevirtual 104, 3) := dk_182 0 104 (dk_at dksX1_kitchen_1 14 rfl rfl)
theorem dX1_kitchen_41 : decode cX1_kitchen 41 = .ok (.putfield 108, 3) := dk_181 0 108 (dk_at dksX1_kitchen_1 17 rfl rfl)
theorem dX1_kitchen_44 : decode cX1_kitchen 44 = .ok (.goto 26, 3) := dk_167 0 26 (dk_at dksX1_kitchen_1 20 rfl rfl)
theorem dX1_kitchen_47 : decode cX1_kitchen 47 = .ok (.astore_n 2, 1) := dk_77 (dk_at dksX1_kitchen_1 23 rfl rfl)
theorem dX1_kitchen_48 : decode cX1_kitchen 48 = .ok (.aload_n 0, 1) := dk_42 (dk_at dksX1_kitchen_2 0 rfl rfl)
theorem dX1_kitchen_49 : decode cX1_kitchen 49 = .ok (.aload_n 2, 1) := dk_44 (dk_at dksX1_kitchen_2 1 rfl rfl)
theorem dX1_kitchen_50 : decode cX1_kitchen 50 = .ok (.getfield 114, 3) := dk_180 0 114 (dk_at dksX1_kitchen_2 2 rfl rfl)
theorem dX1_kitchen_53 : decode cX1_kitchen 53 = .ok (.putfield 101, 3) := dk_181 0 101 (dk_at dksX1_kitchen_2 5 rfl rfl)
theorem dX1_kitchen_56 : decode cX1_kitchen 56 = .ok (.aload_n 0, 1) := dk_42 (dk_at dksX1_kitchen_2 8 rfl rfl)
theorem dX1_kitchen_57 : decode cX1_kitchen 57 = .ok (.aload_n 2, 1) := dk_44 (dk_at dksX1_kitchen_2 9 rfl rfl)
theorem dX1_kitchen_58 : decode cX1_kitchen 58 = .ok (.getfield 115, 3) := dk_180 0 115 (dk_at dksX1_kitchen_2 10 rfl rfl)
theorem dX1_kitchen_61 : decode cX1_kitchen 61 = .ok (.putfield 26, 3) := dk_181 0 26 (dk_at dksX1_kitchen_2 13 rfl rfl)
theorem dX1_kitchen_64 : decode cX1_kitchen 64 = .ok (.aload_n 0, 1) := dk_42 (dk_at dksX1_kitchen_2 16 rfl rfl)
theorem dX1_kitchen_65 : decode cX1_kitchen 65 = .ok (.iconst 4, 1) := dk_7 (dk_at dksX1_kitchen_2 17 rfl rfl)
theorem dX1_kitchen_66 : decode cX1_kitchen 66 = .ok (.invokevirtual 97, 3) := dk_182 0 97 (dk_at dksX1_kitchen_2 18 rfl rfl)
theorem dX1_kitchen_69 : decode cX1_kitchen 69 = .ok (.ireturn, 1) := dk_172 (dk_at dksX1_kitchen_2 21 rfl rfl)
theorem dX1_kitchen_70 : decode cX1_kitchen 70 = .ok (.aload_n 0, 1) := dk_42 (dk_at dksX1_kitchen_2 22 rfl rfl)
theorem dX1_kitchen_71 : decode cX1_kitchen 71 = .ok (.getfield 33, 3) := dk_180 0 33 (dk_at dksX1_kitchen_3 0 rfl rfl)
theorem dX1_kitchen_74 : decode cX1_kitchen 74 = .ok (.aload_n 0, 1) := dk_42 (dk_at dksX1_kitchen_3 3 rfl rfl)
theorem dX1_kitchen_75 : decode cX1_kitchen 75 = .ok (.getfield 108, 3) := dk_180 0 108 (dk_at dksX1_kitchen_3 4 rfl rfl)
theorem dX1_kitchen_78 : decode cX1_kitchen 78 = .ok (.invokevirtual 118, 3) := dk_182 0 118 (dk_at dksX1_kitchen_3 7 rfl rfl)
theorem dX1_kitchen_81 : decode cX1_kitchen 81 = .ok (.aload_n 0, 1) := dk_42 (dk_at dksX1_kitchen_3 10 rfl rfl)
theorem dX1_kitchen_82 : decode cX1_kitchen 82 = .ok (.iconst 0, 1) := dk_3 (dk_at dksX1_kitchen_3 11 rfl rfl)
theorem dX1_kitchen_83 : decode cX1_kitchen 83 = .ok (.putfield 122, 3) := dk_181 0 122 (dk_at dksX1_kitchen_3 12 rfl rfl)
theorem dX1_kitchen_86 : decode cX1_kitchen 86 = .ok (.aload_n 0, 1) := dk_42 (dk_at dksX1_kitchen_3 15 rfl rfl)
theorem dX1_kitchen_87 : decode cX1_kitchen 87 = .ok (.iconst 0, 1) := dk_3 (dk_at dksX1_kitchen_3 16 rfl rfl)
theorem dX1_kitchen_88 : decode cX1_kitchen 88 = .ok (.putfield 125, 3) := dk_181 0 125 (dk_at dksX1_kitchen_3 17 rfl rfl)
theorem dX1_kitchen_91 : decode cX1_kitchen 91 = .ok (.aload_n 0, 1) := dk_42 (dk_at dksX1_kitchen_3 20 rfl rfl)
theorem dX1_kitchen_92 : decode cX1_kitchen 92 = .ok (.getfield 108, 3) := dk_180 0 108 (dk_at dksX1_kitchen_3 21 rfl rfl)
theorem dX1_kitchen_95 : decode cX1_kitchen 95 = .ok (.getfield 128, 3) := dk_180 0 128 (dk_at dksX1_kitchen_4 0 rfl rfl)
theorem dX1_kitchen_98 : decode cX1_kitchen 98 = .ok (.ireturn, 1) := dk_172 (dk_at dksX1_kitchen_4 3 rfl rfl)
abbrev cX1_anew : ByteArray := prog_1_method_6_code
def yX1_anew : MethodName := ⟨RX1, "anew", "()V"⟩
def dkwX1_anew_0 : List UInt8 := [42, 3, 181, 0, 80, 42, 2, 181, 0, 26, 177]
abbrev dktX1_anew_0 : List UInt8 := dkwX1_anew_0 ++ []
theorem dksX1_anew_0 : cX1_anew.data.toList.drop 0 = dktX1_anew_0 := by decide +kernel
theorem dX1_anew_0 : decode cX1_anew 0 = .ok (.aload_n 0, 1) := dk_42 (dk_at dksX1_anew_0 0 rfl rfl)
theorem dX1_anew_1 : decode cX1_anew 1 = .ok (.iconst 0, 1) := dk_3 (dk_at dksX1_anew_0 1 rfl rfl)
theorem dX1_anew_2 : decode cX1_anew 2 = .ok (.putfield 80, 3) := dk_181 0 80 (dk_at dksX1_anew_0 2 rfl rfl)
theorem dX1_anew_5 : decode cX1_anew 5 = .ok (.aload_n 0, 1) := dk_42 (dk_at dksX1_anew_0 5 rfl rfl)
theorem dX1_anew_6 : decode cX1_anew 6 = .ok (.iconst (-1), 1) := dk_2 (dk_at dksX1_anew_0 6 rfl rfl)
theorem dX1_anew_7 : decode cX1_anew 7 = .ok (.putfield 26, 3) := dk_181 0 26 (dk_at dksX1_anew_0 7 rfl rfl)
theorem dX1_anew_10 : decode cX1_anew 10 = .ok (.return_, 1) := dk_177 (dk_at dksX1_anew_0 10 rfl rfl)
abbrev cX1_in : ByteArray := prog_1_method_1_code
def yX1_in : MethodName := ⟨RX1, "in", "(III)Z"⟩
def dkwX1_in_0 : List UInt8 := [26, 27, 161, 0, 12, 26, 28, 163, 0, 7, 4, 167, 0, 4, 3, 172]
abbrev dktX1_in_0 : List UInt8 := dkwX1_in_0 ++ []
theorem dksX1_in_0 : cX1_in.data.toList.drop 0 = dktX1_in_0 := by decide +kernel
theorem dX1_in_0 : decode cX1_in 0 = .ok (.iload_n 0, 1) := dk_26 (dk_at dksX1_in_0 0 rfl rfl)
theorem dX1_in_1 : decode cX1_in 1 = .ok (.iload_n 1, 1) := dk_27 (dk_at dksX1_in_0 1 rfl rfl)
theorem dX1_in_2 : decode cX1_in 2 = .ok (.if_icmp .lt 12, 3) := dk_161 0 12 (dk_at dksX1_in_0 2 rfl rfl)
theorem dX1_in_5 : decode cX1_in 5 = .ok (.iload_n 0, 1) := dk_26 (dk_at dksX1_in_0 5 rfl rfl)
theorem dX1_in_6 : decode cX1_in 6 = .ok (.iload_n 2, 1) := dk_28 (dk_at dksX1_in_0 6 rfl rfl)
theorem dX1_in_7 : decode cX1_in 7 = .ok (.if_icmp .gt 7, 3) := dk_163 0 7 (dk_at dksX1_in_0 7 rfl rfl)
theorem dX1_in_10 : decode cX1_in 10 = .ok (.iconst 1, 1) := dk_4 (dk_at dksX1_in_0 10 rfl rfl)
theorem dX1_in_11 : decode cX1_in 11 = .ok (.goto 4, 3) := dk_167 0 4 (dk_at dksX1_in_0 11 rfl rfl)
theorem dX1_in_14 : decode cX1_in 14 = .ok (.iconst 0, 1) := dk_3 (dk_at dksX1_in_0 14 rfl rfl)
theorem dX1_in_15 : decode cX1_in 15 = .ok (.ireturn, 1) := dk_172 (dk_at dksX1_in_0 15 rfl rfl)
abbrev cX1_no : ByteArray := prog_1_method_7_code
def yX1_no : MethodName := ⟨RX1, "no", "(I)I"⟩
def dkwX1_no_0 : List UInt8 := [42, 27, 181, 0, 80, 2, 172]
abbrev dktX1_no_0 : List UInt8 := dkwX1_no_0 ++ []
theorem dksX1_no_0 : cX1_no.data.toList.drop 0 = dktX1_no_0 := by decide +kernel
theorem dX1_no_0 : decode cX1_no 0 = .ok (.aload_n 0, 1) := dk_42 (dk_at dksX1_no_0 0 rfl rfl)
theorem dX1_no_1 : decode cX1_no 1 = .ok (.iload_n 1, 1) := dk_27 (dk_at dksX1_no_0 1 rfl rfl)
theorem dX1_no_2 : decode cX1_no 2 = .ok (.putfield 80, 3) := dk_181 0 80 (dk_at dksX1_no_0 2 rfl rfl)
theorem dX1_no_5 : decode cX1_no 5 = .ok (.iconst (-1), 1) := dk_2 (dk_at dksX1_no_0 5 rfl rfl)
theorem dX1_no_6 : decode cX1_no 6 = .ok (.ireturn, 1) := dk_172 (dk_at dksX1_no_0 6 rfl rfl)
abbrev cX1_has : ByteArray := prog_1_method_2_code
def yX1_has : MethodName := ⟨RX1, "has", "(II)Z"⟩
def dkwX1_has_0 : List UInt8 := [26, 27, 122, 4, 126, 4, 160, 0, 7, 4, 167, 0, 4, 3, 172]
abbrev dktX1_has_0 : List UInt8 := dkwX1_has_0 ++ []
theorem dksX1_has_0 : cX1_has.data.toList.drop 0 = dktX1_has_0 := by decide +kernel
theorem dX1_has_0 : decode cX1_has 0 = .ok (.iload_n 0, 1) := dk_26 (dk_at dksX1_has_0 0 rfl rfl)
theorem dX1_has_1 : decode cX1_has 1 = .ok (.iload_n 1, 1) := dk_27 (dk_at dksX1_has_0 1 rfl rfl)
theorem dX1_has_2 : decode cX1_has 2 = .ok (.ishr, 1) := dk_122 (dk_at dksX1_has_0 2 rfl rfl)
theorem dX1_has_3 : decode cX1_has 3 = .ok (.iconst 1, 1) := dk_4 (dk_at dksX1_has_0 3 rfl rfl)
theorem dX1_has_4 : decode cX1_has 4 = .ok (.iand, 1) := dk_126 (dk_at dksX1_has_0 4 rfl rfl)
theorem dX1_has_5 : decode cX1_has 5 = .ok (.iconst 1, 1) := dk_4 (dk_at dksX1_has_0 5 rfl rfl)
theorem dX1_has_6 : decode cX1_has 6 = .ok (.if_icmp .ne 7, 3) := dk_160 0 7 (dk_at dksX1_has_0 6 rfl rfl)
theorem dX1_has_9 : decode cX1_has 9 = .ok (.iconst 1, 1) := dk_4 (dk_at dksX1_has_0 9 rfl rfl)
theorem dX1_has_10 : decode cX1_has 10 = .ok (.goto 4, 3) := dk_167 0 4 (dk_at dksX1_has_0 10 rfl rfl)
theorem dX1_has_13 : decode cX1_has 13 = .ok (.iconst 0, 1) := dk_3 (dk_at dksX1_has_0 13 rfl rfl)
theorem dX1_has_14 : decode cX1_has 14 = .ok (.ireturn, 1) := dk_172 (dk_at dksX1_has_0 14 rfl rfl)
abbrev cX1_fault : ByteArray := prog_1_method_12_code
def yX1_fault : MethodName := ⟨RX1, "fault", "()I"⟩
theorem dX1_fault_0 : decode cX1_fault 0 = .ok (.aload_n 0, 1) := by decide +kernel
theorem dX1_fault_1 : decode cX1_fault 1 = .ok (.getfield 101, 3) := by decide +kernel
theorem dX1_fault_4 : decode cX1_fault 4 = .ok (.ireturn, 1) := by decide +kernel
abbrev cX1_where : ByteArray := prog_1_method_13_code
def yX1_where : MethodName := ⟨RX1, "where", "()I"⟩
def dkwX1_where_0 : List UInt8 := [42, 180, 0, 80, 7, 160, 0, 10, 42, 180, 0, 26, 167, 0, 4, 2, 172]
abbrev dktX1_where_0 : List UInt8 := dkwX1_where_0 ++ []
theorem dksX1_where_0 : cX1_where.data.toList.drop 0 = dktX1_where_0 := by decide +kernel
theorem dX1_where_0 : decode cX1_where 0 = .ok (.aload_n 0, 1) := dk_42 (dk_at dksX1_where_0 0 rfl rfl)
theorem dX1_where_1 : decode cX1_where 1 = .ok (.getfield 80, 3) := dk_180 0 80 (dk_at dksX1_where_0 1 rfl rfl)
theorem dX1_where_4 : decode cX1_where 4 = .ok (.iconst 4, 1) := dk_7 (dk_at dksX1_where_0 4 rfl rfl)
theorem dX1_where_5 : decode cX1_where 5 = .ok (.if_icmp .ne 10, 3) := dk_160 0 10 (dk_at dksX1_where_0 5 rfl rfl)
theorem dX1_where_8 : decode cX1_where 8 = .ok (.aload_n 0, 1) := dk_42 (dk_at dksX1_where_0 8 rfl rfl)
theorem dX1_where_9 : decode cX1_where 9 = .ok (.getfield 26, 3) := dk_180 0 26 (dk_at dksX1_where_0 9 rfl rfl)
theorem dX1_where_12 : decode cX1_where 12 = .ok (.goto 4, 3) := dk_167 0 4 (dk_at dksX1_where_0 12 rfl rfl)
theorem dX1_where_15 : decode cX1_where 15 = .ok (.iconst (-1), 1) := dk_2 (dk_at dksX1_where_0 15 rfl rfl)
theorem dX1_where_16 : decode cX1_where 16 = .ok (.ireturn, 1) := dk_172 (dk_at dksX1_where_0 16 rfl rfl)
abbrev cX1_bone : ByteArray := prog_1_method_18_code
def yX1_bone : MethodName := ⟨RX1, "bone", "(II)I"⟩
def dkwX1_bone_6 : List UInt8 := [172]
abbrev dktX1_bone_6 : List UInt8 := dkwX1_bone_6 ++ []
def dkwX1_bone_5 : List UInt8 := [180, 0, 33, 180, 0, 166, 27, 184, 0, 155, 153, 0, 7, 4, 167, 0, 4, 3, 172, 42, 4, 182, 0, 97]
abbrev dktX1_bone_5 : List UInt8 := dkwX1_bone_5 ++ dktX1_bone_6
def dkwX1_bone_4 : List UInt8 := [180, 0, 33, 180, 0, 163, 27, 46, 172, 45, 3, 182, 0, 147, 172, 45, 4, 182, 0, 147, 172, 42]
abbrev dktX1_bone_4 : List UInt8 := dkwX1_bone_4 ++ dktX1_bone_5
def dkwX1_bone_3 : List UInt8 := [42, 180, 0, 33, 180, 0, 152, 27, 184, 0, 155, 153, 0, 7, 5, 167, 0, 7, 45, 182, 0, 159, 172, 42]
abbrev dktX1_bone_3 : List UInt8 := dkwX1_bone_3 ++ dktX1_bone_4
def dkwX1_bone_2 : List UInt8 := [170, 0, 0, 0, 0, 0, 100, 0, 0, 0, 0, 0, 0, 0, 4, 0, 0, 0, 35, 0, 0, 0, 58, 0, 0, 0, 68, 0, 0, 0, 74, 0, 0, 0, 80]
abbrev dktX1_bone_2 : List UInt8 := dkwX1_bone_2 ++ dktX1_bone_3
def dkwX1_bone_1 : List UInt8 := [180, 0, 143, 27, 50, 78, 28]
abbrev dktX1_bone_1 : List UInt8 := dkwX1_bone_1 ++ dktX1_bone_2
def dkwX1_bone_0 : List UInt8 := [42, 182, 0, 83, 42, 27, 182, 0, 140, 154, 0, 9, 42, 4, 182, 0, 97, 172, 42, 180, 0, 108]
abbrev dktX1_bone_0 : List UInt8 := dkwX1_bone_0 ++ dktX1_bone_1
theorem dksX1_bone_0 : cX1_bone.data.toList.drop 0 = dktX1_bone_0 := by decide +kernel
theorem dksX1_bone_1 : cX1_bone.data.toList.drop 22 = dktX1_bone_1 := dk_seg dksX1_bone_0 22 rfl rfl
theorem dksX1_bone_2 : cX1_bone.data.toList.drop 29 = dktX1_bone_2 := dk_seg dksX1_bone_1 7 rfl rfl
theorem dksX1_bone_3 : cX1_bone.data.toList.drop 64 = dktX1_bone_3 := dk_seg dksX1_bone_2 35 rfl rfl
theorem dksX1_bone_4 : cX1_bone.data.toList.drop 88 = dktX1_bone_4 := dk_seg dksX1_bone_3 24 rfl rfl
theorem dksX1_bone_5 : cX1_bone.data.toList.drop 110 = dktX1_bone_5 := dk_seg dksX1_bone_4 22 rfl rfl
theorem dksX1_bone_6 : cX1_bone.data.toList.drop 134 = dktX1_bone_6 := dk_seg dksX1_bone_5 24 rfl rfl
theorem dX1_bone_0 : decode cX1_bone 0 = .ok (.aload_n 0, 1) := dk_42 (dk_at dksX1_bone_0 0 rfl rfl)
theorem dX1_bone_1 : decode cX1_bone 1 = .ok (.invokevirtual 83, 3) := dk_182 0 83 (dk_at dksX1_bone_0 1 rfl rfl)
theorem dX1_bone_4 : decode cX1_bone 4 = .ok (.aload_n 0, 1) := dk_42 (dk_at dksX1_bone_0 4 rfl rfl)
theorem dX1_bone_5 : decode cX1_bone 5 = .ok (.iload_n 1, 1) := dk_27 (dk_at dksX1_bone_0 5 rfl rfl)
theorem dX1_bone_6 : decode cX1_bone 6 = .ok (.invokevirtual 140, 3) := dk_182 0 140 (dk_at dksX1_bone_0 6 rfl rfl)
theorem dX1_bone_9 : decode cX1_bone 9 = .ok (.ifCond .ne 9, 3) := dk_154 0 9 (dk_at dksX1_bone_0 9 rfl rfl)
theorem dX1_bone_12 : decode cX1_bone 12 = .ok (.aload_n 0, 1) := dk_42 (dk_at dksX1_bone_0 12 rfl rfl)
theorem dX1_bone_13 : decode cX1_bone 13 = .ok (.iconst 1, 1) := dk_4 (dk_at dksX1_bone_0 13 rfl rfl)
theorem dX1_bone_14 : decode cX1_bone 14 = .ok (.invokevirtual 97, 3) := dk_182 0 97 (dk_at dksX1_bone_0 14 rfl rfl)
theorem dX1_bone_17 : decode cX1_bone 17 = .ok (.ireturn, 1) := dk_172 (dk_at dksX1_bone_0 17 rfl rfl)
theorem dX1_bone_18 : decode cX1_bone 18 = .ok (.aload_n 0, 1) := dk_42 (dk_at dksX1_bone_0 18 rfl rfl)
theorem dX1_bone_19 : decode cX1_bone 19 = .ok (.getfield 108, 3) := dk_180 0 108 (dk_at dksX1_bone_0 19 rfl rfl)
theorem dX1_bone_22 : decode cX1_bone 22 = .ok (.getfield 143, 3) := dk_180 0 143 (dk_at dksX1_bone_1 0 rfl rfl)
theorem dX1_bone_25 : decode cX1_bone 25 = .ok (.iload_n 1, 1) := dk_27 (dk_at dksX1_bone_1 3 rfl rfl)
theorem dX1_bone_26 : decode cX1_bone 26 = .ok (.aaload, 1) := dk_50 (dk_at dksX1_bone_1 4 rfl rfl)
theorem dX1_bone_27 : decode cX1_bone 27 = .ok (.astore_n 3, 1) := dk_78 (dk_at dksX1_bone_1 5 rfl rfl)
theorem dX1_bone_28 : decode cX1_bone 28 = .ok (.iload_n 2, 1) := dk_28 (dk_at dksX1_bone_1 6 rfl rfl)
theorem dX1_bone_29 : decode cX1_bone 29 = .ok (.tableswitch 100 0 4 #[35, 58, 68, 74, 80], 35) := by decide +kernel
theorem dX1_bone_64 : decode cX1_bone 64 = .ok (.aload_n 0, 1) := dk_42 (dk_at dksX1_bone_3 0 rfl rfl)
theorem dX1_bone_65 : decode cX1_bone 65 = .ok (.getfield 33, 3) := dk_180 0 33 (dk_at dksX1_bone_3 1 rfl rfl)
theorem dX1_bone_68 : decode cX1_bone 68 = .ok (.getfield 152, 3) := dk_180 0 152 (dk_at dksX1_bone_3 4 rfl rfl)
theorem dX1_bone_71 : decode cX1_bone 71 = .ok (.iload_n 1, 1) := dk_27 (dk_at dksX1_bone_3 7 rfl rfl)
theorem dX1_bone_72 : decode cX1_bone 72 = .ok (.invokestatic 155, 3) := dk_184 0 155 (dk_at dksX1_bone_3 8 rfl rfl)
theorem dX1_bone_75 : decode cX1_bone 75 = .ok (.ifCond .eq 7, 3) := dk_153 0 7 (dk_at dksX1_bone_3 11 rfl rfl)
theorem dX1_bone_78 : decode cX1_bone 78 = .ok (.iconst 2, 1) := dk_5 (dk_at dksX1_bone_3 14 rfl rfl)
theorem dX1_bone_79 : decode cX1_bone 79 = .ok (.goto 7, 3) := dk_167 0 7 (dk_at dksX1_bone_3 15 rfl rfl)
theorem dX1_bone_82 : decode cX1_bone 82 = .ok (.aload_n 3, 1) := dk_45 (dk_at dksX1_bone_3 18 rfl rfl)
theorem dX1_bone_83 : decode cX1_bone 83 = .ok (.invokevirtual 159, 3) := dk_182 0 159 (dk_at dksX1_bone_3 19 rfl rfl)
theorem dX1_bone_86 : decode cX1_bone 86 = .ok (.ireturn, 1) := dk_172 (dk_at dksX1_bone_3 22 rfl rfl)
theorem dX1_bone_87 : decode cX1_bone 87 = .ok (.aload_n 0, 1) := dk_42 (dk_at dksX1_bone_3 23 rfl rfl)
theorem dX1_bone_88 : decode cX1_bone 88 = .ok (.getfield 33, 3) := dk_180 0 33 (dk_at dksX1_bone_4 0 rfl rfl)
theorem dX1_bone_91 : decode cX1_bone 91 = .ok (.getfield 163, 3) := dk_180 0 163 (dk_at dksX1_bone_4 3 rfl rfl)
theorem dX1_bone_94 : decode cX1_bone 94 = .ok (.iload_n 1, 1) := dk_27 (dk_at dksX1_bone_4 6 rfl rfl)
theorem dX1_bone_95 : decode cX1_bone 95 = .ok (.iaload, 1) := dk_46 (dk_at dksX1_bone_4 7 rfl rfl)
theorem dX1_bone_96 : decode cX1_bone 96 = .ok (.ireturn, 1) := dk_172 (dk_at dksX1_bone_4 8 rfl rfl)
theorem dX1_bone_97 : decode cX1_bone 97 = .ok (.aload_n 3, 1) := dk_45 (dk_at dksX1_bone_4 9 rfl rfl)
theorem dX1_bone_98 : decode cX1_bone 98 = .ok (.iconst 0, 1) := dk_3 (dk_at dksX1_bone_4 10 rfl rfl)
theorem dX1_bone_99 : decode cX1_bone 99 = .ok (.invokevirtual 147, 3) := dk_182 0 147 (dk_at dksX1_bone_4 11 rfl rfl)
theorem dX1_bone_102 : decode cX1_bone 102 = .ok (.ireturn, 1) := dk_172 (dk_at dksX1_bone_4 14 rfl rfl)
theorem dX1_bone_103 : decode cX1_bone 103 = .ok (.aload_n 3, 1) := dk_45 (dk_at dksX1_bone_4 15 rfl rfl)
theorem dX1_bone_104 : decode cX1_bone 104 = .ok (.iconst 1, 1) := dk_4 (dk_at dksX1_bone_4 16 rfl rfl)
theorem dX1_bone_105 : decode cX1_bone 105 = .ok (.invokevirtual 147, 3) := dk_182 0 147 (dk_at dksX1_bone_4 17 rfl rfl)
theorem dX1_bone_108 : decode cX1_bone 108 = .ok (.ireturn, 1) := dk_172 (dk_at dksX1_bone_4 20 rfl rfl)
theorem dX1_bone_109 : decode cX1_bone 109 = .ok (.aload_n 0, 1) := dk_42 (dk_at dksX1_bone_4 21 rfl rfl)
theorem dX1_bone_110 : decode cX1_bone 110 = .ok (.getfield 33, 3) := dk_180 0 33 (dk_at dksX1_bone_5 0 rfl rfl)
theorem dX1_bone_113 : decode cX1_bone 113 = .ok (.getfield 166, 3) := dk_180 0 166 (dk_at dksX1_bone_5 3 rfl rfl)
theorem dX1_bone_116 : decode cX1_bone 116 = .ok (.iload_n 1, 1) := dk_27 (dk_at dksX1_bone_5 6 rfl rfl)
theorem dX1_bone_117 : decode cX1_bone 117 = .ok (.invokestatic 155, 3) := dk_184 0 155 (dk_at dksX1_bone_5 7 rfl rfl)
theorem dX1_bone_120 : decode cX1_bone 120 = .ok (.ifCond .eq 7, 3) := dk_153 0 7 (dk_at dksX1_bone_5 10 rfl rfl)
theorem dX1_bone_123 : decode cX1_bone 123 = .ok (.iconst 1, 1) := dk_4 (dk_at dksX1_bone_5 13 rfl rfl)
theorem dX1_bone_124 : decode cX1_bone 124 = .ok (.goto 4, 3) := dk_167 0 4 (dk_at dksX1_bone_5 14 rfl rfl)
theorem dX1_bone_127 : decode cX1_bone 127 = .ok (.iconst 0, 1) := dk_3 (dk_at dksX1_bone_5 17 rfl rfl)
theorem dX1_bone_128 : decode cX1_bone 128 = .ok (.ireturn, 1) := dk_172 (dk_at dksX1_bone_5 18 rfl rfl)
theorem dX1_bone_129 : decode cX1_bone 129 = .ok (.aload_n 0, 1) := dk_42 (dk_at dksX1_bone_5 19 rfl rfl)
theorem dX1_bone_130 : decode cX1_bone 130 = .ok (.iconst 1, 1) := dk_4 (dk_at dksX1_bone_5 20 rfl rfl)
theorem dX1_bone_131 : decode cX1_bone 131 = .ok (.invokevirtual 97, 3) := dk_182 0 97 (dk_at dksX1_bone_5 21 rfl rfl)
theorem dX1_bone_134 : decode cX1_bone 134 = .ok (.ireturn, 1) := dk_172 (dk_at dksX1_bone_6 0 rfl rfl)
abbrev cX1_isBone : ByteArray := prog_1_method_14_code
def yX1_isBone : MethodName := ⟨RX1, "isBone", "(I)Z"⟩
def dkwX1_isBone_1 : List UInt8 := [4, 167, 0, 4, 3, 172]
abbrev dktX1_isBone_1 : List UInt8 := dkwX1_isBone_1 ++ []
def dkwX1_isBone_0 : List UInt8 := [42, 180, 0, 108, 198, 0, 24, 27, 3, 42, 180, 0, 108, 180, 0, 128, 4, 100, 184, 0, 93, 153, 0, 7]
abbrev dktX1_isBone_0 : List UInt8 := dkwX1_isBone_0 ++ dktX1_isBone_1
theorem dksX1_isBone_0 : cX1_isBone.data.toList.drop 0 = dktX1_isBone_0 := by decide +kernel
theorem dksX1_isBone_1 : cX1_isBone.data.toList.drop 24 = dktX1_isBone_1 := dk_seg dksX1_isBone_0 24 rfl rfl
theorem dX1_isBone_0 : decode cX1_isBone 0 = .ok (.aload_n 0, 1) := dk_42 (dk_at dksX1_isBone_0 0 rfl rfl)
theorem dX1_isBone_1 : decode cX1_isBone 1 = .ok (.getfield 108, 3) := dk_180 0 108 (dk_at dksX1_isBone_0 1 rfl rfl)
theorem dX1_isBone_4 : decode cX1_isBone 4 = .ok (.ifnull 24, 3) := dk_198 0 24 (dk_at dksX1_isBone_0 4 rfl rfl)
theorem dX1_isBone_7 : decode cX1_isBone 7 = .ok (.iload_n 1, 1) := dk_27 (dk_at dksX1_isBone_0 7 rfl rfl)
theorem dX1_isBone_8 : decode cX1_isBone 8 = .ok (.iconst 0, 1) := dk_3 (dk_at dksX1_isBone_0 8 rfl rfl)
theorem dX1_isBone_9 : decode cX1_isBone 9 = .ok (.aload_n 0, 1) := dk_42 (dk_at dksX1_isBone_0 9 rfl rfl)
theorem dX1_isBone_10 : decode cX1_isBone 10 = .ok (.getfield 108, 3) := dk_180 0 108 (dk_at dksX1_isBone_0 10 rfl rfl)
theorem dX1_isBone_13 : decode cX1_isBone 13 = .ok (.getfield 128, 3) := dk_180 0 128 (dk_at dksX1_isBone_0 13 rfl rfl)
theorem dX1_isBone_16 : decode cX1_isBone 16 = .ok (.iconst 1, 1) := dk_4 (dk_at dksX1_isBone_0 16 rfl rfl)
theorem dX1_isBone_17 : decode cX1_isBone 17 = .ok (.isub, 1) := dk_100 (dk_at dksX1_isBone_0 17 rfl rfl)
theorem dX1_isBone_18 : decode cX1_isBone 18 = .ok (.invokestatic 93, 3) := dk_184 0 93 (dk_at dksX1_isBone_0 18 rfl rfl)
theorem dX1_isBone_21 : decode cX1_isBone 21 = .ok (.ifCond .eq 7, 3) := dk_153 0 7 (dk_at dksX1_isBone_0 21 rfl rfl)
theorem dX1_isBone_24 : decode cX1_isBone 24 = .ok (.iconst 1, 1) := dk_4 (dk_at dksX1_isBone_1 0 rfl rfl)
theorem dX1_isBone_25 : decode cX1_isBone 25 = .ok (.goto 4, 3) := dk_167 0 4 (dk_at dksX1_isBone_1 1 rfl rfl)
theorem dX1_isBone_28 : decode cX1_isBone 28 = .ok (.iconst 0, 1) := dk_3 (dk_at dksX1_isBone_1 4 rfl rfl)
theorem dX1_isBone_29 : decode cX1_isBone 29 = .ok (.ireturn, 1) := dk_172 (dk_at dksX1_isBone_1 5 rfl rfl)
abbrev cX1_thick : ByteArray := prog_1_method_19_code
def yX1_thick : MethodName := ⟨RX1, "thick", "(III)I"⟩
def dkwX1_thick_1 : List UInt8 := [29, 182, 0, 172, 167, 0, 8, 42, 4, 182, 0, 97, 172]
abbrev dktX1_thick_1 : List UInt8 := dkwX1_thick_1 ++ []
def dkwX1_thick_0 : List UInt8 := [42, 182, 0, 83, 42, 27, 28, 29, 182, 0, 169, 153, 0, 20, 42, 180, 0, 108, 180, 0, 143, 27, 50, 28]
abbrev dktX1_thick_0 : List UInt8 := dkwX1_thick_0 ++ dktX1_thick_1
theorem dksX1_thick_0 : cX1_thick.data.toList.drop 0 = dktX1_thick_0 := by decide +kernel
theorem dksX1_thick_1 : cX1_thick.data.toList.drop 24 = dktX1_thick_1 := dk_seg dksX1_thick_0 24 rfl rfl
theorem dX1_thick_0 : decode cX1_thick 0 = .ok (.aload_n 0, 1) := dk_42 (dk_at dksX1_thick_0 0 rfl rfl)
theorem dX1_thick_1 : decode cX1_thick 1 = .ok (.invokevirtual 83, 3) := dk_182 0 83 (dk_at dksX1_thick_0 1 rfl rfl)
theorem dX1_thick_4 : decode cX1_thick 4 = .ok (.aload_n 0, 1) := dk_42 (dk_at dksX1_thick_0 4 rfl rfl)
theorem dX1_thick_5 : decode cX1_thick 5 = .ok (.iload_n 1, 1) := dk_27 (dk_at dksX1_thick_0 5 rfl rfl)
theorem dX1_thick_6 : decode cX1_thick 6 = .ok (.iload_n 2, 1) := dk_28 (dk_at dksX1_thick_0 6 rfl rfl)
theorem dX1_thick_7 : decode cX1_thick 7 = .ok (.iload_n 3, 1) := dk_29 (dk_at dksX1_thick_0 7 rfl rfl)
theorem dX1_thick_8 : decode cX1_thick 8 = .ok (.invokevirtual 169, 3) := dk_182 0 169 (dk_at dksX1_thick_0 8 rfl rfl)
theorem dX1_thick_11 : decode cX1_thick 11 = .ok (.ifCond .eq 20, 3) := dk_153 0 20 (dk_at dksX1_thick_0 11 rfl rfl)
theorem dX1_thick_14 : decode cX1_thick 14 = .ok (.aload_n 0, 1) := dk_42 (dk_at dksX1_thick_0 14 rfl rfl)
theorem dX1_thick_15 : decode cX1_thick 15 = .ok (.getfield 108, 3) := dk_180 0 108 (dk_at dksX1_thick_0 15 rfl rfl)
theorem dX1_thick_18 : decode cX1_thick 18 = .ok (.getfield 143, 3) := dk_180 0 143 (dk_at dksX1_thick_0 18 rfl rfl)
theorem dX1_thick_21 : decode cX1_thick 21 = .ok (.iload_n 1, 1) := dk_27 (dk_at dksX1_thick_0 21 rfl rfl)
theorem dX1_thick_22 : decode cX1_thick 22 = .ok (.aaload, 1) := dk_50 (dk_at dksX1_thick_0 22 rfl rfl)
theorem dX1_thick_23 : decode cX1_thick 23 = .ok (.iload_n 2, 1) := dk_28 (dk_at dksX1_thick_0 23 rfl rfl)
theorem dX1_thick_24 : decode cX1_thick 24 = .ok (.iload_n 3, 1) := dk_29 (dk_at dksX1_thick_1 0 rfl rfl)
theorem dX1_thick_25 : decode cX1_thick 25 = .ok (.invokevirtual 172, 3) := dk_182 0 172 (dk_at dksX1_thick_1 1 rfl rfl)
theorem dX1_thick_28 : decode cX1_thick 28 = .ok (.goto 8, 3) := dk_167 0 8 (dk_at dksX1_thick_1 4 rfl rfl)
theorem dX1_thick_31 : decode cX1_thick 31 = .ok (.aload_n 0, 1) := dk_42 (dk_at dksX1_thick_1 7 rfl rfl)
theorem dX1_thick_32 : decode cX1_thick 32 = .ok (.iconst 1, 1) := dk_4 (dk_at dksX1_thick_1 8 rfl rfl)
theorem dX1_thick_33 : decode cX1_thick 33 = .ok (.invokevirtual 97, 3) := dk_182 0 97 (dk_at dksX1_thick_1 9 rfl rfl)
theorem dX1_thick_36 : decode cX1_thick 36 = .ok (.ireturn, 1) := dk_172 (dk_at dksX1_thick_1 12 rfl rfl)
abbrev cX1_isPlace : ByteArray := prog_1_method_17_code
def yX1_isPlace : MethodName := ⟨RX1, "isPlace", "(III)Z"⟩
def dkwX1_isPlace_1 : List UInt8 := [180, 0, 143, 27, 50, 28, 182, 0, 147, 4, 100, 184, 0, 93, 153, 0, 7, 4, 167, 0, 4, 3, 172]
abbrev dktX1_isPlace_1 : List UInt8 := dkwX1_isPlace_1 ++ []
def dkwX1_isPlace_0 : List UInt8 := [42, 27, 182, 0, 140, 153, 0, 39, 28, 3, 4, 184, 0, 93, 153, 0, 30, 29, 3, 42, 180, 0, 108]
abbrev dktX1_isPlace_0 : List UInt8 := dkwX1_isPlace_0 ++ dktX1_isPlace_1
theorem dksX1_isPlace_0 : cX1_isPlace.data.toList.drop 0 = dktX1_isPlace_0 := by decide +kernel
theorem dksX1_isPlace_1 : cX1_isPlace.data.toList.drop 23 = dktX1_isPlace_1 := dk_seg dksX1_isPlace_0 23 rfl rfl
theorem dX1_isPlace_0 : decode cX1_isPlace 0 = .ok (.aload_n 0, 1) := dk_42 (dk_at dksX1_isPlace_0 0 rfl rfl)
theorem dX1_isPlace_1 : decode cX1_isPlace 1 = .ok (.iload_n 1, 1) := dk_27 (dk_at dksX1_isPlace_0 1 rfl rfl)
theorem dX1_isPlace_2 : decode cX1_isPlace 2 = .ok (.invokevirtual 140, 3) := dk_182 0 140 (dk_at dksX1_isPlace_0 2 rfl rfl)
theorem dX1_isPlace_5 : decode cX1_isPlace 5 = .ok (.ifCond .eq 39, 3) := dk_153 0 39 (dk_at dksX1_isPlace_0 5 rfl rfl)
theorem dX1_isPlace_8 : decode cX1_isPlace 8 = .ok (.iload_n 2, 1) := dk_28 (dk_at dksX1_isPlace_0 8 rfl rfl)
theorem dX1_isPlace_9 : decode cX1_isPlace 9 = .ok (.iconst 0, 1) := dk_3 (dk_at dksX1_isPlace_0 9 rfl rfl)
theorem dX1_isPlace_10 : decode cX1_isPlace 10 = .ok (.iconst 1, 1) := dk_4 (dk_at dksX1_isPlace_0 10 rfl rfl)
theorem dX1_isPlace_11 : decode cX1_isPlace 11 = .ok (.invokestatic 93, 3) := dk_184 0 93 (dk_at dksX1_isPlace_0 11 rfl rfl)
theorem dX1_isPlace_14 : decode cX1_isPlace 14 = .ok (.ifCond .eq 30, 3) := dk_153 0 30 (dk_at dksX1_isPlace_0 14 rfl rfl)
theorem dX1_isPlace_17 : decode cX1_isPlace 17 = .ok (.iload_n 3, 1) := dk_29 (dk_at dksX1_isPlace_0 17 rfl rfl)
theorem dX1_isPlace_18 : decode cX1_isPlace 18 = .ok (.iconst 0, 1) := dk_3 (dk_at dksX1_isPlace_0 18 rfl rfl)
theorem dX1_isPlace_19 : decode cX1_isPlace 19 = .ok (.aload_n 0, 1) := dk_42 (dk_at dksX1_isPlace_0 19 rfl rfl)
theorem dX1_isPlace_20 : decode cX1_isPlace 20 = .ok (.getfield 108, 3) := dk_180 0 108 (dk_at dksX1_isPlace_0 20 rfl rfl)
theorem dX1_isPlace_23 : decode cX1_isPlace 23 = .ok (.getfield 143, 3) := dk_180 0 143 (dk_at dksX1_isPlace_1 0 rfl rfl)
theorem dX1_isPlace_26 : decode cX1_isPlace 26 = .ok (.iload_n 1, 1) := dk_27 (dk_at dksX1_isPlace_1 3 rfl rfl)
theorem dX1_isPlace_27 : decode cX1_isPlace 27 = .ok (.aaload, 1) := dk_50 (dk_at dksX1_isPlace_1 4 rfl rfl)
theorem dX1_isPlace_28 : decode cX1_isPlace 28 = .ok (.iload_n 2, 1) := dk_28 (dk_at dksX1_isPlace_1 5 rfl rfl)
theorem dX1_isPlace_29 : decode cX1_isPlace 29 = .ok (.invokevirtual 147, 3) := dk_182 0 147 (dk_at dksX1_isPlace_1 6 rfl rfl)
theorem dX1_isPlace_32 : decode cX1_isPlace 32 = .ok (.iconst 1, 1) := dk_4 (dk_at dksX1_isPlace_1 9 rfl rfl)
theorem dX1_isPlace_33 : decode cX1_isPlace 33 = .ok (.isub, 1) := dk_100 (dk_at dksX1_isPlace_1 10 rfl rfl)
theorem dX1_isPlace_34 : decode cX1_isPlace 34 = .ok (.invokestatic 93, 3) := dk_184 0 93 (dk_at dksX1_isPlace_1 11 rfl rfl)
theorem dX1_isPlace_37 : decode cX1_isPlace 37 = .ok (.ifCond .eq 7, 3) := dk_153 0 7 (dk_at dksX1_isPlace_1 14 rfl rfl)
theorem dX1_isPlace_40 : decode cX1_isPlace 40 = .ok (.iconst 1, 1) := dk_4 (dk_at dksX1_isPlace_1 17 rfl rfl)
theorem dX1_isPlace_41 : decode cX1_isPlace 41 = .ok (.goto 4, 3) := dk_167 0 4 (dk_at dksX1_isPlace_1 18 rfl rfl)
theorem dX1_isPlace_44 : decode cX1_isPlace 44 = .ok (.iconst 0, 1) := dk_3 (dk_at dksX1_isPlace_1 21 rfl rfl)
theorem dX1_isPlace_45 : decode cX1_isPlace 45 = .ok (.ireturn, 1) := dk_172 (dk_at dksX1_isPlace_1 22 rfl rfl)
abbrev cX1_person : ByteArray := prog_1_method_20_code
def yX1_person : MethodName := ⟨RX1, "person", "(II)I"⟩
def dkwX1_person_4 : List UInt8 := [172, 45, 180, 0, 195, 172, 42, 180, 0, 33, 180, 0, 198, 27, 46, 172, 42, 4, 182, 0, 97, 172]
abbrev dktX1_person_4 : List UInt8 := dkwX1_person_4 ++ []
def dkwX1_person_3 : List UInt8 := [45, 182, 0, 180, 172, 45, 180, 0, 183, 172, 45, 180, 0, 186, 172, 45, 180, 0, 189, 172, 45, 180, 0, 192]
abbrev dktX1_person_3 : List UInt8 := dkwX1_person_3 ++ dktX1_person_4
def dkwX1_person_2 : List UInt8 := [170, 0, 0, 0, 0, 0, 83, 0, 0, 0, 0, 0, 0, 0, 6, 0, 0, 0, 43, 0, 0, 0, 48, 0, 0, 0, 53, 0, 0, 0, 58, 0, 0, 0, 63, 0, 0, 0, 68, 0, 0, 0, 73]
abbrev dktX1_person_2 : List UInt8 := dkwX1_person_2 ++ dktX1_person_3
def dkwX1_person_1 : List UInt8 := [180, 0, 176, 27, 50, 78, 28]
abbrev dktX1_person_1 : List UInt8 := dkwX1_person_1 ++ dktX1_person_2
def dkwX1_person_0 : List UInt8 := [42, 182, 0, 83, 42, 27, 182, 0, 136, 154, 0, 9, 42, 4, 182, 0, 97, 172, 42, 180, 0, 108]
abbrev dktX1_person_0 : List UInt8 := dkwX1_person_0 ++ dktX1_person_1
theorem dksX1_person_0 : cX1_person.data.toList.drop 0 = dktX1_person_0 := by decide +kernel
theorem dksX1_person_1 : cX1_person.data.toList.drop 22 = dktX1_person_1 := dk_seg dksX1_person_0 22 rfl rfl
theorem dksX1_person_2 : cX1_person.data.toList.drop 29 = dktX1_person_2 := dk_seg dksX1_person_1 7 rfl rfl
theorem dksX1_person_3 : cX1_person.data.toList.drop 72 = dktX1_person_3 := dk_seg dksX1_person_2 43 rfl rfl
theorem dksX1_person_4 : cX1_person.data.toList.drop 96 = dktX1_person_4 := dk_seg dksX1_person_3 24 rfl rfl
theorem dX1_person_0 : decode cX1_person 0 = .ok (.aload_n 0, 1) := dk_42 (dk_at dksX1_person_0 0 rfl rfl)
theorem dX1_person_1 : decode cX1_person 1 = .ok (.invokevirtual 83, 3) := dk_182 0 83 (dk_at dksX1_person_0 1 rfl rfl)
theorem dX1_person_4 : decode cX1_person 4 = .ok (.aload_n 0, 1) := dk_42 (dk_at dksX1_person_0 4 rfl rfl)
theorem dX1_person_5 : decode cX1_person 5 = .ok (.iload_n 1, 1) := dk_27 (dk_at dksX1_person_0 5 rfl rfl)
theorem dX1_person_6 : decode cX1_person 6 = .ok (.invokevirtual 136, 3) := dk_182 0 136 (dk_at dksX1_person_0 6 rfl rfl)
theorem dX1_person_9 : decode cX1_person 9 = .ok (.ifCond .ne 9, 3) := dk_154 0 9 (dk_at dksX1_person_0 9 rfl rfl)
theorem dX1_person_12 : decode cX1_person 12 = .ok (.aload_n 0, 1) := dk_42 (dk_at dksX1_person_0 12 rfl rfl)
theorem dX1_person_13 : decode cX1_person 13 = .ok (.iconst 1, 1) := dk_4 (dk_at dksX1_person_0 13 rfl rfl)
theorem dX1_person_14 : decode cX1_person 14 = .ok (.invokevirtual 97, 3) := dk_182 0 97 (dk_at dksX1_person_0 14 rfl rfl)
theorem dX1_person_17 : decode cX1_person 17 = .ok (.ireturn, 1) := dk_172 (dk_at dksX1_person_0 17 rfl rfl)
theorem dX1_person_18 : decode cX1_person 18 = .ok (.aload_n 0, 1) := dk_42 (dk_at dksX1_person_0 18 rfl rfl)
theorem dX1_person_19 : decode cX1_person 19 = .ok (.getfield 108, 3) := dk_180 0 108 (dk_at dksX1_person_0 19 rfl rfl)
theorem dX1_person_22 : decode cX1_person 22 = .ok (.getfield 176, 3) := dk_180 0 176 (dk_at dksX1_person_1 0 rfl rfl)
theorem dX1_person_25 : decode cX1_person 25 = .ok (.iload_n 1, 1) := dk_27 (dk_at dksX1_person_1 3 rfl rfl)
theorem dX1_person_26 : decode cX1_person 26 = .ok (.aaload, 1) := dk_50 (dk_at dksX1_person_1 4 rfl rfl)
theorem dX1_person_27 : decode cX1_person 27 = .ok (.astore_n 3, 1) := dk_78 (dk_at dksX1_person_1 5 rfl rfl)
theorem dX1_person_28 : decode cX1_person 28 = .ok (.iload_n 2, 1) := dk_28 (dk_at dksX1_person_1 6 rfl rfl)
theorem dX1_person_29 : decode cX1_person 29 = .ok (.tableswitch 83 0 6 #[43, 48, 53, 58, 63, 68, 73], 43) := by decide +kernel
theorem dX1_person_72 : decode cX1_person 72 = .ok (.aload_n 3, 1) := dk_45 (dk_at dksX1_person_3 0 rfl rfl)
theorem dX1_person_73 : decode cX1_person 73 = .ok (.invokevirtual 180, 3) := dk_182 0 180 (dk_at dksX1_person_3 1 rfl rfl)
theorem dX1_person_76 : decode cX1_person 76 = .ok (.ireturn, 1) := dk_172 (dk_at dksX1_person_3 4 rfl rfl)
theorem dX1_person_77 : decode cX1_person 77 = .ok (.aload_n 3, 1) := dk_45 (dk_at dksX1_person_3 5 rfl rfl)
theorem dX1_person_78 : decode cX1_person 78 = .ok (.getfield 183, 3) := dk_180 0 183 (dk_at dksX1_person_3 6 rfl rfl)
theorem dX1_person_81 : decode cX1_person 81 = .ok (.ireturn, 1) := dk_172 (dk_at dksX1_person_3 9 rfl rfl)
theorem dX1_person_82 : decode cX1_person 82 = .ok (.aload_n 3, 1) := dk_45 (dk_at dksX1_person_3 10 rfl rfl)
theorem dX1_person_83 : decode cX1_person 83 = .ok (.getfield 186, 3) := dk_180 0 186 (dk_at dksX1_person_3 11 rfl rfl)
theorem dX1_person_86 : decode cX1_person 86 = .ok (.ireturn, 1) := dk_172 (dk_at dksX1_person_3 14 rfl rfl)
theorem dX1_person_87 : decode cX1_person 87 = .ok (.aload_n 3, 1) := dk_45 (dk_at dksX1_person_3 15 rfl rfl)
theorem dX1_person_88 : decode cX1_person 88 = .ok (.getfield 189, 3) := dk_180 0 189 (dk_at dksX1_person_3 16 rfl rfl)
theorem dX1_person_91 : decode cX1_person 91 = .ok (.ireturn, 1) := dk_172 (dk_at dksX1_person_3 19 rfl rfl)
theorem dX1_person_92 : decode cX1_person 92 = .ok (.aload_n 3, 1) := dk_45 (dk_at dksX1_person_3 20 rfl rfl)
theorem dX1_person_93 : decode cX1_person 93 = .ok (.getfield 192, 3) := dk_180 0 192 (dk_at dksX1_person_3 21 rfl rfl)
theorem dX1_person_96 : decode cX1_person 96 = .ok (.ireturn, 1) := dk_172 (dk_at dksX1_person_4 0 rfl rfl)
theorem dX1_person_97 : decode cX1_person 97 = .ok (.aload_n 3, 1) := dk_45 (dk_at dksX1_person_4 1 rfl rfl)
theorem dX1_person_98 : decode cX1_person 98 = .ok (.getfield 195, 3) := dk_180 0 195 (dk_at dksX1_person_4 2 rfl rfl)
theorem dX1_person_101 : decode cX1_person 101 = .ok (.ireturn, 1) := dk_172 (dk_at dksX1_person_4 5 rfl rfl)
theorem dX1_person_102 : decode cX1_person 102 = .ok (.aload_n 0, 1) := dk_42 (dk_at dksX1_person_4 6 rfl rfl)
theorem dX1_person_103 : decode cX1_person 103 = .ok (.getfield 33, 3) := dk_180 0 33 (dk_at dksX1_person_4 7 rfl rfl)
theorem dX1_person_106 : decode cX1_person 106 = .ok (.getfield 198, 3) := dk_180 0 198 (dk_at dksX1_person_4 10 rfl rfl)
theorem dX1_person_109 : decode cX1_person 109 = .ok (.iload_n 1, 1) := dk_27 (dk_at dksX1_person_4 13 rfl rfl)
theorem dX1_person_110 : decode cX1_person 110 = .ok (.iaload, 1) := dk_46 (dk_at dksX1_person_4 14 rfl rfl)
theorem dX1_person_111 : decode cX1_person 111 = .ok (.ireturn, 1) := dk_172 (dk_at dksX1_person_4 15 rfl rfl)
theorem dX1_person_112 : decode cX1_person 112 = .ok (.aload_n 0, 1) := dk_42 (dk_at dksX1_person_4 16 rfl rfl)
theorem dX1_person_113 : decode cX1_person 113 = .ok (.iconst 1, 1) := dk_4 (dk_at dksX1_person_4 17 rfl rfl)
theorem dX1_person_114 : decode cX1_person 114 = .ok (.invokevirtual 97, 3) := dk_182 0 97 (dk_at dksX1_person_4 18 rfl rfl)
theorem dX1_person_117 : decode cX1_person 117 = .ok (.ireturn, 1) := dk_172 (dk_at dksX1_person_4 21 rfl rfl)
abbrev cX1_isPerson : ByteArray := prog_1_method_15_code
def yX1_isPerson : MethodName := ⟨RX1, "isPerson", "(I)Z"⟩
def dkwX1_isPerson_1 : List UInt8 := [4, 167, 0, 4, 3, 172]
abbrev dktX1_isPerson_1 : List UInt8 := dkwX1_isPerson_1 ++ []
def dkwX1_isPerson_0 : List UInt8 := [42, 180, 0, 108, 198, 0, 24, 27, 3, 42, 180, 0, 108, 180, 0, 133, 4, 100, 184, 0, 93, 153, 0, 7]
abbrev dktX1_isPerson_0 : List UInt8 := dkwX1_isPerson_0 ++ dktX1_isPerson_1
theorem dksX1_isPerson_0 : cX1_isPerson.data.toList.drop 0 = dktX1_isPerson_0 := by decide +kernel
theorem dksX1_isPerson_1 : cX1_isPerson.data.toList.drop 24 = dktX1_isPerson_1 := dk_seg dksX1_isPerson_0 24 rfl rfl
theorem dX1_isPerson_0 : decode cX1_isPerson 0 = .ok (.aload_n 0, 1) := dk_42 (dk_at dksX1_isPerson_0 0 rfl rfl)
theorem dX1_isPerson_1 : decode cX1_isPerson 1 = .ok (.getfield 108, 3) := dk_180 0 108 (dk_at dksX1_isPerson_0 1 rfl rfl)
theorem dX1_isPerson_4 : decode cX1_isPerson 4 = .ok (.ifnull 24, 3) := dk_198 0 24 (dk_at dksX1_isPerson_0 4 rfl rfl)
theorem dX1_isPerson_7 : decode cX1_isPerson 7 = .ok (.iload_n 1, 1) := dk_27 (dk_at dksX1_isPerson_0 7 rfl rfl)
theorem dX1_isPerson_8 : decode cX1_isPerson 8 = .ok (.iconst 0, 1) := dk_3 (dk_at dksX1_isPerson_0 8 rfl rfl)
theorem dX1_isPerson_9 : decode cX1_isPerson 9 = .ok (.aload_n 0, 1) := dk_42 (dk_at dksX1_isPerson_0 9 rfl rfl)
theorem dX1_isPerson_10 : decode cX1_isPerson 10 = .ok (.getfield 108, 3) := dk_180 0 108 (dk_at dksX1_isPerson_0 10 rfl rfl)
theorem dX1_isPerson_13 : decode cX1_isPerson 13 = .ok (.getfield 133, 3) := dk_180 0 133 (dk_at dksX1_isPerson_0 13 rfl rfl)
theorem dX1_isPerson_16 : decode cX1_isPerson 16 = .ok (.iconst 1, 1) := dk_4 (dk_at dksX1_isPerson_0 16 rfl rfl)
theorem dX1_isPerson_17 : decode cX1_isPerson 17 = .ok (.isub, 1) := dk_100 (dk_at dksX1_isPerson_0 17 rfl rfl)
theorem dX1_isPerson_18 : decode cX1_isPerson 18 = .ok (.invokestatic 93, 3) := dk_184 0 93 (dk_at dksX1_isPerson_0 18 rfl rfl)
theorem dX1_isPerson_21 : decode cX1_isPerson 21 = .ok (.ifCond .eq 7, 3) := dk_153 0 7 (dk_at dksX1_isPerson_0 21 rfl rfl)
theorem dX1_isPerson_24 : decode cX1_isPerson 24 = .ok (.iconst 1, 1) := dk_4 (dk_at dksX1_isPerson_1 0 rfl rfl)
theorem dX1_isPerson_25 : decode cX1_isPerson 25 = .ok (.goto 4, 3) := dk_167 0 4 (dk_at dksX1_isPerson_1 1 rfl rfl)
theorem dX1_isPerson_28 : decode cX1_isPerson 28 = .ok (.iconst 0, 1) := dk_3 (dk_at dksX1_isPerson_1 4 rfl rfl)
theorem dX1_isPerson_29 : decode cX1_isPerson 29 = .ok (.ireturn, 1) := dk_172 (dk_at dksX1_isPerson_1 5 rfl rfl)
abbrev cX1_strength : ByteArray := prog_1_method_23_code
def yX1_strength : MethodName := ⟨RX1, "strength", "(IIII)I"⟩
def dkwX1_strength_2 : List UInt8 := [182, 0, 212, 172]
abbrev dktX1_strength_2 : List UInt8 := dkwX1_strength_2 ++ []
def dkwX1_strength_1 : List UInt8 := [4, 182, 0, 97, 172, 42, 27, 182, 0, 209, 28, 29, 42, 180, 0, 108, 180, 0, 176, 21, 4, 50]
abbrev dktX1_strength_1 : List UInt8 := dkwX1_strength_1 ++ dktX1_strength_2
def dkwX1_strength_0 : List UInt8 := [42, 182, 0, 83, 42, 27, 28, 29, 182, 0, 169, 153, 0, 12, 42, 21, 4, 182, 0, 136, 154, 0, 9, 42]
abbrev dktX1_strength_0 : List UInt8 := dkwX1_strength_0 ++ dktX1_strength_1
theorem dksX1_strength_0 : cX1_strength.data.toList.drop 0 = dktX1_strength_0 := by decide +kernel
theorem dksX1_strength_1 : cX1_strength.data.toList.drop 24 = dktX1_strength_1 := dk_seg dksX1_strength_0 24 rfl rfl
theorem dksX1_strength_2 : cX1_strength.data.toList.drop 46 = dktX1_strength_2 := dk_seg dksX1_strength_1 22 rfl rfl
theorem dX1_strength_0 : decode cX1_strength 0 = .ok (.aload_n 0, 1) := dk_42 (dk_at dksX1_strength_0 0 rfl rfl)
theorem dX1_strength_1 : decode cX1_strength 1 = .ok (.invokevirtual 83, 3) := dk_182 0 83 (dk_at dksX1_strength_0 1 rfl rfl)
theorem dX1_strength_4 : decode cX1_strength 4 = .ok (.aload_n 0, 1) := dk_42 (dk_at dksX1_strength_0 4 rfl rfl)
theorem dX1_strength_5 : decode cX1_strength 5 = .ok (.iload_n 1, 1) := dk_27 (dk_at dksX1_strength_0 5 rfl rfl)
theorem dX1_strength_6 : decode cX1_strength 6 = .ok (.iload_n 2, 1) := dk_28 (dk_at dksX1_strength_0 6 rfl rfl)
theorem dX1_strength_7 : decode cX1_strength 7 = .ok (.iload_n 3, 1) := dk_29 (dk_at dksX1_strength_0 7 rfl rfl)
theorem dX1_strength_8 : decode cX1_strength 8 = .ok (.invokevirtual 169, 3) := dk_182 0 169 (dk_at dksX1_strength_0 8 rfl rfl)
theorem dX1_strength_11 : decode cX1_strength 11 = .ok (.ifCond .eq 12, 3) := dk_153 0 12 (dk_at dksX1_strength_0 11 rfl rfl)
theorem dX1_strength_14 : decode cX1_strength 14 = .ok (.aload_n 0, 1) := dk_42 (dk_at dksX1_strength_0 14 rfl rfl)
theorem dX1_strength_15 : decode cX1_strength 15 = .ok (.iload 4, 2) := dk_21 4 (dk_at dksX1_strength_0 15 rfl rfl)
theorem dX1_strength_17 : decode cX1_strength 17 = .ok (.invokevirtual 136, 3) := dk_182 0 136 (dk_at dksX1_strength_0 17 rfl rfl)
theorem dX1_strength_20 : decode cX1_strength 20 = .ok (.ifCond .ne 9, 3) := dk_154 0 9 (dk_at dksX1_strength_0 20 rfl rfl)
theorem dX1_strength_23 : decode cX1_strength 23 = .ok (.aload_n 0, 1) := dk_42 (dk_at dksX1_strength_0 23 rfl rfl)
theorem dX1_strength_24 : decode cX1_strength 24 = .ok (.iconst 1, 1) := dk_4 (dk_at dksX1_strength_1 0 rfl rfl)
theorem dX1_strength_25 : decode cX1_strength 25 = .ok (.invokevirtual 97, 3) := dk_182 0 97 (dk_at dksX1_strength_1 1 rfl rfl)
theorem dX1_strength_28 : decode cX1_strength 28 = .ok (.ireturn, 1) := dk_172 (dk_at dksX1_strength_1 4 rfl rfl)
theorem dX1_strength_29 : decode cX1_strength 29 = .ok (.aload_n 0, 1) := dk_42 (dk_at dksX1_strength_1 5 rfl rfl)
theorem dX1_strength_30 : decode cX1_strength 30 = .ok (.iload_n 1, 1) := dk_27 (dk_at dksX1_strength_1 6 rfl rfl)
theorem dX1_strength_31 : decode cX1_strength 31 = .ok (.invokevirtual 209, 3) := dk_182 0 209 (dk_at dksX1_strength_1 7 rfl rfl)
theorem dX1_strength_34 : decode cX1_strength 34 = .ok (.iload_n 2, 1) := dk_28 (dk_at dksX1_strength_1 10 rfl rfl)
theorem dX1_strength_35 : decode cX1_strength 35 = .ok (.iload_n 3, 1) := dk_29 (dk_at dksX1_strength_1 11 rfl rfl)
theorem dX1_strength_36 : decode cX1_strength 36 = .ok (.aload_n 0, 1) := dk_42 (dk_at dksX1_strength_1 12 rfl rfl)
theorem dX1_strength_37 : decode cX1_strength 37 = .ok (.getfield 108, 3) := dk_180 0 108 (dk_at dksX1_strength_1 13 rfl rfl)
theorem dX1_strength_40 : decode cX1_strength 40 = .ok (.getfield 176, 3) := dk_180 0 176 (dk_at dksX1_strength_1 16 rfl rfl)
theorem dX1_strength_43 : decode cX1_strength 43 = .ok (.iload 4, 2) := dk_21 4 (dk_at dksX1_strength_1 19 rfl rfl)
theorem dX1_strength_45 : decode cX1_strength 45 = .ok (.aaload, 1) := dk_50 (dk_at dksX1_strength_1 21 rfl rfl)
theorem dX1_strength_46 : decode cX1_strength 46 = .ok (.invokevirtual 212, 3) := dk_182 0 212 (dk_at dksX1_strength_2 0 rfl rfl)
theorem dX1_strength_49 : decode cX1_strength 49 = .ok (.ireturn, 1) := dk_172 (dk_at dksX1_strength_2 3 rfl rfl)
abbrev cX1_lay : ByteArray := prog_1_method_21_code
def yX1_lay : MethodName := ⟨RX1, "lay", "(I)LLongerHalf$Pull;"⟩
def dkwX1_lay_0 : List UInt8 := [42, 27, 42, 180, 0, 33, 180, 0, 163, 27, 46, 182, 0, 201, 176]
abbrev dktX1_lay_0 : List UInt8 := dkwX1_lay_0 ++ []
theorem dksX1_lay_0 : cX1_lay.data.toList.drop 0 = dktX1_lay_0 := by decide +kernel
theorem dX1_lay_0 : decode cX1_lay 0 = .ok (.aload_n 0, 1) := dk_42 (dk_at dksX1_lay_0 0 rfl rfl)
theorem dX1_lay_1 : decode cX1_lay 1 = .ok (.iload_n 1, 1) := dk_27 (dk_at dksX1_lay_0 1 rfl rfl)
theorem dX1_lay_2 : decode cX1_lay 2 = .ok (.aload_n 0, 1) := dk_42 (dk_at dksX1_lay_0 2 rfl rfl)
theorem dX1_lay_3 : decode cX1_lay 3 = .ok (.getfield 33, 3) := dk_180 0 33 (dk_at dksX1_lay_0 3 rfl rfl)
theorem dX1_lay_6 : decode cX1_lay 6 = .ok (.getfield 163, 3) := dk_180 0 163 (dk_at dksX1_lay_0 6 rfl rfl)
theorem dX1_lay_9 : decode cX1_lay 9 = .ok (.iload_n 1, 1) := dk_27 (dk_at dksX1_lay_0 9 rfl rfl)
theorem dX1_lay_10 : decode cX1_lay 10 = .ok (.iaload, 1) := dk_46 (dk_at dksX1_lay_0 10 rfl rfl)
theorem dX1_lay_11 : decode cX1_lay 11 = .ok (.invokevirtual 201, 3) := dk_182 0 201 (dk_at dksX1_lay_0 11 rfl rfl)
theorem dX1_lay_14 : decode cX1_lay 14 = .ok (.areturn, 1) := dk_176 (dk_at dksX1_lay_0 14 rfl rfl)
abbrev cX1_layDried : ByteArray := prog_1_method_22_code
def yX1_layDried : MethodName := ⟨RX1, "layDried", "(II)LLongerHalf$Pull;"⟩
def dkwX1_layDried_1 : List UInt8 := [180, 0, 152, 27, 184, 0, 155, 182, 0, 205, 42, 180, 0, 46, 176]
abbrev dktX1_layDried_1 : List UInt8 := dkwX1_layDried_1 ++ []
def dkwX1_layDried_0 : List UInt8 := [42, 180, 0, 46, 42, 180, 0, 108, 42, 180, 0, 108, 180, 0, 143, 27, 50, 28, 42, 180, 0, 33]
abbrev dktX1_layDried_0 : List UInt8 := dkwX1_layDried_0 ++ dktX1_layDried_1
theorem dksX1_layDried_0 : cX1_layDried.data.toList.drop 0 = dktX1_layDried_0 := by decide +kernel
theorem dksX1_layDried_1 : cX1_layDried.data.toList.drop 22 = dktX1_layDried_1 := dk_seg dksX1_layDried_0 22 rfl rfl
theorem dX1_layDried_0 : decode cX1_layDried 0 = .ok (.aload_n 0, 1) := dk_42 (dk_at dksX1_layDried_0 0 rfl rfl)
theorem dX1_layDried_1 : decode cX1_layDried 1 = .ok (.getfield 46, 3) := dk_180 0 46 (dk_at dksX1_layDried_0 1 rfl rfl)
theorem dX1_layDried_4 : decode cX1_layDried 4 = .ok (.aload_n 0, 1) := dk_42 (dk_at dksX1_layDried_0 4 rfl rfl)
theorem dX1_layDried_5 : decode cX1_layDried 5 = .ok (.getfield 108, 3) := dk_180 0 108 (dk_at dksX1_layDried_0 5 rfl rfl)
theorem dX1_layDried_8 : decode cX1_layDried 8 = .ok (.aload_n 0, 1) := dk_42 (dk_at dksX1_layDried_0 8 rfl rfl)
theorem dX1_layDried_9 : decode cX1_layDried 9 = .ok (.getfield 108, 3) := dk_180 0 108 (dk_at dksX1_layDried_0 9 rfl rfl)
theorem dX1_layDried_12 : decode cX1_layDried 12 = .ok (.getfield 143, 3) := dk_180 0 143 (dk_at dksX1_layDried_0 12 rfl rfl)
theorem dX1_layDried_15 : decode cX1_layDried 15 = .ok (.iload_n 1, 1) := dk_27 (dk_at dksX1_layDried_0 15 rfl rfl)
theorem dX1_layDried_16 : decode cX1_layDried 16 = .ok (.aaload, 1) := dk_50 (dk_at dksX1_layDried_0 16 rfl rfl)
theorem dX1_layDried_17 : decode cX1_layDried 17 = .ok (.iload_n 2, 1) := dk_28 (dk_at dksX1_layDried_0 17 rfl rfl)
theorem dX1_layDried_18 : decode cX1_layDried 18 = .ok (.aload_n 0, 1) := dk_42 (dk_at dksX1_layDried_0 18 rfl rfl)
theorem dX1_layDried_19 : decode cX1_layDried 19 = .ok (.getfield 33, 3) := dk_180 0 33 (dk_at dksX1_layDried_0 19 rfl rfl)
theorem dX1_layDried_22 : decode cX1_layDried 22 = .ok (.getfield 152, 3) := dk_180 0 152 (dk_at dksX1_layDried_1 0 rfl rfl)
theorem dX1_layDried_25 : decode cX1_layDried 25 = .ok (.iload_n 1, 1) := dk_27 (dk_at dksX1_layDried_1 3 rfl rfl)
theorem dX1_layDried_26 : decode cX1_layDried 26 = .ok (.invokestatic 155, 3) := dk_184 0 155 (dk_at dksX1_layDried_1 4 rfl rfl)
theorem dX1_layDried_29 : decode cX1_layDried 29 = .ok (.invokevirtual 205, 3) := dk_182 0 205 (dk_at dksX1_layDried_1 7 rfl rfl)
theorem dX1_layDried_32 : decode cX1_layDried 32 = .ok (.aload_n 0, 1) := dk_42 (dk_at dksX1_layDried_1 10 rfl rfl)
theorem dX1_layDried_33 : decode cX1_layDried 33 = .ok (.getfield 46, 3) := dk_180 0 46 (dk_at dksX1_layDried_1 11 rfl rfl)
theorem dX1_layDried_36 : decode cX1_layDried 36 = .ok (.areturn, 1) := dk_176 (dk_at dksX1_layDried_1 14 rfl rfl)
abbrev cX1_strain : ByteArray := prog_1_method_27_code
def yX1_strain : MethodName := ⟨RX1, "strain", "(IIIIIIII)I"⟩
def dkwX1_strain_2 : List UInt8 := [167, 0, 23, 42, 27, 21, 4, 21, 5, 21, 6, 21, 7, 21, 8, 182, 0, 230, 28, 29, 182, 0, 234, 172]
abbrev dktX1_strain_2 : List UInt8 := dkwX1_strain_2 ++ []
def dkwX1_strain_1 : List UInt8 := [21, 5, 21, 6, 21, 7, 21, 8, 182, 0, 226, 54, 9, 21, 9, 153, 0, 12, 42, 21, 9, 182, 0, 97]
abbrev dktX1_strain_1 : List UInt8 := dkwX1_strain_1 ++ dktX1_strain_2
def dkwX1_strain_0 : List UInt8 := [42, 182, 0, 83, 42, 27, 28, 29, 182, 0, 169, 154, 0, 9, 42, 4, 182, 0, 97, 172, 42, 27, 21, 4]
abbrev dktX1_strain_0 : List UInt8 := dkwX1_strain_0 ++ dktX1_strain_1
theorem dksX1_strain_0 : cX1_strain.data.toList.drop 0 = dktX1_strain_0 := by decide +kernel
theorem dksX1_strain_1 : cX1_strain.data.toList.drop 24 = dktX1_strain_1 := dk_seg dksX1_strain_0 24 rfl rfl
theorem dksX1_strain_2 : cX1_strain.data.toList.drop 48 = dktX1_strain_2 := dk_seg dksX1_strain_1 24 rfl rfl
theorem dX1_strain_0 : decode cX1_strain 0 = .ok (.aload_n 0, 1) := dk_42 (dk_at dksX1_strain_0 0 rfl rfl)
theorem dX1_strain_1 : decode cX1_strain 1 = .ok (.invokevirtual 83, 3) := dk_182 0 83 (dk_at dksX1_strain_0 1 rfl rfl)
theorem dX1_strain_4 : decode cX1_strain 4 = .ok (.aload_n 0, 1) := dk_42 (dk_at dksX1_strain_0 4 rfl rfl)
theorem dX1_strain_5 : decode cX1_strain 5 = .ok (.iload_n 1, 1) := dk_27 (dk_at dksX1_strain_0 5 rfl rfl)
theorem dX1_strain_6 : decode cX1_strain 6 = .ok (.iload_n 2, 1) := dk_28 (dk_at dksX1_strain_0 6 rfl rfl)
theorem dX1_strain_7 : decode cX1_strain 7 = .ok (.iload_n 3, 1) := dk_29 (dk_at dksX1_strain_0 7 rfl rfl)
theorem dX1_strain_8 : decode cX1_strain 8 = .ok (.invokevirtual 169, 3) := dk_182 0 169 (dk_at dksX1_strain_0 8 rfl rfl)
theorem dX1_strain_11 : decode cX1_strain 11 = .ok (.ifCond .ne 9, 3) := dk_154 0 9 (dk_at dksX1_strain_0 11 rfl rfl)
theorem dX1_strain_14 : decode cX1_strain 14 = .ok (.aload_n 0, 1) := dk_42 (dk_at dksX1_strain_0 14 rfl rfl)
theorem dX1_strain_15 : decode cX1_strain 15 = .ok (.iconst 1, 1) := dk_4 (dk_at dksX1_strain_0 15 rfl rfl)
theorem dX1_strain_16 : decode cX1_strain 16 = .ok (.invokevirtual 97, 3) := dk_182 0 97 (dk_at dksX1_strain_0 16 rfl rfl)
theorem dX1_strain_19 : decode cX1_strain 19 = .ok (.ireturn, 1) := dk_172 (dk_at dksX1_strain_0 19 rfl rfl)
theorem dX1_strain_20 : decode cX1_strain 20 = .ok (.aload_n 0, 1) := dk_42 (dk_at dksX1_strain_0 20 rfl rfl)
theorem dX1_strain_21 : decode cX1_strain 21 = .ok (.iload_n 1, 1) := dk_27 (dk_at dksX1_strain_0 21 rfl rfl)
theorem dX1_strain_22 : decode cX1_strain 22 = .ok (.iload 4, 2) := dk_21 4 (dk_at dksX1_strain_0 22 rfl rfl)
theorem dX1_strain_24 : decode cX1_strain 24 = .ok (.iload 5, 2) := dk_21 5 (dk_at dksX1_strain_1 0 rfl rfl)
theorem dX1_strain_26 : decode cX1_strain 26 = .ok (.iload 6, 2) := dk_21 6 (dk_at dksX1_strain_1 2 rfl rfl)
theorem dX1_strain_28 : decode cX1_strain 28 = .ok (.iload 7, 2) := dk_21 7 (dk_at dksX1_strain_1 4 rfl rfl)
theorem dX1_strain_30 : decode cX1_strain 30 = .ok (.iload 8, 2) := dk_21 8 (dk_at dksX1_strain_1 6 rfl rfl)
theorem dX1_strain_32 : decode cX1_strain 32 = .ok (.invokevirtual 226, 3) := dk_182 0 226 (dk_at dksX1_strain_1 8 rfl rfl)
theorem dX1_strain_35 : decode cX1_strain 35 = .ok (.istore 9, 2) := dk_54 9 (dk_at dksX1_strain_1 11 rfl rfl)
theorem dX1_strain_37 : decode cX1_strain 37 = .ok (.iload 9, 2) := dk_21 9 (dk_at dksX1_strain_1 13 rfl rfl)
theorem dX1_strain_39 : decode cX1_strain 39 = .ok (.ifCond .eq 12, 3) := dk_153 0 12 (dk_at dksX1_strain_1 15 rfl rfl)
theorem dX1_strain_42 : decode cX1_strain 42 = .ok (.aload_n 0, 1) := dk_42 (dk_at dksX1_strain_1 18 rfl rfl)
theorem dX1_strain_43 : decode cX1_strain 43 = .ok (.iload 9, 2) := dk_21 9 (dk_at dksX1_strain_1 19 rfl rfl)
theorem dX1_strain_45 : decode cX1_strain 45 = .ok (.invokevirtual 97, 3) := dk_182 0 97 (dk_at dksX1_strain_1 21 rfl rfl)
theorem dX1_strain_48 : decode cX1_strain 48 = .ok (.goto 23, 3) := dk_167 0 23 (dk_at dksX1_strain_2 0 rfl rfl)
theorem dX1_strain_51 : decode cX1_strain 51 = .ok (.aload_n 0, 1) := dk_42 (dk_at dksX1_strain_2 3 rfl rfl)
theorem dX1_strain_52 : decode cX1_strain 52 = .ok (.iload_n 1, 1) := dk_27 (dk_at dksX1_strain_2 4 rfl rfl)
theorem dX1_strain_53 : decode cX1_strain 53 = .ok (.iload 4, 2) := dk_21 4 (dk_at dksX1_strain_2 5 rfl rfl)
theorem dX1_strain_55 : decode cX1_strain 55 = .ok (.iload 5, 2) := dk_21 5 (dk_at dksX1_strain_2 7 rfl rfl)
theorem dX1_strain_57 : decode cX1_strain 57 = .ok (.iload 6, 2) := dk_21 6 (dk_at dksX1_strain_2 9 rfl rfl)
theorem dX1_strain_59 : decode cX1_strain 59 = .ok (.iload 7, 2) := dk_21 7 (dk_at dksX1_strain_2 11 rfl rfl)
theorem dX1_strain_61 : decode cX1_strain 61 = .ok (.iload 8, 2) := dk_21 8 (dk_at dksX1_strain_2 13 rfl rfl)
theorem dX1_strain_63 : decode cX1_strain 63 = .ok (.invokevirtual 230, 3) := dk_182 0 230 (dk_at dksX1_strain_2 15 rfl rfl)
theorem dX1_strain_66 : decode cX1_strain 66 = .ok (.iload_n 2, 1) := dk_28 (dk_at dksX1_strain_2 18 rfl rfl)
theorem dX1_strain_67 : decode cX1_strain 67 = .ok (.iload_n 3, 1) := dk_29 (dk_at dksX1_strain_2 19 rfl rfl)
theorem dX1_strain_68 : decode cX1_strain 68 = .ok (.invokevirtual 234, 3) := dk_182 0 234 (dk_at dksX1_strain_2 20 rfl rfl)
theorem dX1_strain_71 : decode cX1_strain 71 = .ok (.ireturn, 1) := dk_172 (dk_at dksX1_strain_2 23 rfl rfl)
abbrev cX1_pullWhy : ByteArray := prog_1_method_25_code
def yX1_pullWhy : MethodName := ⟨RX1, "pullWhy", "(IIIIII)I"⟩
def dkwX1_pullWhy_1 : List UInt8 := [29, 21, 5, 21, 6, 182, 0, 219, 172]
abbrev dktX1_pullWhy_1 : List UInt8 := dkwX1_pullWhy_1 ++ []
def dkwX1_pullWhy_0 : List UInt8 := [42, 27, 182, 0, 140, 153, 0, 13, 42, 28, 21, 4, 182, 0, 216, 154, 0, 7, 4, 167, 0, 13, 42, 27]
abbrev dktX1_pullWhy_0 : List UInt8 := dkwX1_pullWhy_0 ++ dktX1_pullWhy_1
theorem dksX1_pullWhy_0 : cX1_pullWhy.data.toList.drop 0 = dktX1_pullWhy_0 := by decide +kernel
theorem dksX1_pullWhy_1 : cX1_pullWhy.data.toList.drop 24 = dktX1_pullWhy_1 := dk_seg dksX1_pullWhy_0 24 rfl rfl
theorem dX1_pullWhy_0 : decode cX1_pullWhy 0 = .ok (.aload_n 0, 1) := dk_42 (dk_at dksX1_pullWhy_0 0 rfl rfl)
theorem dX1_pullWhy_1 : decode cX1_pullWhy 1 = .ok (.iload_n 1, 1) := dk_27 (dk_at dksX1_pullWhy_0 1 rfl rfl)
theorem dX1_pullWhy_2 : decode cX1_pullWhy 2 = .ok (.invokevirtual 140, 3) := dk_182 0 140 (dk_at dksX1_pullWhy_0 2 rfl rfl)
theorem dX1_pullWhy_5 : decode cX1_pullWhy 5 = .ok (.ifCond .eq 13, 3) := dk_153 0 13 (dk_at dksX1_pullWhy_0 5 rfl rfl)
theorem dX1_pullWhy_8 : decode cX1_pullWhy 8 = .ok (.aload_n 0, 1) := dk_42 (dk_at dksX1_pullWhy_0 8 rfl rfl)
theorem dX1_pullWhy_9 : decode cX1_pullWhy 9 = .ok (.iload_n 2, 1) := dk_28 (dk_at dksX1_pullWhy_0 9 rfl rfl)
theorem dX1_pullWhy_10 : decode cX1_pullWhy 10 = .ok (.iload 4, 2) := dk_21 4 (dk_at dksX1_pullWhy_0 10 rfl rfl)
theorem dX1_pullWhy_12 : decode cX1_pullWhy 12 = .ok (.invokevirtual 216, 3) := dk_182 0 216 (dk_at dksX1_pullWhy_0 12 rfl rfl)
theorem dX1_pullWhy_15 : decode cX1_pullWhy 15 = .ok (.ifCond .ne 7, 3) := dk_154 0 7 (dk_at dksX1_pullWhy_0 15 rfl rfl)
theorem dX1_pullWhy_18 : decode cX1_pullWhy 18 = .ok (.iconst 1, 1) := dk_4 (dk_at dksX1_pullWhy_0 18 rfl rfl)
theorem dX1_pullWhy_19 : decode cX1_pullWhy 19 = .ok (.goto 13, 3) := dk_167 0 13 (dk_at dksX1_pullWhy_0 19 rfl rfl)
theorem dX1_pullWhy_22 : decode cX1_pullWhy 22 = .ok (.aload_n 0, 1) := dk_42 (dk_at dksX1_pullWhy_0 22 rfl rfl)
theorem dX1_pullWhy_23 : decode cX1_pullWhy 23 = .ok (.iload_n 1, 1) := dk_27 (dk_at dksX1_pullWhy_0 23 rfl rfl)
theorem dX1_pullWhy_24 : decode cX1_pullWhy 24 = .ok (.iload_n 3, 1) := dk_29 (dk_at dksX1_pullWhy_1 0 rfl rfl)
theorem dX1_pullWhy_25 : decode cX1_pullWhy 25 = .ok (.iload 5, 2) := dk_21 5 (dk_at dksX1_pullWhy_1 1 rfl rfl)
theorem dX1_pullWhy_27 : decode cX1_pullWhy 27 = .ok (.iload 6, 2) := dk_21 6 (dk_at dksX1_pullWhy_1 3 rfl rfl)
theorem dX1_pullWhy_29 : decode cX1_pullWhy 29 = .ok (.invokevirtual 219, 3) := dk_182 0 219 (dk_at dksX1_pullWhy_1 5 rfl rfl)
theorem dX1_pullWhy_32 : decode cX1_pullWhy 32 = .ok (.ireturn, 1) := dk_172 (dk_at dksX1_pullWhy_1 8 rfl rfl)
abbrev cX1_isPair : ByteArray := prog_1_method_16_code
def yX1_isPair : MethodName := ⟨RX1, "isPair", "(II)Z"⟩
def dkwX1_isPair_1 : List UInt8 := [167, 0, 4, 3, 172]
abbrev dktX1_isPair_1 : List UInt8 := dkwX1_isPair_1 ++ []
def dkwX1_isPair_0 : List UInt8 := [42, 27, 182, 0, 136, 153, 0, 20, 42, 28, 182, 0, 136, 153, 0, 12, 27, 28, 159, 0, 7, 4]
abbrev dktX1_isPair_0 : List UInt8 := dkwX1_isPair_0 ++ dktX1_isPair_1
theorem dksX1_isPair_0 : cX1_isPair.data.toList.drop 0 = dktX1_isPair_0 := by decide +kernel
theorem dksX1_isPair_1 : cX1_isPair.data.toList.drop 22 = dktX1_isPair_1 := dk_seg dksX1_isPair_0 22 rfl rfl
theorem dX1_isPair_0 : decode cX1_isPair 0 = .ok (.aload_n 0, 1) := dk_42 (dk_at dksX1_isPair_0 0 rfl rfl)
theorem dX1_isPair_1 : decode cX1_isPair 1 = .ok (.iload_n 1, 1) := dk_27 (dk_at dksX1_isPair_0 1 rfl rfl)
theorem dX1_isPair_2 : decode cX1_isPair 2 = .ok (.invokevirtual 136, 3) := dk_182 0 136 (dk_at dksX1_isPair_0 2 rfl rfl)
theorem dX1_isPair_5 : decode cX1_isPair 5 = .ok (.ifCond .eq 20, 3) := dk_153 0 20 (dk_at dksX1_isPair_0 5 rfl rfl)
theorem dX1_isPair_8 : decode cX1_isPair 8 = .ok (.aload_n 0, 1) := dk_42 (dk_at dksX1_isPair_0 8 rfl rfl)
theorem dX1_isPair_9 : decode cX1_isPair 9 = .ok (.iload_n 2, 1) := dk_28 (dk_at dksX1_isPair_0 9 rfl rfl)
theorem dX1_isPair_10 : decode cX1_isPair 10 = .ok (.invokevirtual 136, 3) := dk_182 0 136 (dk_at dksX1_isPair_0 10 rfl rfl)
theorem dX1_isPair_13 : decode cX1_isPair 13 = .ok (.ifCond .eq 12, 3) := dk_153 0 12 (dk_at dksX1_isPair_0 13 rfl rfl)
theorem dX1_isPair_16 : decode cX1_isPair 16 = .ok (.iload_n 1, 1) := dk_27 (dk_at dksX1_isPair_0 16 rfl rfl)
theorem dX1_isPair_17 : decode cX1_isPair 17 = .ok (.iload_n 2, 1) := dk_28 (dk_at dksX1_isPair_0 17 rfl rfl)
theorem dX1_isPair_18 : decode cX1_isPair 18 = .ok (.if_icmp .eq 7, 3) := dk_159 0 7 (dk_at dksX1_isPair_0 18 rfl rfl)
theorem dX1_isPair_21 : decode cX1_isPair 21 = .ok (.iconst 1, 1) := dk_4 (dk_at dksX1_isPair_0 21 rfl rfl)
theorem dX1_isPair_22 : decode cX1_isPair 22 = .ok (.goto 4, 3) := dk_167 0 4 (dk_at dksX1_isPair_1 0 rfl rfl)
theorem dX1_isPair_25 : decode cX1_isPair 25 = .ok (.iconst 0, 1) := dk_3 (dk_at dksX1_isPair_1 3 rfl rfl)
theorem dX1_isPair_26 : decode cX1_isPair 26 = .ok (.ireturn, 1) := dk_172 (dk_at dksX1_isPair_1 4 rfl rfl)
abbrev cX1_holdWhy : ByteArray := prog_1_method_24_code
def yX1_holdWhy : MethodName := ⟨RX1, "holdWhy", "(IIII)I"⟩
def dkwX1_holdWhy_2 : List UInt8 := [184, 0, 93, 153, 0, 7, 3, 167, 0, 4, 5, 172]
abbrev dktX1_holdWhy_2 : List UInt8 := dkwX1_holdWhy_2 ++ []
def dkwX1_holdWhy_1 : List UInt8 := [180, 0, 108, 180, 0, 143, 27, 50, 4, 182, 0, 147, 184, 0, 93, 153, 0, 17, 21, 4, 3, 6]
abbrev dktX1_holdWhy_1 : List UInt8 := dkwX1_holdWhy_1 ++ dktX1_holdWhy_2
def dkwX1_holdWhy_0 : List UInt8 := [28, 4, 42, 180, 0, 108, 180, 0, 143, 27, 50, 3, 182, 0, 147, 184, 0, 93, 153, 0, 38, 29, 4, 42]
abbrev dktX1_holdWhy_0 : List UInt8 := dkwX1_holdWhy_0 ++ dktX1_holdWhy_1
theorem dksX1_holdWhy_0 : cX1_holdWhy.data.toList.drop 0 = dktX1_holdWhy_0 := by decide +kernel
theorem dksX1_holdWhy_1 : cX1_holdWhy.data.toList.drop 24 = dktX1_holdWhy_1 := dk_seg dksX1_holdWhy_0 24 rfl rfl
theorem dksX1_holdWhy_2 : cX1_holdWhy.data.toList.drop 46 = dktX1_holdWhy_2 := dk_seg dksX1_holdWhy_1 22 rfl rfl
theorem dX1_holdWhy_0 : decode cX1_holdWhy 0 = .ok (.iload_n 2, 1) := dk_28 (dk_at dksX1_holdWhy_0 0 rfl rfl)
theorem dX1_holdWhy_1 : decode cX1_holdWhy 1 = .ok (.iconst 1, 1) := dk_4 (dk_at dksX1_holdWhy_0 1 rfl rfl)
theorem dX1_holdWhy_2 : decode cX1_holdWhy 2 = .ok (.aload_n 0, 1) := dk_42 (dk_at dksX1_holdWhy_0 2 rfl rfl)
theorem dX1_holdWhy_3 : decode cX1_holdWhy 3 = .ok (.getfield 108, 3) := dk_180 0 108 (dk_at dksX1_holdWhy_0 3 rfl rfl)
theorem dX1_holdWhy_6 : decode cX1_holdWhy 6 = .ok (.getfield 143, 3) := dk_180 0 143 (dk_at dksX1_holdWhy_0 6 rfl rfl)
theorem dX1_holdWhy_9 : decode cX1_holdWhy 9 = .ok (.iload_n 1, 1) := dk_27 (dk_at dksX1_holdWhy_0 9 rfl rfl)
theorem dX1_holdWhy_10 : decode cX1_holdWhy 10 = .ok (.aaload, 1) := dk_50 (dk_at dksX1_holdWhy_0 10 rfl rfl)
theorem dX1_holdWhy_11 : decode cX1_holdWhy 11 = .ok (.iconst 0, 1) := dk_3 (dk_at dksX1_holdWhy_0 11 rfl rfl)
theorem dX1_holdWhy_12 : decode cX1_holdWhy 12 = .ok (.invokevirtual 147, 3) := dk_182 0 147 (dk_at dksX1_holdWhy_0 12 rfl rfl)
theorem dX1_holdWhy_15 : decode cX1_holdWhy 15 = .ok (.invokestatic 93, 3) := dk_184 0 93 (dk_at dksX1_holdWhy_0 15 rfl rfl)
theorem dX1_holdWhy_18 : decode cX1_holdWhy 18 = .ok (.ifCond .eq 38, 3) := dk_153 0 38 (dk_at dksX1_holdWhy_0 18 rfl rfl)
theorem dX1_holdWhy_21 : decode cX1_holdWhy 21 = .ok (.iload_n 3, 1) := dk_29 (dk_at dksX1_holdWhy_0 21 rfl rfl)
theorem dX1_holdWhy_22 : decode cX1_holdWhy 22 = .ok (.iconst 1, 1) := dk_4 (dk_at dksX1_holdWhy_0 22 rfl rfl)
theorem dX1_holdWhy_23 : decode cX1_holdWhy 23 = .ok (.aload_n 0, 1) := dk_42 (dk_at dksX1_holdWhy_0 23 rfl rfl)
theorem dX1_holdWhy_24 : decode cX1_holdWhy 24 = .ok (.getfield 108, 3) := dk_180 0 108 (dk_at dksX1_holdWhy_1 0 rfl rfl)
theorem dX1_holdWhy_27 : decode cX1_holdWhy 27 = .ok (.getfield 143, 3) := dk_180 0 143 (dk_at dksX1_holdWhy_1 3 rfl rfl)
theorem dX1_holdWhy_30 : decode cX1_holdWhy 30 = .ok (.iload_n 1, 1) := dk_27 (dk_at dksX1_holdWhy_1 6 rfl rfl)
theorem dX1_holdWhy_31 : decode cX1_holdWhy 31 = .ok (.aaload, 1) := dk_50 (dk_at dksX1_holdWhy_1 7 rfl rfl)
theorem dX1_holdWhy_32 : decode cX1_holdWhy 32 = .ok (.iconst 1, 1) := dk_4 (dk_at dksX1_holdWhy_1 8 rfl rfl)
theorem dX1_holdWhy_33 : decode cX1_holdWhy 33 = .ok (.invokevirtual 147, 3) := dk_182 0 147 (dk_at dksX1_holdWhy_1 9 rfl rfl)
theorem dX1_holdWhy_36 : decode cX1_holdWhy 36 = .ok (.invokestatic 93, 3) := dk_184 0 93 (dk_at dksX1_holdWhy_1 12 rfl rfl)
theorem dX1_holdWhy_39 : decode cX1_holdWhy 39 = .ok (.ifCond .eq 17, 3) := dk_153 0 17 (dk_at dksX1_holdWhy_1 15 rfl rfl)
theorem dX1_holdWhy_42 : decode cX1_holdWhy 42 = .ok (.iload 4, 2) := dk_21 4 (dk_at dksX1_holdWhy_1 18 rfl rfl)
theorem dX1_holdWhy_44 : decode cX1_holdWhy 44 = .ok (.iconst 0, 1) := dk_3 (dk_at dksX1_holdWhy_1 20 rfl rfl)
theorem dX1_holdWhy_45 : decode cX1_holdWhy 45 = .ok (.iconst 3, 1) := dk_6 (dk_at dksX1_holdWhy_1 21 rfl rfl)
theorem dX1_holdWhy_46 : decode cX1_holdWhy 46 = .ok (.invokestatic 93, 3) := dk_184 0 93 (dk_at dksX1_holdWhy_2 0 rfl rfl)
theorem dX1_holdWhy_49 : decode cX1_holdWhy 49 = .ok (.ifCond .eq 7, 3) := dk_153 0 7 (dk_at dksX1_holdWhy_2 3 rfl rfl)
theorem dX1_holdWhy_52 : decode cX1_holdWhy 52 = .ok (.iconst 0, 1) := dk_3 (dk_at dksX1_holdWhy_2 6 rfl rfl)
theorem dX1_holdWhy_53 : decode cX1_holdWhy 53 = .ok (.goto 4, 3) := dk_167 0 4 (dk_at dksX1_holdWhy_2 7 rfl rfl)
theorem dX1_holdWhy_56 : decode cX1_holdWhy 56 = .ok (.iconst 2, 1) := dk_5 (dk_at dksX1_holdWhy_2 10 rfl rfl)
theorem dX1_holdWhy_57 : decode cX1_holdWhy 57 = .ok (.ireturn, 1) := dk_172 (dk_at dksX1_holdWhy_2 11 rfl rfl)
abbrev cX1_layPull : ByteArray := prog_1_method_26_code
def yX1_layPull : MethodName := ⟨RX1, "layPull", "(IIIIII)LLongerHalf$Pull;"⟩
def dkwX1_layPull_1 : List UInt8 := [50, 21, 5, 21, 6, 182, 0, 223, 42, 180, 0, 46, 176]
abbrev dktX1_layPull_1 : List UInt8 := dkwX1_layPull_1 ++ []
def dkwX1_layPull_0 : List UInt8 := [42, 27, 182, 0, 209, 42, 180, 0, 108, 180, 0, 176, 28, 50, 29, 42, 180, 0, 108, 180, 0, 176, 21, 4]
abbrev dktX1_layPull_0 : List UInt8 := dkwX1_layPull_0 ++ dktX1_layPull_1
theorem dksX1_layPull_0 : cX1_layPull.data.toList.drop 0 = dktX1_layPull_0 := by decide +kernel
theorem dksX1_layPull_1 : cX1_layPull.data.toList.drop 24 = dktX1_layPull_1 := dk_seg dksX1_layPull_0 24 rfl rfl
theorem dX1_layPull_0 : decode cX1_layPull 0 = .ok (.aload_n 0, 1) := dk_42 (dk_at dksX1_layPull_0 0 rfl rfl)
theorem dX1_layPull_1 : decode cX1_layPull 1 = .ok (.iload_n 1, 1) := dk_27 (dk_at dksX1_layPull_0 1 rfl rfl)
theorem dX1_layPull_2 : decode cX1_layPull 2 = .ok (.invokevirtual 209, 3) := dk_182 0 209 (dk_at dksX1_layPull_0 2 rfl rfl)
theorem dX1_layPull_5 : decode cX1_layPull 5 = .ok (.aload_n 0, 1) := dk_42 (dk_at dksX1_layPull_0 5 rfl rfl)
theorem dX1_layPull_6 : decode cX1_layPull 6 = .ok (.getfield 108, 3) := dk_180 0 108 (dk_at dksX1_layPull_0 6 rfl rfl)
theorem dX1_layPull_9 : decode cX1_layPull 9 = .ok (.getfield 176, 3) := dk_180 0 176 (dk_at dksX1_layPull_0 9 rfl rfl)
theorem dX1_layPull_12 : decode cX1_layPull 12 = .ok (.iload_n 2, 1) := dk_28 (dk_at dksX1_layPull_0 12 rfl rfl)
theorem dX1_layPull_13 : decode cX1_layPull 13 = .ok (.aaload, 1) := dk_50 (dk_at dksX1_layPull_0 13 rfl rfl)
theorem dX1_layPull_14 : decode cX1_layPull 14 = .ok (.iload_n 3, 1) := dk_29 (dk_at dksX1_layPull_0 14 rfl rfl)
theorem dX1_layPull_15 : decode cX1_layPull 15 = .ok (.aload_n 0, 1) := dk_42 (dk_at dksX1_layPull_0 15 rfl rfl)
theorem dX1_layPull_16 : decode cX1_layPull 16 = .ok (.getfield 108, 3) := dk_180 0 108 (dk_at dksX1_layPull_0 16 rfl rfl)
theorem dX1_layPull_19 : decode cX1_layPull 19 = .ok (.getfield 176, 3) := dk_180 0 176 (dk_at dksX1_layPull_0 19 rfl rfl)
theorem dX1_layPull_22 : decode cX1_layPull 22 = .ok (.iload 4, 2) := dk_21 4 (dk_at dksX1_layPull_0 22 rfl rfl)
theorem dX1_layPull_24 : decode cX1_layPull 24 = .ok (.aaload, 1) := dk_50 (dk_at dksX1_layPull_1 0 rfl rfl)
theorem dX1_layPull_25 : decode cX1_layPull 25 = .ok (.iload 5, 2) := dk_21 5 (dk_at dksX1_layPull_1 1 rfl rfl)
theorem dX1_layPull_27 : decode cX1_layPull 27 = .ok (.iload 6, 2) := dk_21 6 (dk_at dksX1_layPull_1 3 rfl rfl)
theorem dX1_layPull_29 : decode cX1_layPull 29 = .ok (.invokevirtual 223, 3) := dk_182 0 223 (dk_at dksX1_layPull_1 5 rfl rfl)
theorem dX1_layPull_32 : decode cX1_layPull 32 = .ok (.aload_n 0, 1) := dk_42 (dk_at dksX1_layPull_1 8 rfl rfl)
theorem dX1_layPull_33 : decode cX1_layPull 33 = .ok (.getfield 46, 3) := dk_180 0 46 (dk_at dksX1_layPull_1 9 rfl rfl)
theorem dX1_layPull_36 : decode cX1_layPull 36 = .ok (.areturn, 1) := dk_176 (dk_at dksX1_layPull_1 12 rfl rfl)
abbrev cX1_pulled : ByteArray := prog_1_method_28_code
def yX1_pulled : MethodName := ⟨RX1, "pulled", "(IIIIII)I"⟩
def dkwX1_pulled_2 : List UInt8 := [182, 0, 237, 172]
abbrev dktX1_pulled_2 : List UInt8 := dkwX1_pulled_2 ++ []
def dkwX1_pulled_1 : List UInt8 := [42, 21, 7, 182, 0, 97, 167, 0, 19, 42, 27, 28, 29, 21, 4, 21, 5, 21, 6, 182, 0, 230]
abbrev dktX1_pulled_1 : List UInt8 := dkwX1_pulled_1 ++ dktX1_pulled_2
def dkwX1_pulled_0 : List UInt8 := [42, 182, 0, 83, 42, 27, 28, 29, 21, 4, 21, 5, 21, 6, 182, 0, 226, 54, 7, 21, 7, 153, 0, 12]
abbrev dktX1_pulled_0 : List UInt8 := dkwX1_pulled_0 ++ dktX1_pulled_1
theorem dksX1_pulled_0 : cX1_pulled.data.toList.drop 0 = dktX1_pulled_0 := by decide +kernel
theorem dksX1_pulled_1 : cX1_pulled.data.toList.drop 24 = dktX1_pulled_1 := dk_seg dksX1_pulled_0 24 rfl rfl
theorem dksX1_pulled_2 : cX1_pulled.data.toList.drop 46 = dktX1_pulled_2 := dk_seg dksX1_pulled_1 22 rfl rfl
theorem dX1_pulled_0 : decode cX1_pulled 0 = .ok (.aload_n 0, 1) := dk_42 (dk_at dksX1_pulled_0 0 rfl rfl)
theorem dX1_pulled_1 : decode cX1_pulled 1 = .ok (.invokevirtual 83, 3) := dk_182 0 83 (dk_at dksX1_pulled_0 1 rfl rfl)
theorem dX1_pulled_4 : decode cX1_pulled 4 = .ok (.aload_n 0, 1) := dk_42 (dk_at dksX1_pulled_0 4 rfl rfl)
theorem dX1_pulled_5 : decode cX1_pulled 5 = .ok (.iload_n 1, 1) := dk_27 (dk_at dksX1_pulled_0 5 rfl rfl)
theorem dX1_pulled_6 : decode cX1_pulled 6 = .ok (.iload_n 2, 1) := dk_28 (dk_at dksX1_pulled_0 6 rfl rfl)
theorem dX1_pulled_7 : decode cX1_pulled 7 = .ok (.iload_n 3, 1) := dk_29 (dk_at dksX1_pulled_0 7 rfl rfl)
theorem dX1_pulled_8 : decode cX1_pulled 8 = .ok (.iload 4, 2) := dk_21 4 (dk_at dksX1_pulled_0 8 rfl rfl)
theorem dX1_pulled_10 : decode cX1_pulled 10 = .ok (.iload 5, 2) := dk_21 5 (dk_at dksX1_pulled_0 10 rfl rfl)
theorem dX1_pulled_12 : decode cX1_pulled 12 = .ok (.iload 6, 2) := dk_21 6 (dk_at dksX1_pulled_0 12 rfl rfl)
theorem dX1_pulled_14 : decode cX1_pulled 14 = .ok (.invokevirtual 226, 3) := dk_182 0 226 (dk_at dksX1_pulled_0 14 rfl rfl)
theorem dX1_pulled_17 : decode cX1_pulled 17 = .ok (.istore 7, 2) := dk_54 7 (dk_at dksX1_pulled_0 17 rfl rfl)
theorem dX1_pulled_19 : decode cX1_pulled 19 = .ok (.iload 7, 2) := dk_21 7 (dk_at dksX1_pulled_0 19 rfl rfl)
theorem dX1_pulled_21 : decode cX1_pulled 21 = .ok (.ifCond .eq 12, 3) := dk_153 0 12 (dk_at dksX1_pulled_0 21 rfl rfl)
theorem dX1_pulled_24 : decode cX1_pulled 24 = .ok (.aload_n 0, 1) := dk_42 (dk_at dksX1_pulled_1 0 rfl rfl)
theorem dX1_pulled_25 : decode cX1_pulled 25 = .ok (.iload 7, 2) := dk_21 7 (dk_at dksX1_pulled_1 1 rfl rfl)
theorem dX1_pulled_27 : decode cX1_pulled 27 = .ok (.invokevirtual 97, 3) := dk_182 0 97 (dk_at dksX1_pulled_1 3 rfl rfl)
theorem dX1_pulled_30 : decode cX1_pulled 30 = .ok (.goto 19, 3) := dk_167 0 19 (dk_at dksX1_pulled_1 6 rfl rfl)
theorem dX1_pulled_33 : decode cX1_pulled 33 = .ok (.aload_n 0, 1) := dk_42 (dk_at dksX1_pulled_1 9 rfl rfl)
theorem dX1_pulled_34 : decode cX1_pulled 34 = .ok (.iload_n 1, 1) := dk_27 (dk_at dksX1_pulled_1 10 rfl rfl)
theorem dX1_pulled_35 : decode cX1_pulled 35 = .ok (.iload_n 2, 1) := dk_28 (dk_at dksX1_pulled_1 11 rfl rfl)
theorem dX1_pulled_36 : decode cX1_pulled 36 = .ok (.iload_n 3, 1) := dk_29 (dk_at dksX1_pulled_1 12 rfl rfl)
theorem dX1_pulled_37 : decode cX1_pulled 37 = .ok (.iload 4, 2) := dk_21 4 (dk_at dksX1_pulled_1 13 rfl rfl)
theorem dX1_pulled_39 : decode cX1_pulled 39 = .ok (.iload 5, 2) := dk_21 5 (dk_at dksX1_pulled_1 15 rfl rfl)
theorem dX1_pulled_41 : decode cX1_pulled 41 = .ok (.iload 6, 2) := dk_21 6 (dk_at dksX1_pulled_1 17 rfl rfl)
theorem dX1_pulled_43 : decode cX1_pulled 43 = .ok (.invokevirtual 230, 3) := dk_182 0 230 (dk_at dksX1_pulled_1 19 rfl rfl)
theorem dX1_pulled_46 : decode cX1_pulled 46 = .ok (.invokevirtual 237, 3) := dk_182 0 237 (dk_at dksX1_pulled_2 0 rfl rfl)
theorem dX1_pulled_49 : decode cX1_pulled 49 = .ok (.ireturn, 1) := dk_172 (dk_at dksX1_pulled_2 3 rfl rfl)
abbrev cX1_breaksAt : ByteArray := prog_1_method_29_code
def yX1_breaksAt : MethodName := ⟨RX1, "breaksAt", "(IIIIII)I"⟩
def dkwX1_breaksAt_3 : List UInt8 := [180, 0, 243, 96, 172]
abbrev dktX1_breaksAt_3 : List UInt8 := dkwX1_breaksAt_3 ++ []
def dkwX1_breaksAt_2 : List UInt8 := [161, 0, 8, 16, 254, 167, 0, 21, 16, 10, 42, 180, 0, 46, 180, 0, 240, 104, 42, 180, 0, 46]
abbrev dktX1_breaksAt_2 : List UInt8 := dkwX1_breaksAt_2 ++ dktX1_breaksAt_3
def dkwX1_breaksAt_1 : List UInt8 := [42, 21, 7, 182, 0, 97, 172, 42, 27, 28, 29, 21, 4, 21, 5, 21, 6, 182, 0, 230, 182, 0, 237, 5]
abbrev dktX1_breaksAt_1 : List UInt8 := dkwX1_breaksAt_1 ++ dktX1_breaksAt_2
def dkwX1_breaksAt_0 : List UInt8 := [42, 182, 0, 83, 42, 27, 28, 29, 21, 4, 21, 5, 21, 6, 182, 0, 226, 54, 7, 21, 7, 153, 0, 10]
abbrev dktX1_breaksAt_0 : List UInt8 := dkwX1_breaksAt_0 ++ dktX1_breaksAt_1
theorem dksX1_breaksAt_0 : cX1_breaksAt.data.toList.drop 0 = dktX1_breaksAt_0 := by decide +kernel
theorem dksX1_breaksAt_1 : cX1_breaksAt.data.toList.drop 24 = dktX1_breaksAt_1 := dk_seg dksX1_breaksAt_0 24 rfl rfl
theorem dksX1_breaksAt_2 : cX1_breaksAt.data.toList.drop 48 = dktX1_breaksAt_2 := dk_seg dksX1_breaksAt_1 24 rfl rfl
theorem dksX1_breaksAt_3 : cX1_breaksAt.data.toList.drop 70 = dktX1_breaksAt_3 := dk_seg dksX1_breaksAt_2 22 rfl rfl
theorem dX1_breaksAt_0 : decode cX1_breaksAt 0 = .ok (.aload_n 0, 1) := dk_42 (dk_at dksX1_breaksAt_0 0 rfl rfl)
theorem dX1_breaksAt_1 : decode cX1_breaksAt 1 = .ok (.invokevirtual 83, 3) := dk_182 0 83 (dk_at dksX1_breaksAt_0 1 rfl rfl)
theorem dX1_breaksAt_4 : decode cX1_breaksAt 4 = .ok (.aload_n 0, 1) := dk_42 (dk_at dksX1_breaksAt_0 4 rfl rfl)
theorem dX1_breaksAt_5 : decode cX1_breaksAt 5 = .ok (.iload_n 1, 1) := dk_27 (dk_at dksX1_breaksAt_0 5 rfl rfl)
theorem dX1_breaksAt_6 : decode cX1_breaksAt 6 = .ok (.iload_n 2, 1) := dk_28 (dk_at dksX1_breaksAt_0 6 rfl rfl)
theorem dX1_breaksAt_7 : decode cX1_breaksAt 7 = .ok (.iload_n 3, 1) := dk_29 (dk_at dksX1_breaksAt_0 7 rfl rfl)
theorem dX1_breaksAt_8 : decode cX1_breaksAt 8 = .ok (.iload 4, 2) := dk_21 4 (dk_at dksX1_breaksAt_0 8 rfl rfl)
theorem dX1_breaksAt_10 : decode cX1_breaksAt 10 = .ok (.iload 5, 2) := dk_21 5 (dk_at dksX1_breaksAt_0 10 rfl rfl)
theorem dX1_breaksAt_12 : decode cX1_breaksAt 12 = .ok (.iload 6, 2) := dk_21 6 (dk_at dksX1_breaksAt_0 12 rfl rfl)
theorem dX1_breaksAt_14 : decode cX1_breaksAt 14 = .ok (.invokevirtual 226, 3) := dk_182 0 226 (dk_at dksX1_breaksAt_0 14 rfl rfl)
theorem dX1_breaksAt_17 : decode cX1_breaksAt 17 = .ok (.istore 7, 2) := dk_54 7 (dk_at dksX1_breaksAt_0 17 rfl rfl)
theorem dX1_breaksAt_19 : decode cX1_breaksAt 19 = .ok (.iload 7, 2) := dk_21 7 (dk_at dksX1_breaksAt_0 19 rfl rfl)
theorem dX1_breaksAt_21 : decode cX1_breaksAt 21 = .ok (.ifCond .eq 10, 3) := dk_153 0 10 (dk_at dksX1_breaksAt_0 21 rfl rfl)
theorem dX1_breaksAt_24 : decode cX1_breaksAt 24 = .ok (.aload_n 0, 1) := dk_42 (dk_at dksX1_breaksAt_1 0 rfl rfl)
theorem dX1_breaksAt_25 : decode cX1_breaksAt 25 = .ok (.iload 7, 2) := dk_21 7 (dk_at dksX1_breaksAt_1 1 rfl rfl)
theorem dX1_breaksAt_27 : decode cX1_breaksAt 27 = .ok (.invokevirtual 97, 3) := dk_182 0 97 (dk_at dksX1_breaksAt_1 3 rfl rfl)
theorem dX1_breaksAt_30 : decode cX1_breaksAt 30 = .ok (.ireturn, 1) := dk_172 (dk_at dksX1_breaksAt_1 6 rfl rfl)
theorem dX1_breaksAt_31 : decode cX1_breaksAt 31 = .ok (.aload_n 0, 1) := dk_42 (dk_at dksX1_breaksAt_1 7 rfl rfl)
theorem dX1_breaksAt_32 : decode cX1_breaksAt 32 = .ok (.iload_n 1, 1) := dk_27 (dk_at dksX1_breaksAt_1 8 rfl rfl)
theorem dX1_breaksAt_33 : decode cX1_breaksAt 33 = .ok (.iload_n 2, 1) := dk_28 (dk_at dksX1_breaksAt_1 9 rfl rfl)
theorem dX1_breaksAt_34 : decode cX1_breaksAt 34 = .ok (.iload_n 3, 1) := dk_29 (dk_at dksX1_breaksAt_1 10 rfl rfl)
theorem dX1_breaksAt_35 : decode cX1_breaksAt 35 = .ok (.iload 4, 2) := dk_21 4 (dk_at dksX1_breaksAt_1 11 rfl rfl)
theorem dX1_breaksAt_37 : decode cX1_breaksAt 37 = .ok (.iload 5, 2) := dk_21 5 (dk_at dksX1_breaksAt_1 13 rfl rfl)
theorem dX1_breaksAt_39 : decode cX1_breaksAt 39 = .ok (.iload 6, 2) := dk_21 6 (dk_at dksX1_breaksAt_1 15 rfl rfl)
theorem dX1_breaksAt_41 : decode cX1_breaksAt 41 = .ok (.invokevirtual 230, 3) := dk_182 0 230 (dk_at dksX1_breaksAt_1 17 rfl rfl)
theorem dX1_breaksAt_44 : decode cX1_breaksAt 44 = .ok (.invokevirtual 237, 3) := dk_182 0 237 (dk_at dksX1_breaksAt_1 20 rfl rfl)
theorem dX1_breaksAt_47 : decode cX1_breaksAt 47 = .ok (.iconst 2, 1) := dk_5 (dk_at dksX1_breaksAt_1 23 rfl rfl)
theorem dX1_breaksAt_48 : decode cX1_breaksAt 48 = .ok (.if_icmp .lt 8, 3) := dk_161 0 8 (dk_at dksX1_breaksAt_2 0 rfl rfl)
theorem dX1_breaksAt_51 : decode cX1_breaksAt 51 = .ok (.bipush (-2), 2) := dk_16 254 (dk_at dksX1_breaksAt_2 3 rfl rfl)
theorem dX1_breaksAt_53 : decode cX1_breaksAt 53 = .ok (.goto 21, 3) := dk_167 0 21 (dk_at dksX1_breaksAt_2 5 rfl rfl)
theorem dX1_breaksAt_56 : decode cX1_breaksAt 56 = .ok (.bipush 10, 2) := dk_16 10 (dk_at dksX1_breaksAt_2 8 rfl rfl)
theorem dX1_breaksAt_58 : decode cX1_breaksAt 58 = .ok (.aload_n 0, 1) := dk_42 (dk_at dksX1_breaksAt_2 10 rfl rfl)
theorem dX1_breaksAt_59 : decode cX1_breaksAt 59 = .ok (.getfield 46, 3) := dk_180 0 46 (dk_at dksX1_breaksAt_2 11 rfl rfl)
theorem dX1_breaksAt_62 : decode cX1_breaksAt 62 = .ok (.getfield 240, 3) := dk_180 0 240 (dk_at dksX1_breaksAt_2 14 rfl rfl)
theorem dX1_breaksAt_65 : decode cX1_breaksAt 65 = .ok (.imul, 1) := dk_104 (dk_at dksX1_breaksAt_2 17 rfl rfl)
theorem dX1_breaksAt_66 : decode cX1_breaksAt 66 = .ok (.aload_n 0, 1) := dk_42 (dk_at dksX1_breaksAt_2 18 rfl rfl)
theorem dX1_breaksAt_67 : decode cX1_breaksAt 67 = .ok (.getfield 46, 3) := dk_180 0 46 (dk_at dksX1_breaksAt_2 19 rfl rfl)
theorem dX1_breaksAt_70 : decode cX1_breaksAt 70 = .ok (.getfield 243, 3) := dk_180 0 243 (dk_at dksX1_breaksAt_3 0 rfl rfl)
theorem dX1_breaksAt_73 : decode cX1_breaksAt 73 = .ok (.iadd, 1) := dk_96 (dk_at dksX1_breaksAt_3 3 rfl rfl)
theorem dX1_breaksAt_74 : decode cX1_breaksAt 74 = .ok (.ireturn, 1) := dk_172 (dk_at dksX1_breaksAt_3 4 rfl rfl)
abbrev cX1_flawed : ByteArray := prog_1_method_30_code
def yX1_flawed : MethodName := ⟨RX1, "flawed", "(IIIIIIII)I"⟩
def dkwX1_flawed_3 : List UInt8 := [180, 0, 46, 182, 0, 237, 172]
abbrev dktX1_flawed_3 : List UInt8 := dkwX1_flawed_3 ++ []
def dkwX1_flawed_2 : List UInt8 := [172, 42, 27, 28, 29, 21, 4, 21, 5, 21, 6, 182, 0, 230, 21, 7, 21, 8, 182, 0, 244, 42]
abbrev dktX1_flawed_2 : List UInt8 := dkwX1_flawed_2 ++ dktX1_flawed_3
def dkwX1_flawed_1 : List UInt8 := [28, 29, 21, 4, 21, 5, 21, 6, 182, 0, 226, 54, 9, 21, 9, 153, 0, 10, 42, 21, 9, 182, 0, 97]
abbrev dktX1_flawed_1 : List UInt8 := dkwX1_flawed_1 ++ dktX1_flawed_2
def dkwX1_flawed_0 : List UInt8 := [42, 182, 0, 83, 42, 27, 21, 7, 21, 8, 182, 0, 169, 154, 0, 9, 42, 4, 182, 0, 97, 172, 42, 27]
abbrev dktX1_flawed_0 : List UInt8 := dkwX1_flawed_0 ++ dktX1_flawed_1
theorem dksX1_flawed_0 : cX1_flawed.data.toList.drop 0 = dktX1_flawed_0 := by decide +kernel
theorem dksX1_flawed_1 : cX1_flawed.data.toList.drop 24 = dktX1_flawed_1 := dk_seg dksX1_flawed_0 24 rfl rfl
theorem dksX1_flawed_2 : cX1_flawed.data.toList.drop 48 = dktX1_flawed_2 := dk_seg dksX1_flawed_1 24 rfl rfl
theorem dksX1_flawed_3 : cX1_flawed.data.toList.drop 70 = dktX1_flawed_3 := dk_seg dksX1_flawed_2 22 rfl rfl
theorem dX1_flawed_0 : decode cX1_flawed 0 = .ok (.aload_n 0, 1) := dk_42 (dk_at dksX1_flawed_0 0 rfl rfl)
theorem dX1_flawed_1 : decode cX1_flawed 1 = .ok (.invokevirtual 83, 3) := dk_182 0 83 (dk_at dksX1_flawed_0 1 rfl rfl)
theorem dX1_flawed_4 : decode cX1_flawed 4 = .ok (.aload_n 0, 1) := dk_42 (dk_at dksX1_flawed_0 4 rfl rfl)
theorem dX1_flawed_5 : decode cX1_flawed 5 = .ok (.iload_n 1, 1) := dk_27 (dk_at dksX1_flawed_0 5 rfl rfl)
theorem dX1_flawed_6 : decode cX1_flawed 6 = .ok (.iload 7, 2) := dk_21 7 (dk_at dksX1_flawed_0 6 rfl rfl)
theorem dX1_flawed_8 : decode cX1_flawed 8 = .ok (.iload 8, 2) := dk_21 8 (dk_at dksX1_flawed_0 8 rfl rfl)
theorem dX1_flawed_10 : decode cX1_flawed 10 = .ok (.invokevirtual 169, 3) := dk_182 0 169 (dk_at dksX1_flawed_0 10 rfl rfl)
theorem dX1_flawed_13 : decode cX1_flawed 13 = .ok (.ifCond .ne 9, 3) := dk_154 0 9 (dk_at dksX1_flawed_0 13 rfl rfl)
theorem dX1_flawed_16 : decode cX1_flawed 16 = .ok (.aload_n 0, 1) := dk_42 (dk_at dksX1_flawed_0 16 rfl rfl)
theorem dX1_flawed_17 : decode cX1_flawed 17 = .ok (.iconst 1, 1) := dk_4 (dk_at dksX1_flawed_0 17 rfl rfl)
theorem dX1_flawed_18 : decode cX1_flawed 18 = .ok (.invokevirtual 97, 3) := dk_182 0 97 (dk_at dksX1_flawed_0 18 rfl rfl)
theorem dX1_flawed_21 : decode cX1_flawed 21 = .ok (.ireturn, 1) := dk_172 (dk_at dksX1_flawed_0 21 rfl rfl)
theorem dX1_flawed_22 : decode cX1_flawed 22 = .ok (.aload_n 0, 1) := dk_42 (dk_at dksX1_flawed_0 22 rfl rfl)
theorem dX1_flawed_23 : decode cX1_flawed 23 = .ok (.iload_n 1, 1) := dk_27 (dk_at dksX1_flawed_0 23 rfl rfl)
theorem dX1_flawed_24 : decode cX1_flawed 24 = .ok (.iload_n 2, 1) := dk_28 (dk_at dksX1_flawed_1 0 rfl rfl)
theorem dX1_flawed_25 : decode cX1_flawed 25 = .ok (.iload_n 3, 1) := dk_29 (dk_at dksX1_flawed_1 1 rfl rfl)
theorem dX1_flawed_26 : decode cX1_flawed 26 = .ok (.iload 4, 2) := dk_21 4 (dk_at dksX1_flawed_1 2 rfl rfl)
theorem dX1_flawed_28 : decode cX1_flawed 28 = .ok (.iload 5, 2) := dk_21 5 (dk_at dksX1_flawed_1 4 rfl rfl)
theorem dX1_flawed_30 : decode cX1_flawed 30 = .ok (.iload 6, 2) := dk_21 6 (dk_at dksX1_flawed_1 6 rfl rfl)
theorem dX1_flawed_32 : decode cX1_flawed 32 = .ok (.invokevirtual 226, 3) := dk_182 0 226 (dk_at dksX1_flawed_1 8 rfl rfl)
theorem dX1_flawed_35 : decode cX1_flawed 35 = .ok (.istore 9, 2) := dk_54 9 (dk_at dksX1_flawed_1 11 rfl rfl)
theorem dX1_flawed_37 : decode cX1_flawed 37 = .ok (.iload 9, 2) := dk_21 9 (dk_at dksX1_flawed_1 13 rfl rfl)
theorem dX1_flawed_39 : decode cX1_flawed 39 = .ok (.ifCond .eq 10, 3) := dk_153 0 10 (dk_at dksX1_flawed_1 15 rfl rfl)
theorem dX1_flawed_42 : decode cX1_flawed 42 = .ok (.aload_n 0, 1) := dk_42 (dk_at dksX1_flawed_1 18 rfl rfl)
theorem dX1_flawed_43 : decode cX1_flawed 43 = .ok (.iload 9, 2) := dk_21 9 (dk_at dksX1_flawed_1 19 rfl rfl)
theorem dX1_flawed_45 : decode cX1_flawed 45 = .ok (.invokevirtual 97, 3) := dk_182 0 97 (dk_at dksX1_flawed_1 21 rfl rfl)
theorem dX1_flawed_48 : decode cX1_flawed 48 = .ok (.ireturn, 1) := dk_172 (dk_at dksX1_flawed_2 0 rfl rfl)
theorem dX1_flawed_49 : decode cX1_flawed 49 = .ok (.aload_n 0, 1) := dk_42 (dk_at dksX1_flawed_2 1 rfl rfl)
theorem dX1_flawed_50 : decode cX1_flawed 50 = .ok (.iload_n 1, 1) := dk_27 (dk_at dksX1_flawed_2 2 rfl rfl)
theorem dX1_flawed_51 : decode cX1_flawed 51 = .ok (.iload_n 2, 1) := dk_28 (dk_at dksX1_flawed_2 3 rfl rfl)
theorem dX1_flawed_52 : decode cX1_flawed 52 = .ok (.iload_n 3, 1) := dk_29 (dk_at dksX1_flawed_2 4 rfl rfl)
theorem dX1_flawed_53 : decode cX1_flawed 53 = .ok (.iload 4, 2) := dk_21 4 (dk_at dksX1_flawed_2 5 rfl rfl)
theorem dX1_flawed_55 : decode cX1_flawed 55 = .ok (.iload 5, 2) := dk_21 5 (dk_at dksX1_flawed_2 7 rfl rfl)
theorem dX1_flawed_57 : decode cX1_flawed 57 = .ok (.iload 6, 2) := dk_21 6 (dk_at dksX1_flawed_2 9 rfl rfl)
theorem dX1_flawed_59 : decode cX1_flawed 59 = .ok (.invokevirtual 230, 3) := dk_182 0 230 (dk_at dksX1_flawed_2 11 rfl rfl)
theorem dX1_flawed_62 : decode cX1_flawed 62 = .ok (.iload 7, 2) := dk_21 7 (dk_at dksX1_flawed_2 14 rfl rfl)
theorem dX1_flawed_64 : decode cX1_flawed 64 = .ok (.iload 8, 2) := dk_21 8 (dk_at dksX1_flawed_2 16 rfl rfl)
theorem dX1_flawed_66 : decode cX1_flawed 66 = .ok (.invokevirtual 244, 3) := dk_182 0 244 (dk_at dksX1_flawed_2 18 rfl rfl)
theorem dX1_flawed_69 : decode cX1_flawed 69 = .ok (.aload_n 0, 1) := dk_42 (dk_at dksX1_flawed_2 21 rfl rfl)
theorem dX1_flawed_70 : decode cX1_flawed 70 = .ok (.getfield 46, 3) := dk_180 0 46 (dk_at dksX1_flawed_3 0 rfl rfl)
theorem dX1_flawed_73 : decode cX1_flawed 73 = .ok (.invokevirtual 237, 3) := dk_182 0 237 (dk_at dksX1_flawed_3 3 rfl rfl)
theorem dX1_flawed_76 : decode cX1_flawed 76 = .ok (.ireturn, 1) := dk_172 (dk_at dksX1_flawed_3 6 rfl rfl)
abbrev cX1_odds : ByteArray := prog_1_method_31_code
def yX1_odds : MethodName := ⟨RX1, "odds", "(IIIIIIIZ)J"⟩
def dkwX1_odds_3 : List UInt8 := [182, 0, 252, 21, 8, 184, 1, 0, 173]
abbrev dktX1_odds_3 : List UInt8 := dkwX1_odds_3 ++ []
def dkwX1_odds_2 : List UInt8 := [173, 42, 27, 28, 29, 21, 4, 21, 5, 21, 6, 182, 0, 230, 21, 7, 182, 0, 248, 42, 180, 0, 46]
abbrev dktX1_odds_2 : List UInt8 := dkwX1_odds_2 ++ dktX1_odds_3
def dkwX1_odds_1 : List UInt8 := [29, 21, 4, 21, 5, 21, 6, 182, 0, 226, 54, 9, 21, 9, 153, 0, 11, 42, 21, 9, 182, 0, 97, 133]
abbrev dktX1_odds_1 : List UInt8 := dkwX1_odds_1 ++ dktX1_odds_2
def dkwX1_odds_0 : List UInt8 := [42, 182, 0, 83, 21, 7, 3, 6, 184, 0, 93, 154, 0, 10, 42, 4, 182, 0, 97, 133, 173, 42, 27, 28]
abbrev dktX1_odds_0 : List UInt8 := dkwX1_odds_0 ++ dktX1_odds_1
theorem dksX1_odds_0 : cX1_odds.data.toList.drop 0 = dktX1_odds_0 := by decide +kernel
theorem dksX1_odds_1 : cX1_odds.data.toList.drop 24 = dktX1_odds_1 := dk_seg dksX1_odds_0 24 rfl rfl
theorem dksX1_odds_2 : cX1_odds.data.toList.drop 48 = dktX1_odds_2 := dk_seg dksX1_odds_1 24 rfl rfl
theorem dksX1_odds_3 : cX1_odds.data.toList.drop 71 = dktX1_odds_3 := dk_seg dksX1_odds_2 23 rfl rfl
theorem dX1_odds_0 : decode cX1_odds 0 = .ok (.aload_n 0, 1) := dk_42 (dk_at dksX1_odds_0 0 rfl rfl)
theorem dX1_odds_1 : decode cX1_odds 1 = .ok (.invokevirtual 83, 3) := dk_182 0 83 (dk_at dksX1_odds_0 1 rfl rfl)
theorem dX1_odds_4 : decode cX1_odds 4 = .ok (.iload 7, 2) := dk_21 7 (dk_at dksX1_odds_0 4 rfl rfl)
theorem dX1_odds_6 : decode cX1_odds 6 = .ok (.iconst 0, 1) := dk_3 (dk_at dksX1_odds_0 6 rfl rfl)
theorem dX1_odds_7 : decode cX1_odds 7 = .ok (.iconst 3, 1) := dk_6 (dk_at dksX1_odds_0 7 rfl rfl)
theorem dX1_odds_8 : decode cX1_odds 8 = .ok (.invokestatic 93, 3) := dk_184 0 93 (dk_at dksX1_odds_0 8 rfl rfl)
theorem dX1_odds_11 : decode cX1_odds 11 = .ok (.ifCond .ne 10, 3) := dk_154 0 10 (dk_at dksX1_odds_0 11 rfl rfl)
theorem dX1_odds_14 : decode cX1_odds 14 = .ok (.aload_n 0, 1) := dk_42 (dk_at dksX1_odds_0 14 rfl rfl)
theorem dX1_odds_15 : decode cX1_odds 15 = .ok (.iconst 1, 1) := dk_4 (dk_at dksX1_odds_0 15 rfl rfl)
theorem dX1_odds_16 : decode cX1_odds 16 = .ok (.invokevirtual 97, 3) := dk_182 0 97 (dk_at dksX1_odds_0 16 rfl rfl)
theorem dX1_odds_19 : decode cX1_odds 19 = .ok (.i2l, 1) := dk_133 (dk_at dksX1_odds_0 19 rfl rfl)
theorem dX1_odds_20 : decode cX1_odds 20 = .ok (.lreturn, 1) := dk_173 (dk_at dksX1_odds_0 20 rfl rfl)
theorem dX1_odds_21 : decode cX1_odds 21 = .ok (.aload_n 0, 1) := dk_42 (dk_at dksX1_odds_0 21 rfl rfl)
theorem dX1_odds_22 : decode cX1_odds 22 = .ok (.iload_n 1, 1) := dk_27 (dk_at dksX1_odds_0 22 rfl rfl)
theorem dX1_odds_23 : decode cX1_odds 23 = .ok (.iload_n 2, 1) := dk_28 (dk_at dksX1_odds_0 23 rfl rfl)
theorem dX1_odds_24 : decode cX1_odds 24 = .ok (.iload_n 3, 1) := dk_29 (dk_at dksX1_odds_1 0 rfl rfl)
theorem dX1_odds_25 : decode cX1_odds 25 = .ok (.iload 4, 2) := dk_21 4 (dk_at dksX1_odds_1 1 rfl rfl)
theorem dX1_odds_27 : decode cX1_odds 27 = .ok (.iload 5, 2) := dk_21 5 (dk_at dksX1_odds_1 3 rfl rfl)
theorem dX1_odds_29 : decode cX1_odds 29 = .ok (.iload 6, 2) := dk_21 6 (dk_at dksX1_odds_1 5 rfl rfl)
theorem dX1_odds_31 : decode cX1_odds 31 = .ok (.invokevirtual 226, 3) := dk_182 0 226 (dk_at dksX1_odds_1 7 rfl rfl)
theorem dX1_odds_34 : decode cX1_odds 34 = .ok (.istore 9, 2) := dk_54 9 (dk_at dksX1_odds_1 10 rfl rfl)
theorem dX1_odds_36 : decode cX1_odds 36 = .ok (.iload 9, 2) := dk_21 9 (dk_at dksX1_odds_1 12 rfl rfl)
theorem dX1_odds_38 : decode cX1_odds 38 = .ok (.ifCond .eq 11, 3) := dk_153 0 11 (dk_at dksX1_odds_1 14 rfl rfl)
theorem dX1_odds_41 : decode cX1_odds 41 = .ok (.aload_n 0, 1) := dk_42 (dk_at dksX1_odds_1 17 rfl rfl)
theorem dX1_odds_42 : decode cX1_odds 42 = .ok (.iload 9, 2) := dk_21 9 (dk_at dksX1_odds_1 18 rfl rfl)
theorem dX1_odds_44 : decode cX1_odds 44 = .ok (.invokevirtual 97, 3) := dk_182 0 97 (dk_at dksX1_odds_1 20 rfl rfl)
theorem dX1_odds_47 : decode cX1_odds 47 = .ok (.i2l, 1) := dk_133 (dk_at dksX1_odds_1 23 rfl rfl)
theorem dX1_odds_48 : decode cX1_odds 48 = .ok (.lreturn, 1) := dk_173 (dk_at dksX1_odds_2 0 rfl rfl)
theorem dX1_odds_49 : decode cX1_odds 49 = .ok (.aload_n 0, 1) := dk_42 (dk_at dksX1_odds_2 1 rfl rfl)
theorem dX1_odds_50 : decode cX1_odds 50 = .ok (.iload_n 1, 1) := dk_27 (dk_at dksX1_odds_2 2 rfl rfl)
theorem dX1_odds_51 : decode cX1_odds 51 = .ok (.iload_n 2, 1) := dk_28 (dk_at dksX1_odds_2 3 rfl rfl)
theorem dX1_odds_52 : decode cX1_odds 52 = .ok (.iload_n 3, 1) := dk_29 (dk_at dksX1_odds_2 4 rfl rfl)
theorem dX1_odds_53 : decode cX1_odds 53 = .ok (.iload 4, 2) := dk_21 4 (dk_at dksX1_odds_2 5 rfl rfl)
theorem dX1_odds_55 : decode cX1_odds 55 = .ok (.iload 5, 2) := dk_21 5 (dk_at dksX1_odds_2 7 rfl rfl)
theorem dX1_odds_57 : decode cX1_odds 57 = .ok (.iload 6, 2) := dk_21 6 (dk_at dksX1_odds_2 9 rfl rfl)
theorem dX1_odds_59 : decode cX1_odds 59 = .ok (.invokevirtual 230, 3) := dk_182 0 230 (dk_at dksX1_odds_2 11 rfl rfl)
theorem dX1_odds_62 : decode cX1_odds 62 = .ok (.iload 7, 2) := dk_21 7 (dk_at dksX1_odds_2 14 rfl rfl)
theorem dX1_odds_64 : decode cX1_odds 64 = .ok (.invokevirtual 248, 3) := dk_182 0 248 (dk_at dksX1_odds_2 16 rfl rfl)
theorem dX1_odds_67 : decode cX1_odds 67 = .ok (.aload_n 0, 1) := dk_42 (dk_at dksX1_odds_2 19 rfl rfl)
theorem dX1_odds_68 : decode cX1_odds 68 = .ok (.getfield 46, 3) := dk_180 0 46 (dk_at dksX1_odds_2 20 rfl rfl)
theorem dX1_odds_71 : decode cX1_odds 71 = .ok (.invokevirtual 252, 3) := dk_182 0 252 (dk_at dksX1_odds_3 0 rfl rfl)
theorem dX1_odds_74 : decode cX1_odds 74 = .ok (.iload 8, 2) := dk_21 8 (dk_at dksX1_odds_3 3 rfl rfl)
theorem dX1_odds_76 : decode cX1_odds 76 = .ok (.invokestatic 256, 3) := dk_184 1 0 (dk_at dksX1_odds_3 5 rfl rfl)
theorem dX1_odds_79 : decode cX1_odds 79 = .ok (.lreturn, 1) := dk_173 (dk_at dksX1_odds_3 8 rfl rfl)
abbrev cX1_lowest : ByteArray := prog_1_method_4_code
def yX1_lowest : MethodName := ⟨RX1, "lowest", "(JJZ)J"⟩
def dkwX1_lowest_0 : List UInt8 := [21, 4, 153, 0, 7, 32, 167, 0, 4, 30, 32, 30, 184, 0, 1, 109, 173]
abbrev dktX1_lowest_0 : List UInt8 := dkwX1_lowest_0 ++ []
theorem dksX1_lowest_0 : cX1_lowest.data.toList.drop 0 = dktX1_lowest_0 := by decide +kernel
theorem dX1_lowest_0 : decode cX1_lowest 0 = .ok (.iload 4, 2) := dk_21 4 (dk_at dksX1_lowest_0 0 rfl rfl)
theorem dX1_lowest_2 : decode cX1_lowest 2 = .ok (.ifCond .eq 7, 3) := dk_153 0 7 (dk_at dksX1_lowest_0 2 rfl rfl)
theorem dX1_lowest_5 : decode cX1_lowest 5 = .ok (.lload_n 2, 1) := dk_32 (dk_at dksX1_lowest_0 5 rfl rfl)
theorem dX1_lowest_6 : decode cX1_lowest 6 = .ok (.goto 4, 3) := dk_167 0 4 (dk_at dksX1_lowest_0 6 rfl rfl)
theorem dX1_lowest_9 : decode cX1_lowest 9 = .ok (.lload_n 0, 1) := dk_30 (dk_at dksX1_lowest_0 9 rfl rfl)
theorem dX1_lowest_10 : decode cX1_lowest 10 = .ok (.lload_n 2, 1) := dk_32 (dk_at dksX1_lowest_0 10 rfl rfl)
theorem dX1_lowest_11 : decode cX1_lowest 11 = .ok (.lload_n 0, 1) := dk_30 (dk_at dksX1_lowest_0 11 rfl rfl)
theorem dX1_lowest_12 : decode cX1_lowest 12 = .ok (.invokestatic 1, 3) := dk_184 0 1 (dk_at dksX1_lowest_0 12 rfl rfl)
theorem dX1_lowest_15 : decode cX1_lowest 15 = .ok (.ldiv, 1) := dk_109 (dk_at dksX1_lowest_0 15 rfl rfl)
theorem dX1_lowest_16 : decode cX1_lowest 16 = .ok (.lreturn, 1) := dk_173 (dk_at dksX1_lowest_0 16 rfl rfl)
abbrev cX1_dividing : ByteArray := prog_1_method_3_code
def yX1_dividing : MethodName := ⟨RX1, "dividing", "(JJ)J"⟩
def dkwX1_dividing_0 : List UInt8 := [32, 9, 148, 154, 0, 7, 30, 167, 0, 10, 32, 30, 32, 113, 184, 0, 1, 173]
abbrev dktX1_dividing_0 : List UInt8 := dkwX1_dividing_0 ++ []
theorem dksX1_dividing_0 : cX1_dividing.data.toList.drop 0 = dktX1_dividing_0 := by decide +kernel
theorem dX1_dividing_0 : decode cX1_dividing 0 = .ok (.lload_n 2, 1) := dk_32 (dk_at dksX1_dividing_0 0 rfl rfl)
theorem dX1_dividing_1 : decode cX1_dividing 1 = .ok (.lconst 0, 1) := dk_9 (dk_at dksX1_dividing_0 1 rfl rfl)
theorem dX1_dividing_2 : decode cX1_dividing 2 = .ok (.lcmp, 1) := dk_148 (dk_at dksX1_dividing_0 2 rfl rfl)
theorem dX1_dividing_3 : decode cX1_dividing 3 = .ok (.ifCond .ne 7, 3) := dk_154 0 7 (dk_at dksX1_dividing_0 3 rfl rfl)
theorem dX1_dividing_6 : decode cX1_dividing 6 = .ok (.lload_n 0, 1) := dk_30 (dk_at dksX1_dividing_0 6 rfl rfl)
theorem dX1_dividing_7 : decode cX1_dividing 7 = .ok (.goto 10, 3) := dk_167 0 10 (dk_at dksX1_dividing_0 7 rfl rfl)
theorem dX1_dividing_10 : decode cX1_dividing 10 = .ok (.lload_n 2, 1) := dk_32 (dk_at dksX1_dividing_0 10 rfl rfl)
theorem dX1_dividing_11 : decode cX1_dividing 11 = .ok (.lload_n 0, 1) := dk_30 (dk_at dksX1_dividing_0 11 rfl rfl)
theorem dX1_dividing_12 : decode cX1_dividing 12 = .ok (.lload_n 2, 1) := dk_32 (dk_at dksX1_dividing_0 12 rfl rfl)
theorem dX1_dividing_13 : decode cX1_dividing 13 = .ok (.lrem, 1) := dk_113 (dk_at dksX1_dividing_0 13 rfl rfl)
theorem dX1_dividing_14 : decode cX1_dividing 14 = .ok (.invokestatic 1, 3) := dk_184 0 1 (dk_at dksX1_dividing_0 14 rfl rfl)
theorem dX1_dividing_17 : decode cX1_dividing 17 = .ok (.lreturn, 1) := dk_173 (dk_at dksX1_dividing_0 17 rfl rfl)
abbrev cX1_best : ByteArray := prog_1_method_32_code
def yX1_best : MethodName := ⟨RX1, "best", "(IIII)I"⟩
def dkwX1_best_8 : List UInt8 := [21, 5, 172]
abbrev dktX1_best_8 : List UInt8 := dkwX1_best_8 ++ []
def dkwX1_best_7 : List UInt8 := [157, 0, 6, 167, 0, 14, 21, 8, 184, 1, 10, 54, 5, 22, 9, 55, 6, 132, 8, 1, 167, 255, 135]
abbrev dktX1_best_7 : List UInt8 := dkwX1_best_7 ++ dktX1_best_8
def dkwX1_best_6 : List UInt8 := [167, 0, 4, 5, 182, 0, 223, 42, 180, 0, 46, 3, 182, 0, 248, 55, 9, 22, 9, 22, 6, 148]
abbrev dktX1_best_6 : List UInt8 := dkwX1_best_6 ++ dktX1_best_7
def dkwX1_best_5 : List UInt8 := [5, 108, 4, 96, 42, 180, 0, 108, 180, 0, 176, 29, 50, 21, 4, 21, 8, 5, 112, 4, 160, 0, 7, 3]
abbrev dktX1_best_5 : List UInt8 := dkwX1_best_5 ++ dktX1_best_6
def dkwX1_best_4 : List UInt8 := [184, 1, 6, 154, 0, 6, 167, 0, 81, 42, 180, 0, 46, 42, 180, 0, 108, 180, 0, 176, 28, 50, 21, 8]
abbrev dktX1_best_4 : List UInt8 := dkwX1_best_4 ++ dktX1_best_5
def dkwX1_best_3 : List UInt8 := [180, 0, 143, 27, 50, 3, 182, 0, 147, 104, 162, 0, 107, 42, 180, 0, 108, 180, 0, 176, 28, 50, 21, 8]
abbrev dktX1_best_3 : List UInt8 := dkwX1_best_3 ++ dktX1_best_4
def dkwX1_best_2 : List UInt8 := [54, 5, 20, 1, 4, 55, 6, 42, 27, 182, 0, 209, 87, 3, 54, 8, 21, 8, 5, 42, 180, 0, 108]
abbrev dktX1_best_2 : List UInt8 := dkwX1_best_2 ++ dktX1_best_3
def dkwX1_best_1 : List UInt8 := [182, 0, 97, 172, 42, 27, 4, 21, 4, 3, 182, 0, 219, 153, 0, 9, 42, 5, 182, 0, 97, 172, 2]
abbrev dktX1_best_1 : List UInt8 := dkwX1_best_1 ++ dktX1_best_2
def dkwX1_best_0 : List UInt8 := [42, 182, 0, 83, 42, 27, 182, 0, 140, 153, 0, 12, 42, 28, 29, 182, 0, 216, 154, 0, 9, 42, 4]
abbrev dktX1_best_0 : List UInt8 := dkwX1_best_0 ++ dktX1_best_1
theorem dksX1_best_0 : cX1_best.data.toList.drop 0 = dktX1_best_0 := by decide +kernel
theorem dksX1_best_1 : cX1_best.data.toList.drop 23 = dktX1_best_1 := dk_seg dksX1_best_0 23 rfl rfl
theorem dksX1_best_2 : cX1_best.data.toList.drop 46 = dktX1_best_2 := dk_seg dksX1_best_1 23 rfl rfl
theorem dksX1_best_3 : cX1_best.data.toList.drop 69 = dktX1_best_3 := dk_seg dksX1_best_2 23 rfl rfl
theorem dksX1_best_4 : cX1_best.data.toList.drop 93 = dktX1_best_4 := dk_seg dksX1_best_3 24 rfl rfl
theorem dksX1_best_5 : cX1_best.data.toList.drop 117 = dktX1_best_5 := dk_seg dksX1_best_4 24 rfl rfl
theorem dksX1_best_6 : cX1_best.data.toList.drop 141 = dktX1_best_6 := dk_seg dksX1_best_5 24 rfl rfl
theorem dksX1_best_7 : cX1_best.data.toList.drop 163 = dktX1_best_7 := dk_seg dksX1_best_6 22 rfl rfl
theorem dksX1_best_8 : cX1_best.data.toList.drop 186 = dktX1_best_8 := dk_seg dksX1_best_7 23 rfl rfl
theorem dX1_best_0 : decode cX1_best 0 = .ok (.aload_n 0, 1) := dk_42 (dk_at dksX1_best_0 0 rfl rfl)
theorem dX1_best_1 : decode cX1_best 1 = .ok (.invokevirtual 83, 3) := dk_182 0 83 (dk_at dksX1_best_0 1 rfl rfl)
theorem dX1_best_4 : decode cX1_best 4 = .ok (.aload_n 0, 1) := dk_42 (dk_at dksX1_best_0 4 rfl rfl)
theorem dX1_best_5 : decode cX1_best 5 = .ok (.iload_n 1, 1) := dk_27 (dk_at dksX1_best_0 5 rfl rfl)
theorem dX1_best_6 : decode cX1_best 6 = .ok (.invokevirtual 140, 3) := dk_182 0 140 (dk_at dksX1_best_0 6 rfl rfl)
theorem dX1_best_9 : decode cX1_best 9 = .ok (.ifCond .eq 12, 3) := dk_153 0 12 (dk_at dksX1_best_0 9 rfl rfl)
theorem dX1_best_12 : decode cX1_best 12 = .ok (.aload_n 0, 1) := dk_42 (dk_at dksX1_best_0 12 rfl rfl)
theorem dX1_best_13 : decode cX1_best 13 = .ok (.iload_n 2, 1) := dk_28 (dk_at dksX1_best_0 13 rfl rfl)
theorem dX1_best_14 : decode cX1_best 14 = .ok (.iload_n 3, 1) := dk_29 (dk_at dksX1_best_0 14 rfl rfl)
theorem dX1_best_15 : decode cX1_best 15 = .ok (.invokevirtual 216, 3) := dk_182 0 216 (dk_at dksX1_best_0 15 rfl rfl)
theorem dX1_best_18 : decode cX1_best 18 = .ok (.ifCond .ne 9, 3) := dk_154 0 9 (dk_at dksX1_best_0 18 rfl rfl)
theorem dX1_best_21 : decode cX1_best 21 = .ok (.aload_n 0, 1) := dk_42 (dk_at dksX1_best_0 21 rfl rfl)
theorem dX1_best_22 : decode cX1_best 22 = .ok (.iconst 1, 1) := dk_4 (dk_at dksX1_best_0 22 rfl rfl)
theorem dX1_best_23 : decode cX1_best 23 = .ok (.invokevirtual 97, 3) := dk_182 0 97 (dk_at dksX1_best_1 0 rfl rfl)
theorem dX1_best_26 : decode cX1_best 26 = .ok (.ireturn, 1) := dk_172 (dk_at dksX1_best_1 3 rfl rfl)
theorem dX1_best_27 : decode cX1_best 27 = .ok (.aload_n 0, 1) := dk_42 (dk_at dksX1_best_1 4 rfl rfl)
theorem dX1_best_28 : decode cX1_best 28 = .ok (.iload_n 1, 1) := dk_27 (dk_at dksX1_best_1 5 rfl rfl)
theorem dX1_best_29 : decode cX1_best 29 = .ok (.iconst 1, 1) := dk_4 (dk_at dksX1_best_1 6 rfl rfl)
theorem dX1_best_30 : decode cX1_best 30 = .ok (.iload 4, 2) := dk_21 4 (dk_at dksX1_best_1 7 rfl rfl)
theorem dX1_best_32 : decode cX1_best 32 = .ok (.iconst 0, 1) := dk_3 (dk_at dksX1_best_1 9 rfl rfl)
theorem dX1_best_33 : decode cX1_best 33 = .ok (.invokevirtual 219, 3) := dk_182 0 219 (dk_at dksX1_best_1 10 rfl rfl)
theorem dX1_best_36 : decode cX1_best 36 = .ok (.ifCond .eq 9, 3) := dk_153 0 9 (dk_at dksX1_best_1 13 rfl rfl)
theorem dX1_best_39 : decode cX1_best 39 = .ok (.aload_n 0, 1) := dk_42 (dk_at dksX1_best_1 16 rfl rfl)
theorem dX1_best_40 : decode cX1_best 40 = .ok (.iconst 2, 1) := dk_5 (dk_at dksX1_best_1 17 rfl rfl)
theorem dX1_best_41 : decode cX1_best 41 = .ok (.invokevirtual 97, 3) := dk_182 0 97 (dk_at dksX1_best_1 18 rfl rfl)
theorem dX1_best_44 : decode cX1_best 44 = .ok (.ireturn, 1) := dk_172 (dk_at dksX1_best_1 21 rfl rfl)
theorem dX1_best_45 : decode cX1_best 45 = .ok (.iconst (-1), 1) := dk_2 (dk_at dksX1_best_1 22 rfl rfl)
theorem dX1_best_46 : decode cX1_best 46 = .ok (.istore 5, 2) := dk_54 5 (dk_at dksX1_best_2 0 rfl rfl)
theorem dX1_best_48 : decode cX1_best 48 = .ok (.ldc2_w 260, 3) := dk_20 1 4 (dk_at dksX1_best_2 2 rfl rfl)
theorem dX1_best_51 : decode cX1_best 51 = .ok (.lstore 6, 2) := dk_55 6 (dk_at dksX1_best_2 5 rfl rfl)
theorem dX1_best_53 : decode cX1_best 53 = .ok (.aload_n 0, 1) := dk_42 (dk_at dksX1_best_2 7 rfl rfl)
theorem dX1_best_54 : decode cX1_best 54 = .ok (.iload_n 1, 1) := dk_27 (dk_at dksX1_best_2 8 rfl rfl)
theorem dX1_best_55 : decode cX1_best 55 = .ok (.invokevirtual 209, 3) := dk_182 0 209 (dk_at dksX1_best_2 9 rfl rfl)
theorem dX1_best_58 : decode cX1_best 58 = .ok (.pop, 1) := dk_87 (dk_at dksX1_best_2 12 rfl rfl)
theorem dX1_best_59 : decode cX1_best 59 = .ok (.iconst 0, 1) := dk_3 (dk_at dksX1_best_2 13 rfl rfl)
theorem dX1_best_60 : decode cX1_best 60 = .ok (.istore 8, 2) := dk_54 8 (dk_at dksX1_best_2 14 rfl rfl)
theorem dX1_best_62 : decode cX1_best 62 = .ok (.iload 8, 2) := dk_21 8 (dk_at dksX1_best_2 16 rfl rfl)
theorem dX1_best_64 : decode cX1_best 64 = .ok (.iconst 2, 1) := dk_5 (dk_at dksX1_best_2 18 rfl rfl)
theorem dX1_best_65 : decode cX1_best 65 = .ok (.aload_n 0, 1) := dk_42 (dk_at dksX1_best_2 19 rfl rfl)
theorem dX1_best_66 : decode cX1_best 66 = .ok (.getfield 108, 3) := dk_180 0 108 (dk_at dksX1_best_2 20 rfl rfl)
theorem dX1_best_69 : decode cX1_best 69 = .ok (.getfield 143, 3) := dk_180 0 143 (dk_at dksX1_best_3 0 rfl rfl)
theorem dX1_best_72 : decode cX1_best 72 = .ok (.iload_n 1, 1) := dk_27 (dk_at dksX1_best_3 3 rfl rfl)
theorem dX1_best_73 : decode cX1_best 73 = .ok (.aaload, 1) := dk_50 (dk_at dksX1_best_3 4 rfl rfl)
theorem dX1_best_74 : decode cX1_best 74 = .ok (.iconst 0, 1) := dk_3 (dk_at dksX1_best_3 5 rfl rfl)
theorem dX1_best_75 : decode cX1_best 75 = .ok (.invokevirtual 147, 3) := dk_182 0 147 (dk_at dksX1_best_3 6 rfl rfl)
theorem dX1_best_78 : decode cX1_best 78 = .ok (.imul, 1) := dk_104 (dk_at dksX1_best_3 9 rfl rfl)
theorem dX1_best_79 : decode cX1_best 79 = .ok (.if_icmp .ge 107, 3) := dk_162 0 107 (dk_at dksX1_best_3 10 rfl rfl)
theorem dX1_best_82 : decode cX1_best 82 = .ok (.aload_n 0, 1) := dk_42 (dk_at dksX1_best_3 13 rfl rfl)
theorem dX1_best_83 : decode cX1_best 83 = .ok (.getfield 108, 3) := dk_180 0 108 (dk_at dksX1_best_3 14 rfl rfl)
theorem dX1_best_86 : decode cX1_best 86 = .ok (.getfield 176, 3) := dk_180 0 176 (dk_at dksX1_best_3 17 rfl rfl)
theorem dX1_best_89 : decode cX1_best 89 = .ok (.iload_n 2, 1) := dk_28 (dk_at dksX1_best_3 20 rfl rfl)
theorem dX1_best_90 : decode cX1_best 90 = .ok (.aaload, 1) := dk_50 (dk_at dksX1_best_3 21 rfl rfl)
theorem dX1_best_91 : decode cX1_best 91 = .ok (.iload 8, 2) := dk_21 8 (dk_at dksX1_best_3 22 rfl rfl)
theorem dX1_best_93 : decode cX1_best 93 = .ok (.invokestatic 262, 3) := dk_184 1 6 (dk_at dksX1_best_4 0 rfl rfl)
theorem dX1_best_96 : decode cX1_best 96 = .ok (.ifCond .ne 6, 3) := dk_154 0 6 (dk_at dksX1_best_4 3 rfl rfl)
theorem dX1_best_99 : decode cX1_best 99 = .ok (.goto 81, 3) := dk_167 0 81 (dk_at dksX1_best_4 6 rfl rfl)
theorem dX1_best_102 : decode cX1_best 102 = .ok (.aload_n 0, 1) := dk_42 (dk_at dksX1_best_4 9 rfl rfl)
theorem dX1_best_103 : decode cX1_best 103 = .ok (.getfield 46, 3) := dk_180 0 46 (dk_at dksX1_best_4 10 rfl rfl)
theorem dX1_best_106 : decode cX1_best 106 = .ok (.aload_n 0, 1) := dk_42 (dk_at dksX1_best_4 13 rfl rfl)
theorem dX1_best_107 : decode cX1_best 107 = .ok (.getfield 108, 3) := dk_180 0 108 (dk_at dksX1_best_4 14 rfl rfl)
theorem dX1_best_110 : decode cX1_best 110 = .ok (.getfield 176, 3) := dk_180 0 176 (dk_at dksX1_best_4 17 rfl rfl)
theorem dX1_best_113 : decode cX1_best 113 = .ok (.iload_n 2, 1) := dk_28 (dk_at dksX1_best_4 20 rfl rfl)
theorem dX1_best_114 : decode cX1_best 114 = .ok (.aaload, 1) := dk_50 (dk_at dksX1_best_4 21 rfl rfl)
theorem dX1_best_115 : decode cX1_best 115 = .ok (.iload 8, 2) := dk_21 8 (dk_at dksX1_best_4 22 rfl rfl)
theorem dX1_best_117 : decode cX1_best 117 = .ok (.iconst 2, 1) := dk_5 (dk_at dksX1_best_5 0 rfl rfl)
theorem dX1_best_118 : decode cX1_best 118 = .ok (.idiv, 1) := dk_108 (dk_at dksX1_best_5 1 rfl rfl)
theorem dX1_best_119 : decode cX1_best 119 = .ok (.iconst 1, 1) := dk_4 (dk_at dksX1_best_5 2 rfl rfl)
theorem dX1_best_120 : decode cX1_best 120 = .ok (.iadd, 1) := dk_96 (dk_at dksX1_best_5 3 rfl rfl)
theorem dX1_best_121 : decode cX1_best 121 = .ok (.aload_n 0, 1) := dk_42 (dk_at dksX1_best_5 4 rfl rfl)
theorem dX1_best_122 : decode cX1_best 122 = .ok (.getfield 108, 3) := dk_180 0 108 (dk_at dksX1_best_5 5 rfl rfl)
theorem dX1_best_125 : decode cX1_best 125 = .ok (.getfield 176, 3) := dk_180 0 176 (dk_at dksX1_best_5 8 rfl rfl)
theorem dX1_best_128 : decode cX1_best 128 = .ok (.iload_n 3, 1) := dk_29 (dk_at dksX1_best_5 11 rfl rfl)
theorem dX1_best_129 : decode cX1_best 129 = .ok (.aaload, 1) := dk_50 (dk_at dksX1_best_5 12 rfl rfl)
theorem dX1_best_130 : decode cX1_best 130 = .ok (.iload 4, 2) := dk_21 4 (dk_at dksX1_best_5 13 rfl rfl)
theorem dX1_best_132 : decode cX1_best 132 = .ok (.iload 8, 2) := dk_21 8 (dk_at dksX1_best_5 15 rfl rfl)
theorem dX1_best_134 : decode cX1_best 134 = .ok (.iconst 2, 1) := dk_5 (dk_at dksX1_best_5 17 rfl rfl)
theorem dX1_best_135 : decode cX1_best 135 = .ok (.irem, 1) := dk_112 (dk_at dksX1_best_5 18 rfl rfl)
theorem dX1_best_136 : decode cX1_best 136 = .ok (.iconst 1, 1) := dk_4 (dk_at dksX1_best_5 19 rfl rfl)
theorem dX1_best_137 : decode cX1_best 137 = .ok (.if_icmp .ne 7, 3) := dk_160 0 7 (dk_at dksX1_best_5 20 rfl rfl)
theorem dX1_best_140 : decode cX1_best 140 = .ok (.iconst 0, 1) := dk_3 (dk_at dksX1_best_5 23 rfl rfl)
theorem dX1_best_141 : decode cX1_best 141 = .ok (.goto 4, 3) := dk_167 0 4 (dk_at dksX1_best_6 0 rfl rfl)
theorem dX1_best_144 : decode cX1_best 144 = .ok (.iconst 2, 1) := dk_5 (dk_at dksX1_best_6 3 rfl rfl)
theorem dX1_best_145 : decode cX1_best 145 = .ok (.invokevirtual 223, 3) := dk_182 0 223 (dk_at dksX1_best_6 4 rfl rfl)
theorem dX1_best_148 : decode cX1_best 148 = .ok (.aload_n 0, 1) := dk_42 (dk_at dksX1_best_6 7 rfl rfl)
theorem dX1_best_149 : decode cX1_best 149 = .ok (.getfield 46, 3) := dk_180 0 46 (dk_at dksX1_best_6 8 rfl rfl)
theorem dX1_best_152 : decode cX1_best 152 = .ok (.iconst 0, 1) := dk_3 (dk_at dksX1_best_6 11 rfl rfl)
theorem dX1_best_153 : decode cX1_best 153 = .ok (.invokevirtual 248, 3) := dk_182 0 248 (dk_at dksX1_best_6 12 rfl rfl)
theorem dX1_best_156 : decode cX1_best 156 = .ok (.lstore 9, 2) := dk_55 9 (dk_at dksX1_best_6 15 rfl rfl)
theorem dX1_best_158 : decode cX1_best 158 = .ok (.lload 9, 2) := dk_22 9 (dk_at dksX1_best_6 17 rfl rfl)
theorem dX1_best_160 : decode cX1_best 160 = .ok (.lload 6, 2) := dk_22 6 (dk_at dksX1_best_6 19 rfl rfl)
theorem dX1_best_162 : decode cX1_best 162 = .ok (.lcmp, 1) := dk_148 (dk_at dksX1_best_6 21 rfl rfl)
theorem dX1_best_163 : decode cX1_best 163 = .ok (.ifCond .gt 6, 3) := dk_157 0 6 (dk_at dksX1_best_7 0 rfl rfl)
theorem dX1_best_166 : decode cX1_best 166 = .ok (.goto 14, 3) := dk_167 0 14 (dk_at dksX1_best_7 3 rfl rfl)
theorem dX1_best_169 : decode cX1_best 169 = .ok (.iload 8, 2) := dk_21 8 (dk_at dksX1_best_7 6 rfl rfl)
theorem dX1_best_171 : decode cX1_best 171 = .ok (.invokestatic 266, 3) := dk_184 1 10 (dk_at dksX1_best_7 8 rfl rfl)
theorem dX1_best_174 : decode cX1_best 174 = .ok (.istore 5, 2) := dk_54 5 (dk_at dksX1_best_7 11 rfl rfl)
theorem dX1_best_176 : decode cX1_best 176 = .ok (.lload 9, 2) := dk_22 9 (dk_at dksX1_best_7 13 rfl rfl)
theorem dX1_best_178 : decode cX1_best 178 = .ok (.lstore 6, 2) := dk_55 6 (dk_at dksX1_best_7 15 rfl rfl)
theorem dX1_best_180 : decode cX1_best 180 = .ok (.iinc 8 1, 3) := dk_132 8 1 (dk_at dksX1_best_7 17 rfl rfl)
theorem dX1_best_183 : decode cX1_best 183 = .ok (.goto (-121), 3) := dk_167 255 135 (dk_at dksX1_best_7 20 rfl rfl)
theorem dX1_best_186 : decode cX1_best 186 = .ok (.iload 5, 2) := dk_21 5 (dk_at dksX1_best_8 0 rfl rfl)
theorem dX1_best_188 : decode cX1_best 188 = .ok (.ireturn, 1) := dk_172 (dk_at dksX1_best_8 2 rfl rfl)
abbrev cX1_rests : ByteArray := prog_1_method_34_code
def yX1_rests : MethodName := ⟨RX1, "rests", "(III)I"⟩
def dkwX1_rests_1 : List UInt8 := [182, 1, 19, 42, 180, 0, 55, 180, 1, 22, 172]
abbrev dktX1_rests_1 : List UInt8 := dkwX1_rests_1 ++ []
def dkwX1_rests_0 : List UInt8 := [42, 182, 0, 83, 42, 27, 28, 29, 182, 1, 16, 154, 0, 9, 42, 4, 182, 0, 97, 172, 42, 180, 0, 55]
abbrev dktX1_rests_0 : List UInt8 := dkwX1_rests_0 ++ dktX1_rests_1
theorem dksX1_rests_0 : cX1_rests.data.toList.drop 0 = dktX1_rests_0 := by decide +kernel
theorem dksX1_rests_1 : cX1_rests.data.toList.drop 24 = dktX1_rests_1 := dk_seg dksX1_rests_0 24 rfl rfl
theorem dX1_rests_0 : decode cX1_rests 0 = .ok (.aload_n 0, 1) := dk_42 (dk_at dksX1_rests_0 0 rfl rfl)
theorem dX1_rests_1 : decode cX1_rests 1 = .ok (.invokevirtual 83, 3) := dk_182 0 83 (dk_at dksX1_rests_0 1 rfl rfl)
theorem dX1_rests_4 : decode cX1_rests 4 = .ok (.aload_n 0, 1) := dk_42 (dk_at dksX1_rests_0 4 rfl rfl)
theorem dX1_rests_5 : decode cX1_rests 5 = .ok (.iload_n 1, 1) := dk_27 (dk_at dksX1_rests_0 5 rfl rfl)
theorem dX1_rests_6 : decode cX1_rests 6 = .ok (.iload_n 2, 1) := dk_28 (dk_at dksX1_rests_0 6 rfl rfl)
theorem dX1_rests_7 : decode cX1_rests 7 = .ok (.iload_n 3, 1) := dk_29 (dk_at dksX1_rests_0 7 rfl rfl)
theorem dX1_rests_8 : decode cX1_rests 8 = .ok (.invokevirtual 272, 3) := dk_182 1 16 (dk_at dksX1_rests_0 8 rfl rfl)
theorem dX1_rests_11 : decode cX1_rests 11 = .ok (.ifCond .ne 9, 3) := dk_154 0 9 (dk_at dksX1_rests_0 11 rfl rfl)
theorem dX1_rests_14 : decode cX1_rests 14 = .ok (.aload_n 0, 1) := dk_42 (dk_at dksX1_rests_0 14 rfl rfl)
theorem dX1_rests_15 : decode cX1_rests 15 = .ok (.iconst 1, 1) := dk_4 (dk_at dksX1_rests_0 15 rfl rfl)
theorem dX1_rests_16 : decode cX1_rests 16 = .ok (.invokevirtual 97, 3) := dk_182 0 97 (dk_at dksX1_rests_0 16 rfl rfl)
theorem dX1_rests_19 : decode cX1_rests 19 = .ok (.ireturn, 1) := dk_172 (dk_at dksX1_rests_0 19 rfl rfl)
theorem dX1_rests_20 : decode cX1_rests 20 = .ok (.aload_n 0, 1) := dk_42 (dk_at dksX1_rests_0 20 rfl rfl)
theorem dX1_rests_21 : decode cX1_rests 21 = .ok (.getfield 55, 3) := dk_180 0 55 (dk_at dksX1_rests_0 21 rfl rfl)
theorem dX1_rests_24 : decode cX1_rests 24 = .ok (.invokevirtual 275, 3) := dk_182 1 19 (dk_at dksX1_rests_1 0 rfl rfl)
theorem dX1_rests_27 : decode cX1_rests 27 = .ok (.aload_n 0, 1) := dk_42 (dk_at dksX1_rests_1 3 rfl rfl)
theorem dX1_rests_28 : decode cX1_rests 28 = .ok (.getfield 55, 3) := dk_180 0 55 (dk_at dksX1_rests_1 4 rfl rfl)
theorem dX1_rests_31 : decode cX1_rests 31 = .ok (.getfield 278, 3) := dk_180 1 22 (dk_at dksX1_rests_1 7 rfl rfl)
theorem dX1_rests_34 : decode cX1_rests 34 = .ok (.ireturn, 1) := dk_172 (dk_at dksX1_rests_1 10 rfl rfl)
abbrev cX1_layGame : ByteArray := prog_1_method_33_code
def yX1_layGame : MethodName := ⟨RX1, "layGame", "(III)Z"⟩
def dkwX1_layGame_2 : List UInt8 := [180, 0, 108, 180, 0, 176, 29, 50, 182, 1, 13, 4, 172]
abbrev dktX1_layGame_2 : List UInt8 := dkwX1_layGame_2 ++ []
def dkwX1_layGame_1 : List UInt8 := [87, 42, 180, 0, 55, 42, 180, 0, 108, 180, 0, 143, 27, 50, 42, 180, 0, 108, 180, 0, 176, 28, 50, 42]
abbrev dktX1_layGame_1 : List UInt8 := dkwX1_layGame_1 ++ dktX1_layGame_2
def dkwX1_layGame_0 : List UInt8 := [42, 27, 182, 0, 140, 153, 0, 12, 42, 28, 29, 182, 0, 216, 154, 0, 5, 3, 172, 42, 27, 182, 0, 209]
abbrev dktX1_layGame_0 : List UInt8 := dkwX1_layGame_0 ++ dktX1_layGame_1
theorem dksX1_layGame_0 : cX1_layGame.data.toList.drop 0 = dktX1_layGame_0 := by decide +kernel
theorem dksX1_layGame_1 : cX1_layGame.data.toList.drop 24 = dktX1_layGame_1 := dk_seg dksX1_layGame_0 24 rfl rfl
theorem dksX1_layGame_2 : cX1_layGame.data.toList.drop 48 = dktX1_layGame_2 := dk_seg dksX1_layGame_1 24 rfl rfl
theorem dX1_layGame_0 : decode cX1_layGame 0 = .ok (.aload_n 0, 1) := dk_42 (dk_at dksX1_layGame_0 0 rfl rfl)
theorem dX1_layGame_1 : decode cX1_layGame 1 = .ok (.iload_n 1, 1) := dk_27 (dk_at dksX1_layGame_0 1 rfl rfl)
theorem dX1_layGame_2 : decode cX1_layGame 2 = .ok (.invokevirtual 140, 3) := dk_182 0 140 (dk_at dksX1_layGame_0 2 rfl rfl)
theorem dX1_layGame_5 : decode cX1_layGame 5 = .ok (.ifCond .eq 12, 3) := dk_153 0 12 (dk_at dksX1_layGame_0 5 rfl rfl)
theorem dX1_layGame_8 : decode cX1_layGame 8 = .ok (.aload_n 0, 1) := dk_42 (dk_at dksX1_layGame_0 8 rfl rfl)
theorem dX1_layGame_9 : decode cX1_layGame 9 = .ok (.iload_n 2, 1) := dk_28 (dk_at dksX1_layGame_0 9 rfl rfl)
theorem dX1_layGame_10 : decode cX1_layGame 10 = .ok (.iload_n 3, 1) := dk_29 (dk_at dksX1_layGame_0 10 rfl rfl)
theorem dX1_layGame_11 : decode cX1_layGame 11 = .ok (.invokevirtual 216, 3) := dk_182 0 216 (dk_at dksX1_layGame_0 11 rfl rfl)
theorem dX1_layGame_14 : decode cX1_layGame 14 = .ok (.ifCond .ne 5, 3) := dk_154 0 5 (dk_at dksX1_layGame_0 14 rfl rfl)
theorem dX1_layGame_17 : decode cX1_layGame 17 = .ok (.iconst 0, 1) := dk_3 (dk_at dksX1_layGame_0 17 rfl rfl)
theorem dX1_layGame_18 : decode cX1_layGame 18 = .ok (.ireturn, 1) := dk_172 (dk_at dksX1_layGame_0 18 rfl rfl)
theorem dX1_layGame_19 : decode cX1_layGame 19 = .ok (.aload_n 0, 1) := dk_42 (dk_at dksX1_layGame_0 19 rfl rfl)
theorem dX1_layGame_20 : decode cX1_layGame 20 = .ok (.iload_n 1, 1) := dk_27 (dk_at dksX1_layGame_0 20 rfl rfl)
theorem dX1_layGame_21 : decode cX1_layGame 21 = .ok (.invokevirtual 209, 3) := dk_182 0 209 (dk_at dksX1_layGame_0 21 rfl rfl)
theorem dX1_layGame_24 : decode cX1_layGame 24 = .ok (.pop, 1) := dk_87 (dk_at dksX1_layGame_1 0 rfl rfl)
theorem dX1_layGame_25 : decode cX1_layGame 25 = .ok (.aload_n 0, 1) := dk_42 (dk_at dksX1_layGame_1 1 rfl rfl)
theorem dX1_layGame_26 : decode cX1_layGame 26 = .ok (.getfield 55, 3) := dk_180 0 55 (dk_at dksX1_layGame_1 2 rfl rfl)
theorem dX1_layGame_29 : decode cX1_layGame 29 = .ok (.aload_n 0, 1) := dk_42 (dk_at dksX1_layGame_1 5 rfl rfl)
theorem dX1_layGame_30 : decode cX1_layGame 30 = .ok (.getfield 108, 3) := dk_180 0 108 (dk_at dksX1_layGame_1 6 rfl rfl)
theorem dX1_layGame_33 : decode cX1_layGame 33 = .ok (.getfield 143, 3) := dk_180 0 143 (dk_at dksX1_layGame_1 9 rfl rfl)
theorem dX1_layGame_36 : decode cX1_layGame 36 = .ok (.iload_n 1, 1) := dk_27 (dk_at dksX1_layGame_1 12 rfl rfl)
theorem dX1_layGame_37 : decode cX1_layGame 37 = .ok (.aaload, 1) := dk_50 (dk_at dksX1_layGame_1 13 rfl rfl)
theorem dX1_layGame_38 : decode cX1_layGame 38 = .ok (.aload_n 0, 1) := dk_42 (dk_at dksX1_layGame_1 14 rfl rfl)
theorem dX1_layGame_39 : decode cX1_layGame 39 = .ok (.getfield 108, 3) := dk_180 0 108 (dk_at dksX1_layGame_1 15 rfl rfl)
theorem dX1_layGame_42 : decode cX1_layGame 42 = .ok (.getfield 176, 3) := dk_180 0 176 (dk_at dksX1_layGame_1 18 rfl rfl)
theorem dX1_layGame_45 : decode cX1_layGame 45 = .ok (.iload_n 2, 1) := dk_28 (dk_at dksX1_layGame_1 21 rfl rfl)
theorem dX1_layGame_46 : decode cX1_layGame 46 = .ok (.aaload, 1) := dk_50 (dk_at dksX1_layGame_1 22 rfl rfl)
theorem dX1_layGame_47 : decode cX1_layGame 47 = .ok (.aload_n 0, 1) := dk_42 (dk_at dksX1_layGame_1 23 rfl rfl)
theorem dX1_layGame_48 : decode cX1_layGame 48 = .ok (.getfield 108, 3) := dk_180 0 108 (dk_at dksX1_layGame_2 0 rfl rfl)
theorem dX1_layGame_51 : decode cX1_layGame 51 = .ok (.getfield 176, 3) := dk_180 0 176 (dk_at dksX1_layGame_2 3 rfl rfl)
theorem dX1_layGame_54 : decode cX1_layGame 54 = .ok (.iload_n 3, 1) := dk_29 (dk_at dksX1_layGame_2 6 rfl rfl)
theorem dX1_layGame_55 : decode cX1_layGame 55 = .ok (.aaload, 1) := dk_50 (dk_at dksX1_layGame_2 7 rfl rfl)
theorem dX1_layGame_56 : decode cX1_layGame 56 = .ok (.invokevirtual 269, 3) := dk_182 1 13 (dk_at dksX1_layGame_2 8 rfl rfl)
theorem dX1_layGame_59 : decode cX1_layGame 59 = .ok (.iconst 1, 1) := dk_4 (dk_at dksX1_layGame_2 11 rfl rfl)
theorem dX1_layGame_60 : decode cX1_layGame 60 = .ok (.ireturn, 1) := dk_172 (dk_at dksX1_layGame_2 12 rfl rfl)
abbrev cX1_rest : ByteArray := prog_1_method_35_code
def yX1_rest : MethodName := ⟨RX1, "rest", "(III)I"⟩
def dkwX1_rest_1 : List UInt8 := [182, 1, 19, 42, 180, 0, 55, 180, 1, 25, 172]
abbrev dktX1_rest_1 : List UInt8 := dkwX1_rest_1 ++ []
def dkwX1_rest_0 : List UInt8 := [42, 182, 0, 83, 42, 27, 28, 29, 182, 1, 16, 154, 0, 9, 42, 4, 182, 0, 97, 172, 42, 180, 0, 55]
abbrev dktX1_rest_0 : List UInt8 := dkwX1_rest_0 ++ dktX1_rest_1
theorem dksX1_rest_0 : cX1_rest.data.toList.drop 0 = dktX1_rest_0 := by decide +kernel
theorem dksX1_rest_1 : cX1_rest.data.toList.drop 24 = dktX1_rest_1 := dk_seg dksX1_rest_0 24 rfl rfl
theorem dX1_rest_0 : decode cX1_rest 0 = .ok (.aload_n 0, 1) := dk_42 (dk_at dksX1_rest_0 0 rfl rfl)
theorem dX1_rest_1 : decode cX1_rest 1 = .ok (.invokevirtual 83, 3) := dk_182 0 83 (dk_at dksX1_rest_0 1 rfl rfl)
theorem dX1_rest_4 : decode cX1_rest 4 = .ok (.aload_n 0, 1) := dk_42 (dk_at dksX1_rest_0 4 rfl rfl)
theorem dX1_rest_5 : decode cX1_rest 5 = .ok (.iload_n 1, 1) := dk_27 (dk_at dksX1_rest_0 5 rfl rfl)
theorem dX1_rest_6 : decode cX1_rest 6 = .ok (.iload_n 2, 1) := dk_28 (dk_at dksX1_rest_0 6 rfl rfl)
theorem dX1_rest_7 : decode cX1_rest 7 = .ok (.iload_n 3, 1) := dk_29 (dk_at dksX1_rest_0 7 rfl rfl)
theorem dX1_rest_8 : decode cX1_rest 8 = .ok (.invokevirtual 272, 3) := dk_182 1 16 (dk_at dksX1_rest_0 8 rfl rfl)
theorem dX1_rest_11 : decode cX1_rest 11 = .ok (.ifCond .ne 9, 3) := dk_154 0 9 (dk_at dksX1_rest_0 11 rfl rfl)
theorem dX1_rest_14 : decode cX1_rest 14 = .ok (.aload_n 0, 1) := dk_42 (dk_at dksX1_rest_0 14 rfl rfl)
theorem dX1_rest_15 : decode cX1_rest 15 = .ok (.iconst 1, 1) := dk_4 (dk_at dksX1_rest_0 15 rfl rfl)
theorem dX1_rest_16 : decode cX1_rest 16 = .ok (.invokevirtual 97, 3) := dk_182 0 97 (dk_at dksX1_rest_0 16 rfl rfl)
theorem dX1_rest_19 : decode cX1_rest 19 = .ok (.ireturn, 1) := dk_172 (dk_at dksX1_rest_0 19 rfl rfl)
theorem dX1_rest_20 : decode cX1_rest 20 = .ok (.aload_n 0, 1) := dk_42 (dk_at dksX1_rest_0 20 rfl rfl)
theorem dX1_rest_21 : decode cX1_rest 21 = .ok (.getfield 55, 3) := dk_180 0 55 (dk_at dksX1_rest_0 21 rfl rfl)
theorem dX1_rest_24 : decode cX1_rest 24 = .ok (.invokevirtual 275, 3) := dk_182 1 19 (dk_at dksX1_rest_1 0 rfl rfl)
theorem dX1_rest_27 : decode cX1_rest 27 = .ok (.aload_n 0, 1) := dk_42 (dk_at dksX1_rest_1 3 rfl rfl)
theorem dX1_rest_28 : decode cX1_rest 28 = .ok (.getfield 55, 3) := dk_180 0 55 (dk_at dksX1_rest_1 4 rfl rfl)
theorem dX1_rest_31 : decode cX1_rest 31 = .ok (.getfield 281, 3) := dk_180 1 25 (dk_at dksX1_rest_1 7 rfl rfl)
theorem dX1_rest_34 : decode cX1_rest 34 = .ok (.ireturn, 1) := dk_172 (dk_at dksX1_rest_1 10 rfl rfl)
abbrev cX1_sure : ByteArray := prog_1_method_36_code
def yX1_sure : MethodName := ⟨RX1, "sure", "(IIIZ)J"⟩
def dkwX1_sure_1 : List UInt8 := [180, 0, 55, 182, 1, 28, 42, 180, 0, 46, 182, 0, 252, 21, 4, 184, 1, 0, 173]
abbrev dktX1_sure_1 : List UInt8 := dkwX1_sure_1 ++ []
def dkwX1_sure_0 : List UInt8 := [42, 182, 0, 83, 42, 27, 28, 29, 182, 1, 16, 154, 0, 10, 42, 4, 182, 0, 97, 133, 173, 42]
abbrev dktX1_sure_0 : List UInt8 := dkwX1_sure_0 ++ dktX1_sure_1
theorem dksX1_sure_0 : cX1_sure.data.toList.drop 0 = dktX1_sure_0 := by decide +kernel
theorem dksX1_sure_1 : cX1_sure.data.toList.drop 22 = dktX1_sure_1 := dk_seg dksX1_sure_0 22 rfl rfl
theorem dX1_sure_0 : decode cX1_sure 0 = .ok (.aload_n 0, 1) := dk_42 (dk_at dksX1_sure_0 0 rfl rfl)
theorem dX1_sure_1 : decode cX1_sure 1 = .ok (.invokevirtual 83, 3) := dk_182 0 83 (dk_at dksX1_sure_0 1 rfl rfl)
theorem dX1_sure_4 : decode cX1_sure 4 = .ok (.aload_n 0, 1) := dk_42 (dk_at dksX1_sure_0 4 rfl rfl)
theorem dX1_sure_5 : decode cX1_sure 5 = .ok (.iload_n 1, 1) := dk_27 (dk_at dksX1_sure_0 5 rfl rfl)
theorem dX1_sure_6 : decode cX1_sure 6 = .ok (.iload_n 2, 1) := dk_28 (dk_at dksX1_sure_0 6 rfl rfl)
theorem dX1_sure_7 : decode cX1_sure 7 = .ok (.iload_n 3, 1) := dk_29 (dk_at dksX1_sure_0 7 rfl rfl)
theorem dX1_sure_8 : decode cX1_sure 8 = .ok (.invokevirtual 272, 3) := dk_182 1 16 (dk_at dksX1_sure_0 8 rfl rfl)
theorem dX1_sure_11 : decode cX1_sure 11 = .ok (.ifCond .ne 10, 3) := dk_154 0 10 (dk_at dksX1_sure_0 11 rfl rfl)
theorem dX1_sure_14 : decode cX1_sure 14 = .ok (.aload_n 0, 1) := dk_42 (dk_at dksX1_sure_0 14 rfl rfl)
theorem dX1_sure_15 : decode cX1_sure 15 = .ok (.iconst 1, 1) := dk_4 (dk_at dksX1_sure_0 15 rfl rfl)
theorem dX1_sure_16 : decode cX1_sure 16 = .ok (.invokevirtual 97, 3) := dk_182 0 97 (dk_at dksX1_sure_0 16 rfl rfl)
theorem dX1_sure_19 : decode cX1_sure 19 = .ok (.i2l, 1) := dk_133 (dk_at dksX1_sure_0 19 rfl rfl)
theorem dX1_sure_20 : decode cX1_sure 20 = .ok (.lreturn, 1) := dk_173 (dk_at dksX1_sure_0 20 rfl rfl)
theorem dX1_sure_21 : decode cX1_sure 21 = .ok (.aload_n 0, 1) := dk_42 (dk_at dksX1_sure_0 21 rfl rfl)
theorem dX1_sure_22 : decode cX1_sure 22 = .ok (.getfield 55, 3) := dk_180 0 55 (dk_at dksX1_sure_1 0 rfl rfl)
theorem dX1_sure_25 : decode cX1_sure 25 = .ok (.invokevirtual 284, 3) := dk_182 1 28 (dk_at dksX1_sure_1 3 rfl rfl)
theorem dX1_sure_28 : decode cX1_sure 28 = .ok (.aload_n 0, 1) := dk_42 (dk_at dksX1_sure_1 6 rfl rfl)
theorem dX1_sure_29 : decode cX1_sure 29 = .ok (.getfield 46, 3) := dk_180 0 46 (dk_at dksX1_sure_1 7 rfl rfl)
theorem dX1_sure_32 : decode cX1_sure 32 = .ok (.invokevirtual 252, 3) := dk_182 0 252 (dk_at dksX1_sure_1 10 rfl rfl)
theorem dX1_sure_35 : decode cX1_sure 35 = .ok (.iload 4, 2) := dk_21 4 (dk_at dksX1_sure_1 13 rfl rfl)
theorem dX1_sure_37 : decode cX1_sure 37 = .ok (.invokestatic 256, 3) := dk_184 1 0 (dk_at dksX1_sure_1 15 rfl rfl)
theorem dX1_sure_40 : decode cX1_sure 40 = .ok (.lreturn, 1) := dk_173 (dk_at dksX1_sure_1 18 rfl rfl)
abbrev cX1_curve : ByteArray := prog_1_method_38_code
def yX1_curve : MethodName := ⟨RX1, "curve", "(IIIIZ)J"⟩
def dkwX1_curve_2 : List UInt8 := [27, 28, 29, 21, 4, 182, 1, 35, 42, 180, 0, 46, 182, 0, 252, 21, 5, 184, 1, 0, 173]
abbrev dktX1_curve_2 : List UInt8 := dkwX1_curve_2 ++ []
def dkwX1_curve_1 : List UInt8 := [182, 0, 97, 133, 173, 21, 4, 3, 16, 24, 184, 0, 93, 154, 0, 10, 42, 5, 182, 0, 97, 133, 173, 42]
abbrev dktX1_curve_1 : List UInt8 := dkwX1_curve_1 ++ dktX1_curve_2
def dkwX1_curve_0 : List UInt8 := [42, 182, 0, 83, 42, 27, 182, 0, 140, 153, 0, 12, 42, 28, 29, 182, 0, 216, 154, 0, 10, 42, 4]
abbrev dktX1_curve_0 : List UInt8 := dkwX1_curve_0 ++ dktX1_curve_1
theorem dksX1_curve_0 : cX1_curve.data.toList.drop 0 = dktX1_curve_0 := by decide +kernel
theorem dksX1_curve_1 : cX1_curve.data.toList.drop 23 = dktX1_curve_1 := dk_seg dksX1_curve_0 23 rfl rfl
theorem dksX1_curve_2 : cX1_curve.data.toList.drop 47 = dktX1_curve_2 := dk_seg dksX1_curve_1 24 rfl rfl
theorem dX1_curve_0 : decode cX1_curve 0 = .ok (.aload_n 0, 1) := dk_42 (dk_at dksX1_curve_0 0 rfl rfl)
theorem dX1_curve_1 : decode cX1_curve 1 = .ok (.invokevirtual 83, 3) := dk_182 0 83 (dk_at dksX1_curve_0 1 rfl rfl)
theorem dX1_curve_4 : decode cX1_curve 4 = .ok (.aload_n 0, 1) := dk_42 (dk_at dksX1_curve_0 4 rfl rfl)
theorem dX1_curve_5 : decode cX1_curve 5 = .ok (.iload_n 1, 1) := dk_27 (dk_at dksX1_curve_0 5 rfl rfl)
theorem dX1_curve_6 : decode cX1_curve 6 = .ok (.invokevirtual 140, 3) := dk_182 0 140 (dk_at dksX1_curve_0 6 rfl rfl)
theorem dX1_curve_9 : decode cX1_curve 9 = .ok (.ifCond .eq 12, 3) := dk_153 0 12 (dk_at dksX1_curve_0 9 rfl rfl)
theorem dX1_curve_12 : decode cX1_curve 12 = .ok (.aload_n 0, 1) := dk_42 (dk_at dksX1_curve_0 12 rfl rfl)
theorem dX1_curve_13 : decode cX1_curve 13 = .ok (.iload_n 2, 1) := dk_28 (dk_at dksX1_curve_0 13 rfl rfl)
theorem dX1_curve_14 : decode cX1_curve 14 = .ok (.iload_n 3, 1) := dk_29 (dk_at dksX1_curve_0 14 rfl rfl)
theorem dX1_curve_15 : decode cX1_curve 15 = .ok (.invokevirtual 216, 3) := dk_182 0 216 (dk_at dksX1_curve_0 15 rfl rfl)
theorem dX1_curve_18 : decode cX1_curve 18 = .ok (.ifCond .ne 10, 3) := dk_154 0 10 (dk_at dksX1_curve_0 18 rfl rfl)
theorem dX1_curve_21 : decode cX1_curve 21 = .ok (.aload_n 0, 1) := dk_42 (dk_at dksX1_curve_0 21 rfl rfl)
theorem dX1_curve_22 : decode cX1_curve 22 = .ok (.iconst 1, 1) := dk_4 (dk_at dksX1_curve_0 22 rfl rfl)
theorem dX1_curve_23 : decode cX1_curve 23 = .ok (.invokevirtual 97, 3) := dk_182 0 97 (dk_at dksX1_curve_1 0 rfl rfl)
theorem dX1_curve_26 : decode cX1_curve 26 = .ok (.i2l, 1) := dk_133 (dk_at dksX1_curve_1 3 rfl rfl)
theorem dX1_curve_27 : decode cX1_curve 27 = .ok (.lreturn, 1) := dk_173 (dk_at dksX1_curve_1 4 rfl rfl)
theorem dX1_curve_28 : decode cX1_curve 28 = .ok (.iload 4, 2) := dk_21 4 (dk_at dksX1_curve_1 5 rfl rfl)
theorem dX1_curve_30 : decode cX1_curve 30 = .ok (.iconst 0, 1) := dk_3 (dk_at dksX1_curve_1 7 rfl rfl)
theorem dX1_curve_31 : decode cX1_curve 31 = .ok (.bipush 24, 2) := dk_16 24 (dk_at dksX1_curve_1 8 rfl rfl)
theorem dX1_curve_33 : decode cX1_curve 33 = .ok (.invokestatic 93, 3) := dk_184 0 93 (dk_at dksX1_curve_1 10 rfl rfl)
theorem dX1_curve_36 : decode cX1_curve 36 = .ok (.ifCond .ne 10, 3) := dk_154 0 10 (dk_at dksX1_curve_1 13 rfl rfl)
theorem dX1_curve_39 : decode cX1_curve 39 = .ok (.aload_n 0, 1) := dk_42 (dk_at dksX1_curve_1 16 rfl rfl)
theorem dX1_curve_40 : decode cX1_curve 40 = .ok (.iconst 2, 1) := dk_5 (dk_at dksX1_curve_1 17 rfl rfl)
theorem dX1_curve_41 : decode cX1_curve 41 = .ok (.invokevirtual 97, 3) := dk_182 0 97 (dk_at dksX1_curve_1 18 rfl rfl)
theorem dX1_curve_44 : decode cX1_curve 44 = .ok (.i2l, 1) := dk_133 (dk_at dksX1_curve_1 21 rfl rfl)
theorem dX1_curve_45 : decode cX1_curve 45 = .ok (.lreturn, 1) := dk_173 (dk_at dksX1_curve_1 22 rfl rfl)
theorem dX1_curve_46 : decode cX1_curve 46 = .ok (.aload_n 0, 1) := dk_42 (dk_at dksX1_curve_1 23 rfl rfl)
theorem dX1_curve_47 : decode cX1_curve 47 = .ok (.iload_n 1, 1) := dk_27 (dk_at dksX1_curve_2 0 rfl rfl)
theorem dX1_curve_48 : decode cX1_curve 48 = .ok (.iload_n 2, 1) := dk_28 (dk_at dksX1_curve_2 1 rfl rfl)
theorem dX1_curve_49 : decode cX1_curve 49 = .ok (.iload_n 3, 1) := dk_29 (dk_at dksX1_curve_2 2 rfl rfl)
theorem dX1_curve_50 : decode cX1_curve 50 = .ok (.iload 4, 2) := dk_21 4 (dk_at dksX1_curve_2 3 rfl rfl)
theorem dX1_curve_52 : decode cX1_curve 52 = .ok (.invokevirtual 291, 3) := dk_182 1 35 (dk_at dksX1_curve_2 5 rfl rfl)
theorem dX1_curve_55 : decode cX1_curve 55 = .ok (.aload_n 0, 1) := dk_42 (dk_at dksX1_curve_2 8 rfl rfl)
theorem dX1_curve_56 : decode cX1_curve 56 = .ok (.getfield 46, 3) := dk_180 0 46 (dk_at dksX1_curve_2 9 rfl rfl)
theorem dX1_curve_59 : decode cX1_curve 59 = .ok (.invokevirtual 252, 3) := dk_182 0 252 (dk_at dksX1_curve_2 12 rfl rfl)
theorem dX1_curve_62 : decode cX1_curve 62 = .ok (.iload 5, 2) := dk_21 5 (dk_at dksX1_curve_2 15 rfl rfl)
theorem dX1_curve_64 : decode cX1_curve 64 = .ok (.invokestatic 256, 3) := dk_184 1 0 (dk_at dksX1_curve_2 17 rfl rfl)
theorem dX1_curve_67 : decode cX1_curve 67 = .ok (.lreturn, 1) := dk_173 (dk_at dksX1_curve_2 20 rfl rfl)
abbrev cX1_curveOf : ByteArray := prog_1_method_37_code
def yX1_curveOf : MethodName := ⟨RX1, "curveOf", "(IIII)J"⟩
def dkwX1_curveOf_1 : List UInt8 := [50, 182, 1, 31, 42, 180, 0, 46, 3, 182, 0, 248, 173]
abbrev dktX1_curveOf_1 : List UInt8 := dkwX1_curveOf_1 ++ []
def dkwX1_curveOf_0 : List UInt8 := [42, 27, 21, 4, 182, 0, 201, 42, 180, 0, 108, 180, 0, 176, 28, 50, 42, 180, 0, 108, 180, 0, 176, 29]
abbrev dktX1_curveOf_0 : List UInt8 := dkwX1_curveOf_0 ++ dktX1_curveOf_1
theorem dksX1_curveOf_0 : cX1_curveOf.data.toList.drop 0 = dktX1_curveOf_0 := by decide +kernel
theorem dksX1_curveOf_1 : cX1_curveOf.data.toList.drop 24 = dktX1_curveOf_1 := dk_seg dksX1_curveOf_0 24 rfl rfl
theorem dX1_curveOf_0 : decode cX1_curveOf 0 = .ok (.aload_n 0, 1) := dk_42 (dk_at dksX1_curveOf_0 0 rfl rfl)
theorem dX1_curveOf_1 : decode cX1_curveOf 1 = .ok (.iload_n 1, 1) := dk_27 (dk_at dksX1_curveOf_0 1 rfl rfl)
theorem dX1_curveOf_2 : decode cX1_curveOf 2 = .ok (.iload 4, 2) := dk_21 4 (dk_at dksX1_curveOf_0 2 rfl rfl)
theorem dX1_curveOf_4 : decode cX1_curveOf 4 = .ok (.invokevirtual 201, 3) := dk_182 0 201 (dk_at dksX1_curveOf_0 4 rfl rfl)
theorem dX1_curveOf_7 : decode cX1_curveOf 7 = .ok (.aload_n 0, 1) := dk_42 (dk_at dksX1_curveOf_0 7 rfl rfl)
theorem dX1_curveOf_8 : decode cX1_curveOf 8 = .ok (.getfield 108, 3) := dk_180 0 108 (dk_at dksX1_curveOf_0 8 rfl rfl)
theorem dX1_curveOf_11 : decode cX1_curveOf 11 = .ok (.getfield 176, 3) := dk_180 0 176 (dk_at dksX1_curveOf_0 11 rfl rfl)
theorem dX1_curveOf_14 : decode cX1_curveOf 14 = .ok (.iload_n 2, 1) := dk_28 (dk_at dksX1_curveOf_0 14 rfl rfl)
theorem dX1_curveOf_15 : decode cX1_curveOf 15 = .ok (.aaload, 1) := dk_50 (dk_at dksX1_curveOf_0 15 rfl rfl)
theorem dX1_curveOf_16 : decode cX1_curveOf 16 = .ok (.aload_n 0, 1) := dk_42 (dk_at dksX1_curveOf_0 16 rfl rfl)
theorem dX1_curveOf_17 : decode cX1_curveOf 17 = .ok (.getfield 108, 3) := dk_180 0 108 (dk_at dksX1_curveOf_0 17 rfl rfl)
theorem dX1_curveOf_20 : decode cX1_curveOf 20 = .ok (.getfield 176, 3) := dk_180 0 176 (dk_at dksX1_curveOf_0 20 rfl rfl)
theorem dX1_curveOf_23 : decode cX1_curveOf 23 = .ok (.iload_n 3, 1) := dk_29 (dk_at dksX1_curveOf_0 23 rfl rfl)
theorem dX1_curveOf_24 : decode cX1_curveOf 24 = .ok (.aaload, 1) := dk_50 (dk_at dksX1_curveOf_1 0 rfl rfl)
theorem dX1_curveOf_25 : decode cX1_curveOf 25 = .ok (.invokevirtual 287, 3) := dk_182 1 31 (dk_at dksX1_curveOf_1 1 rfl rfl)
theorem dX1_curveOf_28 : decode cX1_curveOf 28 = .ok (.aload_n 0, 1) := dk_42 (dk_at dksX1_curveOf_1 4 rfl rfl)
theorem dX1_curveOf_29 : decode cX1_curveOf 29 = .ok (.getfield 46, 3) := dk_180 0 46 (dk_at dksX1_curveOf_1 5 rfl rfl)
theorem dX1_curveOf_32 : decode cX1_curveOf 32 = .ok (.iconst 0, 1) := dk_3 (dk_at dksX1_curveOf_1 8 rfl rfl)
theorem dX1_curveOf_33 : decode cX1_curveOf 33 = .ok (.invokevirtual 248, 3) := dk_182 0 248 (dk_at dksX1_curveOf_1 9 rfl rfl)
theorem dX1_curveOf_36 : decode cX1_curveOf 36 = .ok (.lreturn, 1) := dk_173 (dk_at dksX1_curveOf_1 12 rfl rfl)
abbrev cX1_bestDay : ByteArray := prog_1_method_39_code
def yX1_bestDay : MethodName := ⟨RX1, "bestDay", "(III)I"⟩
def dkwX1_bestDay_3 : List UInt8 := [167, 255, 220, 21, 4, 172]
abbrev dktX1_bestDay_3 : List UInt8 := dkwX1_bestDay_3 ++ []
def dkwX1_bestDay_2 : List UInt8 := [182, 1, 35, 42, 27, 28, 29, 21, 4, 182, 1, 35, 148, 158, 0, 7, 21, 5, 54, 4, 132, 5, 1]
abbrev dktX1_bestDay_2 : List UInt8 := dkwX1_bestDay_2 ++ dktX1_bestDay_3
def dkwX1_bestDay_1 : List UInt8 := [182, 0, 97, 172, 3, 54, 4, 4, 54, 5, 21, 5, 16, 24, 163, 0, 35, 42, 27, 28, 29, 21, 5]
abbrev dktX1_bestDay_1 : List UInt8 := dkwX1_bestDay_1 ++ dktX1_bestDay_2
def dkwX1_bestDay_0 : List UInt8 := [42, 182, 0, 83, 42, 27, 182, 0, 140, 153, 0, 12, 42, 28, 29, 182, 0, 216, 154, 0, 9, 42, 4]
abbrev dktX1_bestDay_0 : List UInt8 := dkwX1_bestDay_0 ++ dktX1_bestDay_1
theorem dksX1_bestDay_0 : cX1_bestDay.data.toList.drop 0 = dktX1_bestDay_0 := by decide +kernel
theorem dksX1_bestDay_1 : cX1_bestDay.data.toList.drop 23 = dktX1_bestDay_1 := dk_seg dksX1_bestDay_0 23 rfl rfl
theorem dksX1_bestDay_2 : cX1_bestDay.data.toList.drop 46 = dktX1_bestDay_2 := dk_seg dksX1_bestDay_1 23 rfl rfl
theorem dksX1_bestDay_3 : cX1_bestDay.data.toList.drop 69 = dktX1_bestDay_3 := dk_seg dksX1_bestDay_2 23 rfl rfl
theorem dX1_bestDay_0 : decode cX1_bestDay 0 = .ok (.aload_n 0, 1) := dk_42 (dk_at dksX1_bestDay_0 0 rfl rfl)
theorem dX1_bestDay_1 : decode cX1_bestDay 1 = .ok (.invokevirtual 83, 3) := dk_182 0 83 (dk_at dksX1_bestDay_0 1 rfl rfl)
theorem dX1_bestDay_4 : decode cX1_bestDay 4 = .ok (.aload_n 0, 1) := dk_42 (dk_at dksX1_bestDay_0 4 rfl rfl)
theorem dX1_bestDay_5 : decode cX1_bestDay 5 = .ok (.iload_n 1, 1) := dk_27 (dk_at dksX1_bestDay_0 5 rfl rfl)
theorem dX1_bestDay_6 : decode cX1_bestDay 6 = .ok (.invokevirtual 140, 3) := dk_182 0 140 (dk_at dksX1_bestDay_0 6 rfl rfl)
theorem dX1_bestDay_9 : decode cX1_bestDay 9 = .ok (.ifCond .eq 12, 3) := dk_153 0 12 (dk_at dksX1_bestDay_0 9 rfl rfl)
theorem dX1_bestDay_12 : decode cX1_bestDay 12 = .ok (.aload_n 0, 1) := dk_42 (dk_at dksX1_bestDay_0 12 rfl rfl)
theorem dX1_bestDay_13 : decode cX1_bestDay 13 = .ok (.iload_n 2, 1) := dk_28 (dk_at dksX1_bestDay_0 13 rfl rfl)
theorem dX1_bestDay_14 : decode cX1_bestDay 14 = .ok (.iload_n 3, 1) := dk_29 (dk_at dksX1_bestDay_0 14 rfl rfl)
theorem dX1_bestDay_15 : decode cX1_bestDay 15 = .ok (.invokevirtual 216, 3) := dk_182 0 216 (dk_at dksX1_bestDay_0 15 rfl rfl)
theorem dX1_bestDay_18 : decode cX1_bestDay 18 = .ok (.ifCond .ne 9, 3) := dk_154 0 9 (dk_at dksX1_bestDay_0 18 rfl rfl)
theorem dX1_bestDay_21 : decode cX1_bestDay 21 = .ok (.aload_n 0, 1) := dk_42 (dk_at dksX1_bestDay_0 21 rfl rfl)
theorem dX1_bestDay_22 : decode cX1_bestDay 22 = .ok (.iconst 1, 1) := dk_4 (dk_at dksX1_bestDay_0 22 rfl rfl)
theorem dX1_bestDay_23 : decode cX1_bestDay 23 = .ok (.invokevirtual 97, 3) := dk_182 0 97 (dk_at dksX1_bestDay_1 0 rfl rfl)
theorem dX1_bestDay_26 : decode cX1_bestDay 26 = .ok (.ireturn, 1) := dk_172 (dk_at dksX1_bestDay_1 3 rfl rfl)
theorem dX1_bestDay_27 : decode cX1_bestDay 27 = .ok (.iconst 0, 1) := dk_3 (dk_at dksX1_bestDay_1 4 rfl rfl)
theorem dX1_bestDay_28 : decode cX1_bestDay 28 = .ok (.istore 4, 2) := dk_54 4 (dk_at dksX1_bestDay_1 5 rfl rfl)
theorem dX1_bestDay_30 : decode cX1_bestDay 30 = .ok (.iconst 1, 1) := dk_4 (dk_at dksX1_bestDay_1 7 rfl rfl)
theorem dX1_bestDay_31 : decode cX1_bestDay 31 = .ok (.istore 5, 2) := dk_54 5 (dk_at dksX1_bestDay_1 8 rfl rfl)
theorem dX1_bestDay_33 : decode cX1_bestDay 33 = .ok (.iload 5, 2) := dk_21 5 (dk_at dksX1_bestDay_1 10 rfl rfl)
theorem dX1_bestDay_35 : decode cX1_bestDay 35 = .ok (.bipush 24, 2) := dk_16 24 (dk_at dksX1_bestDay_1 12 rfl rfl)
theorem dX1_bestDay_37 : decode cX1_bestDay 37 = .ok (.if_icmp .gt 35, 3) := dk_163 0 35 (dk_at dksX1_bestDay_1 14 rfl rfl)
theorem dX1_bestDay_40 : decode cX1_bestDay 40 = .ok (.aload_n 0, 1) := dk_42 (dk_at dksX1_bestDay_1 17 rfl rfl)
theorem dX1_bestDay_41 : decode cX1_bestDay 41 = .ok (.iload_n 1, 1) := dk_27 (dk_at dksX1_bestDay_1 18 rfl rfl)
theorem dX1_bestDay_42 : decode cX1_bestDay 42 = .ok (.iload_n 2, 1) := dk_28 (dk_at dksX1_bestDay_1 19 rfl rfl)
theorem dX1_bestDay_43 : decode cX1_bestDay 43 = .ok (.iload_n 3, 1) := dk_29 (dk_at dksX1_bestDay_1 20 rfl rfl)
theorem dX1_bestDay_44 : decode cX1_bestDay 44 = .ok (.iload 5, 2) := dk_21 5 (dk_at dksX1_bestDay_1 21 rfl rfl)
theorem dX1_bestDay_46 : decode cX1_bestDay 46 = .ok (.invokevirtual 291, 3) := dk_182 1 35 (dk_at dksX1_bestDay_2 0 rfl rfl)
theorem dX1_bestDay_49 : decode cX1_bestDay 49 = .ok (.aload_n 0, 1) := dk_42 (dk_at dksX1_bestDay_2 3 rfl rfl)
theorem dX1_bestDay_50 : decode cX1_bestDay 50 = .ok (.iload_n 1, 1) := dk_27 (dk_at dksX1_bestDay_2 4 rfl rfl)
theorem dX1_bestDay_51 : decode cX1_bestDay 51 = .ok (.iload_n 2, 1) := dk_28 (dk_at dksX1_bestDay_2 5 rfl rfl)
theorem dX1_bestDay_52 : decode cX1_bestDay 52 = .ok (.iload_n 3, 1) := dk_29 (dk_at dksX1_bestDay_2 6 rfl rfl)
theorem dX1_bestDay_53 : decode cX1_bestDay 53 = .ok (.iload 4, 2) := dk_21 4 (dk_at dksX1_bestDay_2 7 rfl rfl)
theorem dX1_bestDay_55 : decode cX1_bestDay 55 = .ok (.invokevirtual 291, 3) := dk_182 1 35 (dk_at dksX1_bestDay_2 9 rfl rfl)
theorem dX1_bestDay_58 : decode cX1_bestDay 58 = .ok (.lcmp, 1) := dk_148 (dk_at dksX1_bestDay_2 12 rfl rfl)
theorem dX1_bestDay_59 : decode cX1_bestDay 59 = .ok (.ifCond .le 7, 3) := dk_158 0 7 (dk_at dksX1_bestDay_2 13 rfl rfl)
theorem dX1_bestDay_62 : decode cX1_bestDay 62 = .ok (.iload 5, 2) := dk_21 5 (dk_at dksX1_bestDay_2 16 rfl rfl)
theorem dX1_bestDay_64 : decode cX1_bestDay 64 = .ok (.istore 4, 2) := dk_54 4 (dk_at dksX1_bestDay_2 18 rfl rfl)
theorem dX1_bestDay_66 : decode cX1_bestDay 66 = .ok (.iinc 5 1, 3) := dk_132 5 1 (dk_at dksX1_bestDay_2 20 rfl rfl)
theorem dX1_bestDay_69 : decode cX1_bestDay 69 = .ok (.goto (-36), 3) := dk_167 255 220 (dk_at dksX1_bestDay_3 0 rfl rfl)
theorem dX1_bestDay_72 : decode cX1_bestDay 72 = .ok (.iload 4, 2) := dk_21 4 (dk_at dksX1_bestDay_3 3 rfl rfl)
theorem dX1_bestDay_74 : decode cX1_bestDay 74 = .ok (.ireturn, 1) := dk_172 (dk_at dksX1_bestDay_3 5 rfl rfl)
abbrev cX1_lawOdds : ByteArray := prog_1_method_42_code
def yX1_lawOdds : MethodName := ⟨RX1, "lawOdds", "(IIIIZ)J"⟩
def dkwX1_lawOdds_2 : List UInt8 := [20, 1, 42, 42, 28, 182, 0, 209, 182, 0, 252, 105, 21, 5, 184, 1, 0, 173]
abbrev dktX1_lawOdds_2 : List UInt8 := dkwX1_lawOdds_2 ++ []
def dkwX1_lawOdds_1 : List UInt8 := [21, 4, 182, 0, 216, 154, 0, 10, 42, 4, 182, 0, 97, 133, 173, 42, 27, 28, 29, 21, 4, 182, 1, 48]
abbrev dktX1_lawOdds_1 : List UInt8 := dkwX1_lawOdds_1 ++ dktX1_lawOdds_2
def dkwX1_lawOdds_0 : List UInt8 := [42, 182, 0, 83, 27, 3, 6, 184, 0, 93, 153, 0, 21, 42, 28, 182, 0, 140, 153, 0, 13, 42, 29]
abbrev dktX1_lawOdds_0 : List UInt8 := dkwX1_lawOdds_0 ++ dktX1_lawOdds_1
theorem dksX1_lawOdds_0 : cX1_lawOdds.data.toList.drop 0 = dktX1_lawOdds_0 := by decide +kernel
theorem dksX1_lawOdds_1 : cX1_lawOdds.data.toList.drop 23 = dktX1_lawOdds_1 := dk_seg dksX1_lawOdds_0 23 rfl rfl
theorem dksX1_lawOdds_2 : cX1_lawOdds.data.toList.drop 47 = dktX1_lawOdds_2 := dk_seg dksX1_lawOdds_1 24 rfl rfl
theorem dX1_lawOdds_0 : decode cX1_lawOdds 0 = .ok (.aload_n 0, 1) := dk_42 (dk_at dksX1_lawOdds_0 0 rfl rfl)
theorem dX1_lawOdds_1 : decode cX1_lawOdds 1 = .ok (.invokevirtual 83, 3) := dk_182 0 83 (dk_at dksX1_lawOdds_0 1 rfl rfl)
theorem dX1_lawOdds_4 : decode cX1_lawOdds 4 = .ok (.iload_n 1, 1) := dk_27 (dk_at dksX1_lawOdds_0 4 rfl rfl)
theorem dX1_lawOdds_5 : decode cX1_lawOdds 5 = .ok (.iconst 0, 1) := dk_3 (dk_at dksX1_lawOdds_0 5 rfl rfl)
theorem dX1_lawOdds_6 : decode cX1_lawOdds 6 = .ok (.iconst 3, 1) := dk_6 (dk_at dksX1_lawOdds_0 6 rfl rfl)
theorem dX1_lawOdds_7 : decode cX1_lawOdds 7 = .ok (.invokestatic 93, 3) := dk_184 0 93 (dk_at dksX1_lawOdds_0 7 rfl rfl)
theorem dX1_lawOdds_10 : decode cX1_lawOdds 10 = .ok (.ifCond .eq 21, 3) := dk_153 0 21 (dk_at dksX1_lawOdds_0 10 rfl rfl)
theorem dX1_lawOdds_13 : decode cX1_lawOdds 13 = .ok (.aload_n 0, 1) := dk_42 (dk_at dksX1_lawOdds_0 13 rfl rfl)
theorem dX1_lawOdds_14 : decode cX1_lawOdds 14 = .ok (.iload_n 2, 1) := dk_28 (dk_at dksX1_lawOdds_0 14 rfl rfl)
theorem dX1_lawOdds_15 : decode cX1_lawOdds 15 = .ok (.invokevirtual 140, 3) := dk_182 0 140 (dk_at dksX1_lawOdds_0 15 rfl rfl)
theorem dX1_lawOdds_18 : decode cX1_lawOdds 18 = .ok (.ifCond .eq 13, 3) := dk_153 0 13 (dk_at dksX1_lawOdds_0 18 rfl rfl)
theorem dX1_lawOdds_21 : decode cX1_lawOdds 21 = .ok (.aload_n 0, 1) := dk_42 (dk_at dksX1_lawOdds_0 21 rfl rfl)
theorem dX1_lawOdds_22 : decode cX1_lawOdds 22 = .ok (.iload_n 3, 1) := dk_29 (dk_at dksX1_lawOdds_0 22 rfl rfl)
theorem dX1_lawOdds_23 : decode cX1_lawOdds 23 = .ok (.iload 4, 2) := dk_21 4 (dk_at dksX1_lawOdds_1 0 rfl rfl)
theorem dX1_lawOdds_25 : decode cX1_lawOdds 25 = .ok (.invokevirtual 216, 3) := dk_182 0 216 (dk_at dksX1_lawOdds_1 2 rfl rfl)
theorem dX1_lawOdds_28 : decode cX1_lawOdds 28 = .ok (.ifCond .ne 10, 3) := dk_154 0 10 (dk_at dksX1_lawOdds_1 5 rfl rfl)
theorem dX1_lawOdds_31 : decode cX1_lawOdds 31 = .ok (.aload_n 0, 1) := dk_42 (dk_at dksX1_lawOdds_1 8 rfl rfl)
theorem dX1_lawOdds_32 : decode cX1_lawOdds 32 = .ok (.iconst 1, 1) := dk_4 (dk_at dksX1_lawOdds_1 9 rfl rfl)
theorem dX1_lawOdds_33 : decode cX1_lawOdds 33 = .ok (.invokevirtual 97, 3) := dk_182 0 97 (dk_at dksX1_lawOdds_1 10 rfl rfl)
theorem dX1_lawOdds_36 : decode cX1_lawOdds 36 = .ok (.i2l, 1) := dk_133 (dk_at dksX1_lawOdds_1 13 rfl rfl)
theorem dX1_lawOdds_37 : decode cX1_lawOdds 37 = .ok (.lreturn, 1) := dk_173 (dk_at dksX1_lawOdds_1 14 rfl rfl)
theorem dX1_lawOdds_38 : decode cX1_lawOdds 38 = .ok (.aload_n 0, 1) := dk_42 (dk_at dksX1_lawOdds_1 15 rfl rfl)
theorem dX1_lawOdds_39 : decode cX1_lawOdds 39 = .ok (.iload_n 1, 1) := dk_27 (dk_at dksX1_lawOdds_1 16 rfl rfl)
theorem dX1_lawOdds_40 : decode cX1_lawOdds 40 = .ok (.iload_n 2, 1) := dk_28 (dk_at dksX1_lawOdds_1 17 rfl rfl)
theorem dX1_lawOdds_41 : decode cX1_lawOdds 41 = .ok (.iload_n 3, 1) := dk_29 (dk_at dksX1_lawOdds_1 18 rfl rfl)
theorem dX1_lawOdds_42 : decode cX1_lawOdds 42 = .ok (.iload 4, 2) := dk_21 4 (dk_at dksX1_lawOdds_1 19 rfl rfl)
theorem dX1_lawOdds_44 : decode cX1_lawOdds 44 = .ok (.invokevirtual 304, 3) := dk_182 1 48 (dk_at dksX1_lawOdds_1 21 rfl rfl)
theorem dX1_lawOdds_47 : decode cX1_lawOdds 47 = .ok (.ldc2_w 298, 3) := dk_20 1 42 (dk_at dksX1_lawOdds_2 0 rfl rfl)
theorem dX1_lawOdds_50 : decode cX1_lawOdds 50 = .ok (.aload_n 0, 1) := dk_42 (dk_at dksX1_lawOdds_2 3 rfl rfl)
theorem dX1_lawOdds_51 : decode cX1_lawOdds 51 = .ok (.iload_n 2, 1) := dk_28 (dk_at dksX1_lawOdds_2 4 rfl rfl)
theorem dX1_lawOdds_52 : decode cX1_lawOdds 52 = .ok (.invokevirtual 209, 3) := dk_182 0 209 (dk_at dksX1_lawOdds_2 5 rfl rfl)
theorem dX1_lawOdds_55 : decode cX1_lawOdds 55 = .ok (.invokevirtual 252, 3) := dk_182 0 252 (dk_at dksX1_lawOdds_2 8 rfl rfl)
theorem dX1_lawOdds_58 : decode cX1_lawOdds 58 = .ok (.lmul, 1) := dk_105 (dk_at dksX1_lawOdds_2 11 rfl rfl)
theorem dX1_lawOdds_59 : decode cX1_lawOdds 59 = .ok (.iload 5, 2) := dk_21 5 (dk_at dksX1_lawOdds_2 12 rfl rfl)
theorem dX1_lawOdds_61 : decode cX1_lawOdds 61 = .ok (.invokestatic 256, 3) := dk_184 1 0 (dk_at dksX1_lawOdds_2 14 rfl rfl)
theorem dX1_lawOdds_64 : decode cX1_lawOdds 64 = .ok (.lreturn, 1) := dk_173 (dk_at dksX1_lawOdds_2 17 rfl rfl)
abbrev cX1_byLaw : ByteArray := prog_1_method_41_code
def yX1_byLaw : MethodName := ⟨RX1, "byLaw", "(IIII)J"⟩
def dkwX1_byLaw_6 : List UInt8 := [167, 0, 5, 22, 5, 105, 173, 22, 5, 22, 7, 97, 173]
abbrev dktX1_byLaw_6 : List UInt8 := dkwX1_byLaw_6 ++ []
def dkwX1_byLaw_5 : List UInt8 := [21, 4, 29, 3, 182, 1, 39, 42, 28, 21, 4, 29, 4, 182, 1, 39, 182, 1, 44, 154, 0, 8, 22, 7]
abbrev dktX1_byLaw_5 : List UInt8 := dkwX1_byLaw_5 ++ dktX1_byLaw_6
def dkwX1_byLaw_4 : List UInt8 := [20, 1, 42, 42, 180, 0, 108, 180, 0, 176, 21, 4, 50, 42, 180, 0, 108, 180, 0, 143, 28, 50, 42, 28]
abbrev dktX1_byLaw_4 : List UInt8 := dkwX1_byLaw_4 ++ dktX1_byLaw_5
def dkwX1_byLaw_3 : List UInt8 := [180, 0, 143, 28, 50, 22, 5, 22, 7, 182, 1, 44, 154, 0, 8, 22, 5, 167, 0, 5, 22, 7, 105, 173]
abbrev dktX1_byLaw_3 : List UInt8 := dkwX1_byLaw_3 ++ dktX1_byLaw_4
def dkwX1_byLaw_2 : List UInt8 := [20, 1, 42, 22, 5, 105, 173, 20, 1, 42, 42, 180, 0, 108, 180, 0, 176, 29, 50, 42, 180, 0, 108]
abbrev dktX1_byLaw_2 : List UInt8 := dkwX1_byLaw_2 ++ dktX1_byLaw_3
def dkwX1_byLaw_1 : List UInt8 := [170, 0, 0, 0, 127, 0, 0, 0, 0, 0, 0, 0, 2, 0, 0, 0, 25, 0, 0, 0, 32, 0, 0, 0, 72]
abbrev dktX1_byLaw_1 : List UInt8 := dkwX1_byLaw_1 ++ dktX1_byLaw_2
def dkwX1_byLaw_0 : List UInt8 := [42, 28, 29, 21, 4, 3, 182, 1, 39, 55, 5, 42, 28, 29, 21, 4, 4, 182, 1, 39, 55, 7, 27]
abbrev dktX1_byLaw_0 : List UInt8 := dkwX1_byLaw_0 ++ dktX1_byLaw_1
theorem dksX1_byLaw_0 : cX1_byLaw.data.toList.drop 0 = dktX1_byLaw_0 := by decide +kernel
theorem dksX1_byLaw_1 : cX1_byLaw.data.toList.drop 23 = dktX1_byLaw_1 := dk_seg dksX1_byLaw_0 23 rfl rfl
theorem dksX1_byLaw_2 : cX1_byLaw.data.toList.drop 48 = dktX1_byLaw_2 := dk_seg dksX1_byLaw_1 25 rfl rfl
theorem dksX1_byLaw_3 : cX1_byLaw.data.toList.drop 71 = dktX1_byLaw_3 := dk_seg dksX1_byLaw_2 23 rfl rfl
theorem dksX1_byLaw_4 : cX1_byLaw.data.toList.drop 95 = dktX1_byLaw_4 := dk_seg dksX1_byLaw_3 24 rfl rfl
theorem dksX1_byLaw_5 : cX1_byLaw.data.toList.drop 119 = dktX1_byLaw_5 := dk_seg dksX1_byLaw_4 24 rfl rfl
theorem dksX1_byLaw_6 : cX1_byLaw.data.toList.drop 143 = dktX1_byLaw_6 := dk_seg dksX1_byLaw_5 24 rfl rfl
theorem dX1_byLaw_0 : decode cX1_byLaw 0 = .ok (.aload_n 0, 1) := dk_42 (dk_at dksX1_byLaw_0 0 rfl rfl)
theorem dX1_byLaw_1 : decode cX1_byLaw 1 = .ok (.iload_n 2, 1) := dk_28 (dk_at dksX1_byLaw_0 1 rfl rfl)
theorem dX1_byLaw_2 : decode cX1_byLaw 2 = .ok (.iload_n 3, 1) := dk_29 (dk_at dksX1_byLaw_0 2 rfl rfl)
theorem dX1_byLaw_3 : decode cX1_byLaw 3 = .ok (.iload 4, 2) := dk_21 4 (dk_at dksX1_byLaw_0 3 rfl rfl)
theorem dX1_byLaw_5 : decode cX1_byLaw 5 = .ok (.iconst 0, 1) := dk_3 (dk_at dksX1_byLaw_0 5 rfl rfl)
theorem dX1_byLaw_6 : decode cX1_byLaw 6 = .ok (.invokevirtual 295, 3) := dk_182 1 39 (dk_at dksX1_byLaw_0 6 rfl rfl)
theorem dX1_byLaw_9 : decode cX1_byLaw 9 = .ok (.lstore 5, 2) := dk_55 5 (dk_at dksX1_byLaw_0 9 rfl rfl)
theorem dX1_byLaw_11 : decode cX1_byLaw 11 = .ok (.aload_n 0, 1) := dk_42 (dk_at dksX1_byLaw_0 11 rfl rfl)
theorem dX1_byLaw_12 : decode cX1_byLaw 12 = .ok (.iload_n 2, 1) := dk_28 (dk_at dksX1_byLaw_0 12 rfl rfl)
theorem dX1_byLaw_13 : decode cX1_byLaw 13 = .ok (.iload_n 3, 1) := dk_29 (dk_at dksX1_byLaw_0 13 rfl rfl)
theorem dX1_byLaw_14 : decode cX1_byLaw 14 = .ok (.iload 4, 2) := dk_21 4 (dk_at dksX1_byLaw_0 14 rfl rfl)
theorem dX1_byLaw_16 : decode cX1_byLaw 16 = .ok (.iconst 1, 1) := dk_4 (dk_at dksX1_byLaw_0 16 rfl rfl)
theorem dX1_byLaw_17 : decode cX1_byLaw 17 = .ok (.invokevirtual 295, 3) := dk_182 1 39 (dk_at dksX1_byLaw_0 17 rfl rfl)
theorem dX1_byLaw_20 : decode cX1_byLaw 20 = .ok (.lstore 7, 2) := dk_55 7 (dk_at dksX1_byLaw_0 20 rfl rfl)
theorem dX1_byLaw_22 : decode cX1_byLaw 22 = .ok (.iload_n 1, 1) := dk_27 (dk_at dksX1_byLaw_0 22 rfl rfl)
theorem dX1_byLaw_23 : decode cX1_byLaw 23 = .ok (.tableswitch 127 0 2 #[25, 32, 72], 25) := by decide +kernel
theorem dX1_byLaw_48 : decode cX1_byLaw 48 = .ok (.ldc2_w 298, 3) := dk_20 1 42 (dk_at dksX1_byLaw_2 0 rfl rfl)
theorem dX1_byLaw_51 : decode cX1_byLaw 51 = .ok (.lload 5, 2) := dk_22 5 (dk_at dksX1_byLaw_2 3 rfl rfl)
theorem dX1_byLaw_53 : decode cX1_byLaw 53 = .ok (.lmul, 1) := dk_105 (dk_at dksX1_byLaw_2 5 rfl rfl)
theorem dX1_byLaw_54 : decode cX1_byLaw 54 = .ok (.lreturn, 1) := dk_173 (dk_at dksX1_byLaw_2 6 rfl rfl)
theorem dX1_byLaw_55 : decode cX1_byLaw 55 = .ok (.ldc2_w 298, 3) := dk_20 1 42 (dk_at dksX1_byLaw_2 7 rfl rfl)
theorem dX1_byLaw_58 : decode cX1_byLaw 58 = .ok (.aload_n 0, 1) := dk_42 (dk_at dksX1_byLaw_2 10 rfl rfl)
theorem dX1_byLaw_59 : decode cX1_byLaw 59 = .ok (.getfield 108, 3) := dk_180 0 108 (dk_at dksX1_byLaw_2 11 rfl rfl)
theorem dX1_byLaw_62 : decode cX1_byLaw 62 = .ok (.getfield 176, 3) := dk_180 0 176 (dk_at dksX1_byLaw_2 14 rfl rfl)
theorem dX1_byLaw_65 : decode cX1_byLaw 65 = .ok (.iload_n 3, 1) := dk_29 (dk_at dksX1_byLaw_2 17 rfl rfl)
theorem dX1_byLaw_66 : decode cX1_byLaw 66 = .ok (.aaload, 1) := dk_50 (dk_at dksX1_byLaw_2 18 rfl rfl)
theorem dX1_byLaw_67 : decode cX1_byLaw 67 = .ok (.aload_n 0, 1) := dk_42 (dk_at dksX1_byLaw_2 19 rfl rfl)
theorem dX1_byLaw_68 : decode cX1_byLaw 68 = .ok (.getfield 108, 3) := dk_180 0 108 (dk_at dksX1_byLaw_2 20 rfl rfl)
theorem dX1_byLaw_71 : decode cX1_byLaw 71 = .ok (.getfield 143, 3) := dk_180 0 143 (dk_at dksX1_byLaw_3 0 rfl rfl)
theorem dX1_byLaw_74 : decode cX1_byLaw 74 = .ok (.iload_n 2, 1) := dk_28 (dk_at dksX1_byLaw_3 3 rfl rfl)
theorem dX1_byLaw_75 : decode cX1_byLaw 75 = .ok (.aaload, 1) := dk_50 (dk_at dksX1_byLaw_3 4 rfl rfl)
theorem dX1_byLaw_76 : decode cX1_byLaw 76 = .ok (.lload 5, 2) := dk_22 5 (dk_at dksX1_byLaw_3 5 rfl rfl)
theorem dX1_byLaw_78 : decode cX1_byLaw 78 = .ok (.lload 7, 2) := dk_22 7 (dk_at dksX1_byLaw_3 7 rfl rfl)
theorem dX1_byLaw_80 : decode cX1_byLaw 80 = .ok (.invokevirtual 300, 3) := dk_182 1 44 (dk_at dksX1_byLaw_3 9 rfl rfl)
theorem dX1_byLaw_83 : decode cX1_byLaw 83 = .ok (.ifCond .ne 8, 3) := dk_154 0 8 (dk_at dksX1_byLaw_3 12 rfl rfl)
theorem dX1_byLaw_86 : decode cX1_byLaw 86 = .ok (.lload 5, 2) := dk_22 5 (dk_at dksX1_byLaw_3 15 rfl rfl)
theorem dX1_byLaw_88 : decode cX1_byLaw 88 = .ok (.goto 5, 3) := dk_167 0 5 (dk_at dksX1_byLaw_3 17 rfl rfl)
theorem dX1_byLaw_91 : decode cX1_byLaw 91 = .ok (.lload 7, 2) := dk_22 7 (dk_at dksX1_byLaw_3 20 rfl rfl)
theorem dX1_byLaw_93 : decode cX1_byLaw 93 = .ok (.lmul, 1) := dk_105 (dk_at dksX1_byLaw_3 22 rfl rfl)
theorem dX1_byLaw_94 : decode cX1_byLaw 94 = .ok (.lreturn, 1) := dk_173 (dk_at dksX1_byLaw_3 23 rfl rfl)
theorem dX1_byLaw_95 : decode cX1_byLaw 95 = .ok (.ldc2_w 298, 3) := dk_20 1 42 (dk_at dksX1_byLaw_4 0 rfl rfl)
theorem dX1_byLaw_98 : decode cX1_byLaw 98 = .ok (.aload_n 0, 1) := dk_42 (dk_at dksX1_byLaw_4 3 rfl rfl)
theorem dX1_byLaw_99 : decode cX1_byLaw 99 = .ok (.getfield 108, 3) := dk_180 0 108 (dk_at dksX1_byLaw_4 4 rfl rfl)
theorem dX1_byLaw_102 : decode cX1_byLaw 102 = .ok (.getfield 176, 3) := dk_180 0 176 (dk_at dksX1_byLaw_4 7 rfl rfl)
theorem dX1_byLaw_105 : decode cX1_byLaw 105 = .ok (.iload 4, 2) := dk_21 4 (dk_at dksX1_byLaw_4 10 rfl rfl)
theorem dX1_byLaw_107 : decode cX1_byLaw 107 = .ok (.aaload, 1) := dk_50 (dk_at dksX1_byLaw_4 12 rfl rfl)
theorem dX1_byLaw_108 : decode cX1_byLaw 108 = .ok (.aload_n 0, 1) := dk_42 (dk_at dksX1_byLaw_4 13 rfl rfl)
theorem dX1_byLaw_109 : decode cX1_byLaw 109 = .ok (.getfield 108, 3) := dk_180 0 108 (dk_at dksX1_byLaw_4 14 rfl rfl)
theorem dX1_byLaw_112 : decode cX1_byLaw 112 = .ok (.getfield 143, 3) := dk_180 0 143 (dk_at dksX1_byLaw_4 17 rfl rfl)
theorem dX1_byLaw_115 : decode cX1_byLaw 115 = .ok (.iload_n 2, 1) := dk_28 (dk_at dksX1_byLaw_4 20 rfl rfl)
theorem dX1_byLaw_116 : decode cX1_byLaw 116 = .ok (.aaload, 1) := dk_50 (dk_at dksX1_byLaw_4 21 rfl rfl)
theorem dX1_byLaw_117 : decode cX1_byLaw 117 = .ok (.aload_n 0, 1) := dk_42 (dk_at dksX1_byLaw_4 22 rfl rfl)
theorem dX1_byLaw_118 : decode cX1_byLaw 118 = .ok (.iload_n 2, 1) := dk_28 (dk_at dksX1_byLaw_4 23 rfl rfl)
theorem dX1_byLaw_119 : decode cX1_byLaw 119 = .ok (.iload 4, 2) := dk_21 4 (dk_at dksX1_byLaw_5 0 rfl rfl)
theorem dX1_byLaw_121 : decode cX1_byLaw 121 = .ok (.iload_n 3, 1) := dk_29 (dk_at dksX1_byLaw_5 2 rfl rfl)
theorem dX1_byLaw_122 : decode cX1_byLaw 122 = .ok (.iconst 0, 1) := dk_3 (dk_at dksX1_byLaw_5 3 rfl rfl)
theorem dX1_byLaw_123 : decode cX1_byLaw 123 = .ok (.invokevirtual 295, 3) := dk_182 1 39 (dk_at dksX1_byLaw_5 4 rfl rfl)
theorem dX1_byLaw_126 : decode cX1_byLaw 126 = .ok (.aload_n 0, 1) := dk_42 (dk_at dksX1_byLaw_5 7 rfl rfl)
theorem dX1_byLaw_127 : decode cX1_byLaw 127 = .ok (.iload_n 2, 1) := dk_28 (dk_at dksX1_byLaw_5 8 rfl rfl)
theorem dX1_byLaw_128 : decode cX1_byLaw 128 = .ok (.iload 4, 2) := dk_21 4 (dk_at dksX1_byLaw_5 9 rfl rfl)
theorem dX1_byLaw_130 : decode cX1_byLaw 130 = .ok (.iload_n 3, 1) := dk_29 (dk_at dksX1_byLaw_5 11 rfl rfl)
theorem dX1_byLaw_131 : decode cX1_byLaw 131 = .ok (.iconst 1, 1) := dk_4 (dk_at dksX1_byLaw_5 12 rfl rfl)
theorem dX1_byLaw_132 : decode cX1_byLaw 132 = .ok (.invokevirtual 295, 3) := dk_182 1 39 (dk_at dksX1_byLaw_5 13 rfl rfl)
theorem dX1_byLaw_135 : decode cX1_byLaw 135 = .ok (.invokevirtual 300, 3) := dk_182 1 44 (dk_at dksX1_byLaw_5 16 rfl rfl)
theorem dX1_byLaw_138 : decode cX1_byLaw 138 = .ok (.ifCond .ne 8, 3) := dk_154 0 8 (dk_at dksX1_byLaw_5 19 rfl rfl)
theorem dX1_byLaw_141 : decode cX1_byLaw 141 = .ok (.lload 7, 2) := dk_22 7 (dk_at dksX1_byLaw_5 22 rfl rfl)
theorem dX1_byLaw_143 : decode cX1_byLaw 143 = .ok (.goto 5, 3) := dk_167 0 5 (dk_at dksX1_byLaw_6 0 rfl rfl)
theorem dX1_byLaw_146 : decode cX1_byLaw 146 = .ok (.lload 5, 2) := dk_22 5 (dk_at dksX1_byLaw_6 3 rfl rfl)
theorem dX1_byLaw_148 : decode cX1_byLaw 148 = .ok (.lmul, 1) := dk_105 (dk_at dksX1_byLaw_6 5 rfl rfl)
theorem dX1_byLaw_149 : decode cX1_byLaw 149 = .ok (.lreturn, 1) := dk_173 (dk_at dksX1_byLaw_6 6 rfl rfl)
theorem dX1_byLaw_150 : decode cX1_byLaw 150 = .ok (.lload 5, 2) := dk_22 5 (dk_at dksX1_byLaw_6 7 rfl rfl)
theorem dX1_byLaw_152 : decode cX1_byLaw 152 = .ok (.lload 7, 2) := dk_22 7 (dk_at dksX1_byLaw_6 9 rfl rfl)
theorem dX1_byLaw_154 : decode cX1_byLaw 154 = .ok (.ladd, 1) := dk_97 (dk_at dksX1_byLaw_6 11 rfl rfl)
theorem dX1_byLaw_155 : decode cX1_byLaw 155 = .ok (.lreturn, 1) := dk_173 (dk_at dksX1_byLaw_6 12 rfl rfl)
abbrev cX1_oddsOn : ByteArray := prog_1_method_40_code
def yX1_oddsOn : MethodName := ⟨RX1, "oddsOn", "(IIII)J"⟩
def dkwX1_oddsOn_2 : List UInt8 := [25, 6, 182, 1, 31, 42, 180, 0, 46, 21, 4, 182, 0, 248, 173]
abbrev dktX1_oddsOn_2 : List UInt8 := dkwX1_oddsOn_2 ++ []
def dkwX1_oddsOn_1 : List UInt8 := [180, 0, 176, 21, 4, 154, 0, 7, 29, 167, 0, 4, 28, 50, 58, 6, 42, 27, 182, 0, 209, 25, 5]
abbrev dktX1_oddsOn_1 : List UInt8 := dkwX1_oddsOn_1 ++ dktX1_oddsOn_2
def dkwX1_oddsOn_0 : List UInt8 := [42, 180, 0, 108, 180, 0, 176, 21, 4, 154, 0, 7, 28, 167, 0, 4, 29, 50, 58, 5, 42, 180, 0, 108]
abbrev dktX1_oddsOn_0 : List UInt8 := dkwX1_oddsOn_0 ++ dktX1_oddsOn_1
theorem dksX1_oddsOn_0 : cX1_oddsOn.data.toList.drop 0 = dktX1_oddsOn_0 := by decide +kernel
theorem dksX1_oddsOn_1 : cX1_oddsOn.data.toList.drop 24 = dktX1_oddsOn_1 := dk_seg dksX1_oddsOn_0 24 rfl rfl
theorem dksX1_oddsOn_2 : cX1_oddsOn.data.toList.drop 47 = dktX1_oddsOn_2 := dk_seg dksX1_oddsOn_1 23 rfl rfl
theorem dX1_oddsOn_0 : decode cX1_oddsOn 0 = .ok (.aload_n 0, 1) := dk_42 (dk_at dksX1_oddsOn_0 0 rfl rfl)
theorem dX1_oddsOn_1 : decode cX1_oddsOn 1 = .ok (.getfield 108, 3) := dk_180 0 108 (dk_at dksX1_oddsOn_0 1 rfl rfl)
theorem dX1_oddsOn_4 : decode cX1_oddsOn 4 = .ok (.getfield 176, 3) := dk_180 0 176 (dk_at dksX1_oddsOn_0 4 rfl rfl)
theorem dX1_oddsOn_7 : decode cX1_oddsOn 7 = .ok (.iload 4, 2) := dk_21 4 (dk_at dksX1_oddsOn_0 7 rfl rfl)
theorem dX1_oddsOn_9 : decode cX1_oddsOn 9 = .ok (.ifCond .ne 7, 3) := dk_154 0 7 (dk_at dksX1_oddsOn_0 9 rfl rfl)
theorem dX1_oddsOn_12 : decode cX1_oddsOn 12 = .ok (.iload_n 2, 1) := dk_28 (dk_at dksX1_oddsOn_0 12 rfl rfl)
theorem dX1_oddsOn_13 : decode cX1_oddsOn 13 = .ok (.goto 4, 3) := dk_167 0 4 (dk_at dksX1_oddsOn_0 13 rfl rfl)
theorem dX1_oddsOn_16 : decode cX1_oddsOn 16 = .ok (.iload_n 3, 1) := dk_29 (dk_at dksX1_oddsOn_0 16 rfl rfl)
theorem dX1_oddsOn_17 : decode cX1_oddsOn 17 = .ok (.aaload, 1) := dk_50 (dk_at dksX1_oddsOn_0 17 rfl rfl)
theorem dX1_oddsOn_18 : decode cX1_oddsOn 18 = .ok (.astore 5, 2) := dk_58 5 (dk_at dksX1_oddsOn_0 18 rfl rfl)
theorem dX1_oddsOn_20 : decode cX1_oddsOn 20 = .ok (.aload_n 0, 1) := dk_42 (dk_at dksX1_oddsOn_0 20 rfl rfl)
theorem dX1_oddsOn_21 : decode cX1_oddsOn 21 = .ok (.getfield 108, 3) := dk_180 0 108 (dk_at dksX1_oddsOn_0 21 rfl rfl)
theorem dX1_oddsOn_24 : decode cX1_oddsOn 24 = .ok (.getfield 176, 3) := dk_180 0 176 (dk_at dksX1_oddsOn_1 0 rfl rfl)
theorem dX1_oddsOn_27 : decode cX1_oddsOn 27 = .ok (.iload 4, 2) := dk_21 4 (dk_at dksX1_oddsOn_1 3 rfl rfl)
theorem dX1_oddsOn_29 : decode cX1_oddsOn 29 = .ok (.ifCond .ne 7, 3) := dk_154 0 7 (dk_at dksX1_oddsOn_1 5 rfl rfl)
theorem dX1_oddsOn_32 : decode cX1_oddsOn 32 = .ok (.iload_n 3, 1) := dk_29 (dk_at dksX1_oddsOn_1 8 rfl rfl)
theorem dX1_oddsOn_33 : decode cX1_oddsOn 33 = .ok (.goto 4, 3) := dk_167 0 4 (dk_at dksX1_oddsOn_1 9 rfl rfl)
theorem dX1_oddsOn_36 : decode cX1_oddsOn 36 = .ok (.iload_n 2, 1) := dk_28 (dk_at dksX1_oddsOn_1 12 rfl rfl)
theorem dX1_oddsOn_37 : decode cX1_oddsOn 37 = .ok (.aaload, 1) := dk_50 (dk_at dksX1_oddsOn_1 13 rfl rfl)
theorem dX1_oddsOn_38 : decode cX1_oddsOn 38 = .ok (.astore 6, 2) := dk_58 6 (dk_at dksX1_oddsOn_1 14 rfl rfl)
theorem dX1_oddsOn_40 : decode cX1_oddsOn 40 = .ok (.aload_n 0, 1) := dk_42 (dk_at dksX1_oddsOn_1 16 rfl rfl)
theorem dX1_oddsOn_41 : decode cX1_oddsOn 41 = .ok (.iload_n 1, 1) := dk_27 (dk_at dksX1_oddsOn_1 17 rfl rfl)
theorem dX1_oddsOn_42 : decode cX1_oddsOn 42 = .ok (.invokevirtual 209, 3) := dk_182 0 209 (dk_at dksX1_oddsOn_1 18 rfl rfl)
theorem dX1_oddsOn_45 : decode cX1_oddsOn 45 = .ok (.aload 5, 2) := dk_25 5 (dk_at dksX1_oddsOn_1 21 rfl rfl)
theorem dX1_oddsOn_47 : decode cX1_oddsOn 47 = .ok (.aload 6, 2) := dk_25 6 (dk_at dksX1_oddsOn_2 0 rfl rfl)
theorem dX1_oddsOn_49 : decode cX1_oddsOn 49 = .ok (.invokevirtual 287, 3) := dk_182 1 31 (dk_at dksX1_oddsOn_2 2 rfl rfl)
theorem dX1_oddsOn_52 : decode cX1_oddsOn 52 = .ok (.aload_n 0, 1) := dk_42 (dk_at dksX1_oddsOn_2 5 rfl rfl)
theorem dX1_oddsOn_53 : decode cX1_oddsOn 53 = .ok (.getfield 46, 3) := dk_180 0 46 (dk_at dksX1_oddsOn_2 6 rfl rfl)
theorem dX1_oddsOn_56 : decode cX1_oddsOn 56 = .ok (.iload 4, 2) := dk_21 4 (dk_at dksX1_oddsOn_2 9 rfl rfl)
theorem dX1_oddsOn_58 : decode cX1_oddsOn 58 = .ok (.invokevirtual 248, 3) := dk_182 0 248 (dk_at dksX1_oddsOn_2 11 rfl rfl)
theorem dX1_oddsOn_61 : decode cX1_oddsOn 61 = .ok (.lreturn, 1) := dk_173 (dk_at dksX1_oddsOn_2 14 rfl rfl)
abbrev cX1_fairest : ByteArray := prog_1_method_43_code
def yX1_fairest : MethodName := ⟨RX1, "fairest", "(III)I"⟩
def dkwX1_fairest_4 : List UInt8 := [21, 4, 172]
abbrev dktX1_fairest_4 : List UInt8 := dkwX1_fairest_4 ++ []
def dkwX1_fairest_3 : List UInt8 := [182, 1, 48, 22, 5, 101, 184, 1, 51, 148, 156, 0, 7, 21, 7, 54, 4, 132, 7, 1, 167, 255, 209]
abbrev dktX1_fairest_3 : List UInt8 := dkwX1_fairest_3 ++ dktX1_fairest_4
def dkwX1_fairest_2 : List UInt8 := [162, 0, 47, 42, 21, 7, 27, 28, 29, 182, 1, 48, 22, 5, 101, 184, 1, 51, 42, 21, 4, 27, 28, 29]
abbrev dktX1_fairest_2 : List UInt8 := dkwX1_fairest_2 ++ dktX1_fairest_3
def dkwX1_fairest_1 : List UInt8 := [182, 0, 97, 172, 3, 54, 4, 42, 27, 182, 0, 209, 182, 0, 252, 55, 5, 4, 54, 7, 21, 7, 7]
abbrev dktX1_fairest_1 : List UInt8 := dkwX1_fairest_1 ++ dktX1_fairest_2
def dkwX1_fairest_0 : List UInt8 := [42, 182, 0, 83, 42, 27, 182, 0, 140, 153, 0, 12, 42, 28, 29, 182, 0, 216, 154, 0, 9, 42, 4]
abbrev dktX1_fairest_0 : List UInt8 := dkwX1_fairest_0 ++ dktX1_fairest_1
theorem dksX1_fairest_0 : cX1_fairest.data.toList.drop 0 = dktX1_fairest_0 := by decide +kernel
theorem dksX1_fairest_1 : cX1_fairest.data.toList.drop 23 = dktX1_fairest_1 := dk_seg dksX1_fairest_0 23 rfl rfl
theorem dksX1_fairest_2 : cX1_fairest.data.toList.drop 46 = dktX1_fairest_2 := dk_seg dksX1_fairest_1 23 rfl rfl
theorem dksX1_fairest_3 : cX1_fairest.data.toList.drop 70 = dktX1_fairest_3 := dk_seg dksX1_fairest_2 24 rfl rfl
theorem dksX1_fairest_4 : cX1_fairest.data.toList.drop 93 = dktX1_fairest_4 := dk_seg dksX1_fairest_3 23 rfl rfl
theorem dX1_fairest_0 : decode cX1_fairest 0 = .ok (.aload_n 0, 1) := dk_42 (dk_at dksX1_fairest_0 0 rfl rfl)
theorem dX1_fairest_1 : decode cX1_fairest 1 = .ok (.invokevirtual 83, 3) := dk_182 0 83 (dk_at dksX1_fairest_0 1 rfl rfl)
theorem dX1_fairest_4 : decode cX1_fairest 4 = .ok (.aload_n 0, 1) := dk_42 (dk_at dksX1_fairest_0 4 rfl rfl)
theorem dX1_fairest_5 : decode cX1_fairest 5 = .ok (.iload_n 1, 1) := dk_27 (dk_at dksX1_fairest_0 5 rfl rfl)
theorem dX1_fairest_6 : decode cX1_fairest 6 = .ok (.invokevirtual 140, 3) := dk_182 0 140 (dk_at dksX1_fairest_0 6 rfl rfl)
theorem dX1_fairest_9 : decode cX1_fairest 9 = .ok (.ifCond .eq 12, 3) := dk_153 0 12 (dk_at dksX1_fairest_0 9 rfl rfl)
theorem dX1_fairest_12 : decode cX1_fairest 12 = .ok (.aload_n 0, 1) := dk_42 (dk_at dksX1_fairest_0 12 rfl rfl)
theorem dX1_fairest_13 : decode cX1_fairest 13 = .ok (.iload_n 2, 1) := dk_28 (dk_at dksX1_fairest_0 13 rfl rfl)
theorem dX1_fairest_14 : decode cX1_fairest 14 = .ok (.iload_n 3, 1) := dk_29 (dk_at dksX1_fairest_0 14 rfl rfl)
theorem dX1_fairest_15 : decode cX1_fairest 15 = .ok (.invokevirtual 216, 3) := dk_182 0 216 (dk_at dksX1_fairest_0 15 rfl rfl)
theorem dX1_fairest_18 : decode cX1_fairest 18 = .ok (.ifCond .ne 9, 3) := dk_154 0 9 (dk_at dksX1_fairest_0 18 rfl rfl)
theorem dX1_fairest_21 : decode cX1_fairest 21 = .ok (.aload_n 0, 1) := dk_42 (dk_at dksX1_fairest_0 21 rfl rfl)
theorem dX1_fairest_22 : decode cX1_fairest 22 = .ok (.iconst 1, 1) := dk_4 (dk_at dksX1_fairest_0 22 rfl rfl)
theorem dX1_fairest_23 : decode cX1_fairest 23 = .ok (.invokevirtual 97, 3) := dk_182 0 97 (dk_at dksX1_fairest_1 0 rfl rfl)
theorem dX1_fairest_26 : decode cX1_fairest 26 = .ok (.ireturn, 1) := dk_172 (dk_at dksX1_fairest_1 3 rfl rfl)
theorem dX1_fairest_27 : decode cX1_fairest 27 = .ok (.iconst 0, 1) := dk_3 (dk_at dksX1_fairest_1 4 rfl rfl)
theorem dX1_fairest_28 : decode cX1_fairest 28 = .ok (.istore 4, 2) := dk_54 4 (dk_at dksX1_fairest_1 5 rfl rfl)
theorem dX1_fairest_30 : decode cX1_fairest 30 = .ok (.aload_n 0, 1) := dk_42 (dk_at dksX1_fairest_1 7 rfl rfl)
theorem dX1_fairest_31 : decode cX1_fairest 31 = .ok (.iload_n 1, 1) := dk_27 (dk_at dksX1_fairest_1 8 rfl rfl)
theorem dX1_fairest_32 : decode cX1_fairest 32 = .ok (.invokevirtual 209, 3) := dk_182 0 209 (dk_at dksX1_fairest_1 9 rfl rfl)
theorem dX1_fairest_35 : decode cX1_fairest 35 = .ok (.invokevirtual 252, 3) := dk_182 0 252 (dk_at dksX1_fairest_1 12 rfl rfl)
theorem dX1_fairest_38 : decode cX1_fairest 38 = .ok (.lstore 5, 2) := dk_55 5 (dk_at dksX1_fairest_1 15 rfl rfl)
theorem dX1_fairest_40 : decode cX1_fairest 40 = .ok (.iconst 1, 1) := dk_4 (dk_at dksX1_fairest_1 17 rfl rfl)
theorem dX1_fairest_41 : decode cX1_fairest 41 = .ok (.istore 7, 2) := dk_54 7 (dk_at dksX1_fairest_1 18 rfl rfl)
theorem dX1_fairest_43 : decode cX1_fairest 43 = .ok (.iload 7, 2) := dk_21 7 (dk_at dksX1_fairest_1 20 rfl rfl)
theorem dX1_fairest_45 : decode cX1_fairest 45 = .ok (.iconst 4, 1) := dk_7 (dk_at dksX1_fairest_1 22 rfl rfl)
theorem dX1_fairest_46 : decode cX1_fairest 46 = .ok (.if_icmp .ge 47, 3) := dk_162 0 47 (dk_at dksX1_fairest_2 0 rfl rfl)
theorem dX1_fairest_49 : decode cX1_fairest 49 = .ok (.aload_n 0, 1) := dk_42 (dk_at dksX1_fairest_2 3 rfl rfl)
theorem dX1_fairest_50 : decode cX1_fairest 50 = .ok (.iload 7, 2) := dk_21 7 (dk_at dksX1_fairest_2 4 rfl rfl)
theorem dX1_fairest_52 : decode cX1_fairest 52 = .ok (.iload_n 1, 1) := dk_27 (dk_at dksX1_fairest_2 6 rfl rfl)
theorem dX1_fairest_53 : decode cX1_fairest 53 = .ok (.iload_n 2, 1) := dk_28 (dk_at dksX1_fairest_2 7 rfl rfl)
theorem dX1_fairest_54 : decode cX1_fairest 54 = .ok (.iload_n 3, 1) := dk_29 (dk_at dksX1_fairest_2 8 rfl rfl)
theorem dX1_fairest_55 : decode cX1_fairest 55 = .ok (.invokevirtual 304, 3) := dk_182 1 48 (dk_at dksX1_fairest_2 9 rfl rfl)
theorem dX1_fairest_58 : decode cX1_fairest 58 = .ok (.lload 5, 2) := dk_22 5 (dk_at dksX1_fairest_2 12 rfl rfl)
theorem dX1_fairest_60 : decode cX1_fairest 60 = .ok (.lsub, 1) := dk_101 (dk_at dksX1_fairest_2 14 rfl rfl)
theorem dX1_fairest_61 : decode cX1_fairest 61 = .ok (.invokestatic 307, 3) := dk_184 1 51 (dk_at dksX1_fairest_2 15 rfl rfl)
theorem dX1_fairest_64 : decode cX1_fairest 64 = .ok (.aload_n 0, 1) := dk_42 (dk_at dksX1_fairest_2 18 rfl rfl)
theorem dX1_fairest_65 : decode cX1_fairest 65 = .ok (.iload 4, 2) := dk_21 4 (dk_at dksX1_fairest_2 19 rfl rfl)
theorem dX1_fairest_67 : decode cX1_fairest 67 = .ok (.iload_n 1, 1) := dk_27 (dk_at dksX1_fairest_2 21 rfl rfl)
theorem dX1_fairest_68 : decode cX1_fairest 68 = .ok (.iload_n 2, 1) := dk_28 (dk_at dksX1_fairest_2 22 rfl rfl)
theorem dX1_fairest_69 : decode cX1_fairest 69 = .ok (.iload_n 3, 1) := dk_29 (dk_at dksX1_fairest_2 23 rfl rfl)
theorem dX1_fairest_70 : decode cX1_fairest 70 = .ok (.invokevirtual 304, 3) := dk_182 1 48 (dk_at dksX1_fairest_3 0 rfl rfl)
theorem dX1_fairest_73 : decode cX1_fairest 73 = .ok (.lload 5, 2) := dk_22 5 (dk_at dksX1_fairest_3 3 rfl rfl)
theorem dX1_fairest_75 : decode cX1_fairest 75 = .ok (.lsub, 1) := dk_101 (dk_at dksX1_fairest_3 5 rfl rfl)
theorem dX1_fairest_76 : decode cX1_fairest 76 = .ok (.invokestatic 307, 3) := dk_184 1 51 (dk_at dksX1_fairest_3 6 rfl rfl)
theorem dX1_fairest_79 : decode cX1_fairest 79 = .ok (.lcmp, 1) := dk_148 (dk_at dksX1_fairest_3 9 rfl rfl)
theorem dX1_fairest_80 : decode cX1_fairest 80 = .ok (.ifCond .ge 7, 3) := dk_156 0 7 (dk_at dksX1_fairest_3 10 rfl rfl)
theorem dX1_fairest_83 : decode cX1_fairest 83 = .ok (.iload 7, 2) := dk_21 7 (dk_at dksX1_fairest_3 13 rfl rfl)
theorem dX1_fairest_85 : decode cX1_fairest 85 = .ok (.istore 4, 2) := dk_54 4 (dk_at dksX1_fairest_3 15 rfl rfl)
theorem dX1_fairest_87 : decode cX1_fairest 87 = .ok (.iinc 7 1, 3) := dk_132 7 1 (dk_at dksX1_fairest_3 17 rfl rfl)
theorem dX1_fairest_90 : decode cX1_fairest 90 = .ok (.goto (-47), 3) := dk_167 255 209 (dk_at dksX1_fairest_3 20 rfl rfl)
theorem dX1_fairest_93 : decode cX1_fairest 93 = .ok (.iload 4, 2) := dk_21 4 (dk_at dksX1_fairest_4 0 rfl rfl)
theorem dX1_fairest_95 : decode cX1_fairest 95 = .ok (.ireturn, 1) := dk_172 (dk_at dksX1_fairest_4 2 rfl rfl)
abbrev cX1_turnsOf : ByteArray := prog_1_method_45_code
def yX1_turnsOf : MethodName := ⟨RX1, "turnsOf", "(I)I"⟩
def dkwX1_turnsOf_1 : List UInt8 := [180, 0, 62, 42, 180, 0, 108, 180, 0, 133, 27, 182, 1, 60, 153, 0, 7, 4, 167, 0, 4, 3, 172]
abbrev dktX1_turnsOf_1 : List UInt8 := dkwX1_turnsOf_1 ++ []
def dkwX1_turnsOf_0 : List UInt8 := [42, 182, 0, 83, 42, 27, 182, 1, 57, 61, 28, 153, 0, 11, 42, 28, 182, 0, 97, 167, 0, 26, 42]
abbrev dktX1_turnsOf_0 : List UInt8 := dkwX1_turnsOf_0 ++ dktX1_turnsOf_1
theorem dksX1_turnsOf_0 : cX1_turnsOf.data.toList.drop 0 = dktX1_turnsOf_0 := by decide +kernel
theorem dksX1_turnsOf_1 : cX1_turnsOf.data.toList.drop 23 = dktX1_turnsOf_1 := dk_seg dksX1_turnsOf_0 23 rfl rfl
theorem dX1_turnsOf_0 : decode cX1_turnsOf 0 = .ok (.aload_n 0, 1) := dk_42 (dk_at dksX1_turnsOf_0 0 rfl rfl)
theorem dX1_turnsOf_1 : decode cX1_turnsOf 1 = .ok (.invokevirtual 83, 3) := dk_182 0 83 (dk_at dksX1_turnsOf_0 1 rfl rfl)
theorem dX1_turnsOf_4 : decode cX1_turnsOf 4 = .ok (.aload_n 0, 1) := dk_42 (dk_at dksX1_turnsOf_0 4 rfl rfl)
theorem dX1_turnsOf_5 : decode cX1_turnsOf 5 = .ok (.iload_n 1, 1) := dk_27 (dk_at dksX1_turnsOf_0 5 rfl rfl)
theorem dX1_turnsOf_6 : decode cX1_turnsOf 6 = .ok (.invokevirtual 313, 3) := dk_182 1 57 (dk_at dksX1_turnsOf_0 6 rfl rfl)
theorem dX1_turnsOf_9 : decode cX1_turnsOf 9 = .ok (.istore_n 2, 1) := dk_61 (dk_at dksX1_turnsOf_0 9 rfl rfl)
theorem dX1_turnsOf_10 : decode cX1_turnsOf 10 = .ok (.iload_n 2, 1) := dk_28 (dk_at dksX1_turnsOf_0 10 rfl rfl)
theorem dX1_turnsOf_11 : decode cX1_turnsOf 11 = .ok (.ifCond .eq 11, 3) := dk_153 0 11 (dk_at dksX1_turnsOf_0 11 rfl rfl)
theorem dX1_turnsOf_14 : decode cX1_turnsOf 14 = .ok (.aload_n 0, 1) := dk_42 (dk_at dksX1_turnsOf_0 14 rfl rfl)
theorem dX1_turnsOf_15 : decode cX1_turnsOf 15 = .ok (.iload_n 2, 1) := dk_28 (dk_at dksX1_turnsOf_0 15 rfl rfl)
theorem dX1_turnsOf_16 : decode cX1_turnsOf 16 = .ok (.invokevirtual 97, 3) := dk_182 0 97 (dk_at dksX1_turnsOf_0 16 rfl rfl)
theorem dX1_turnsOf_19 : decode cX1_turnsOf 19 = .ok (.goto 26, 3) := dk_167 0 26 (dk_at dksX1_turnsOf_0 19 rfl rfl)
theorem dX1_turnsOf_22 : decode cX1_turnsOf 22 = .ok (.aload_n 0, 1) := dk_42 (dk_at dksX1_turnsOf_0 22 rfl rfl)
theorem dX1_turnsOf_23 : decode cX1_turnsOf 23 = .ok (.getfield 62, 3) := dk_180 0 62 (dk_at dksX1_turnsOf_1 0 rfl rfl)
theorem dX1_turnsOf_26 : decode cX1_turnsOf 26 = .ok (.aload_n 0, 1) := dk_42 (dk_at dksX1_turnsOf_1 3 rfl rfl)
theorem dX1_turnsOf_27 : decode cX1_turnsOf 27 = .ok (.getfield 108, 3) := dk_180 0 108 (dk_at dksX1_turnsOf_1 4 rfl rfl)
theorem dX1_turnsOf_30 : decode cX1_turnsOf 30 = .ok (.getfield 133, 3) := dk_180 0 133 (dk_at dksX1_turnsOf_1 7 rfl rfl)
theorem dX1_turnsOf_33 : decode cX1_turnsOf 33 = .ok (.iload_n 1, 1) := dk_27 (dk_at dksX1_turnsOf_1 10 rfl rfl)
theorem dX1_turnsOf_34 : decode cX1_turnsOf 34 = .ok (.invokevirtual 316, 3) := dk_182 1 60 (dk_at dksX1_turnsOf_1 11 rfl rfl)
theorem dX1_turnsOf_37 : decode cX1_turnsOf 37 = .ok (.ifCond .eq 7, 3) := dk_153 0 7 (dk_at dksX1_turnsOf_1 14 rfl rfl)
theorem dX1_turnsOf_40 : decode cX1_turnsOf 40 = .ok (.iconst 1, 1) := dk_4 (dk_at dksX1_turnsOf_1 17 rfl rfl)
theorem dX1_turnsOf_41 : decode cX1_turnsOf 41 = .ok (.goto 4, 3) := dk_167 0 4 (dk_at dksX1_turnsOf_1 18 rfl rfl)
theorem dX1_turnsOf_44 : decode cX1_turnsOf 44 = .ok (.iconst 0, 1) := dk_3 (dk_at dksX1_turnsOf_1 21 rfl rfl)
theorem dX1_turnsOf_45 : decode cX1_turnsOf 45 = .ok (.ireturn, 1) := dk_172 (dk_at dksX1_turnsOf_1 22 rfl rfl)
abbrev cX1_weekWhy : ByteArray := prog_1_method_44_code
def yX1_weekWhy : MethodName := ⟨RX1, "weekWhy", "(I)I"⟩
def dkwX1_weekWhy_1 : List UInt8 := [167, 0, 4, 5, 172]
abbrev dktX1_weekWhy_1 : List UInt8 := dkwX1_weekWhy_1 ++ []
def dkwX1_weekWhy_0 : List UInt8 := [42, 180, 0, 108, 199, 0, 7, 4, 167, 0, 18, 27, 4, 16, 9, 184, 0, 93, 153, 0, 7, 3]
abbrev dktX1_weekWhy_0 : List UInt8 := dkwX1_weekWhy_0 ++ dktX1_weekWhy_1
theorem dksX1_weekWhy_0 : cX1_weekWhy.data.toList.drop 0 = dktX1_weekWhy_0 := by decide +kernel
theorem dksX1_weekWhy_1 : cX1_weekWhy.data.toList.drop 22 = dktX1_weekWhy_1 := dk_seg dksX1_weekWhy_0 22 rfl rfl
theorem dX1_weekWhy_0 : decode cX1_weekWhy 0 = .ok (.aload_n 0, 1) := dk_42 (dk_at dksX1_weekWhy_0 0 rfl rfl)
theorem dX1_weekWhy_1 : decode cX1_weekWhy 1 = .ok (.getfield 108, 3) := dk_180 0 108 (dk_at dksX1_weekWhy_0 1 rfl rfl)
theorem dX1_weekWhy_4 : decode cX1_weekWhy 4 = .ok (.ifnonnull 7, 3) := dk_199 0 7 (dk_at dksX1_weekWhy_0 4 rfl rfl)
theorem dX1_weekWhy_7 : decode cX1_weekWhy 7 = .ok (.iconst 1, 1) := dk_4 (dk_at dksX1_weekWhy_0 7 rfl rfl)
theorem dX1_weekWhy_8 : decode cX1_weekWhy 8 = .ok (.goto 18, 3) := dk_167 0 18 (dk_at dksX1_weekWhy_0 8 rfl rfl)
theorem dX1_weekWhy_11 : decode cX1_weekWhy 11 = .ok (.iload_n 1, 1) := dk_27 (dk_at dksX1_weekWhy_0 11 rfl rfl)
theorem dX1_weekWhy_12 : decode cX1_weekWhy 12 = .ok (.iconst 1, 1) := dk_4 (dk_at dksX1_weekWhy_0 12 rfl rfl)
theorem dX1_weekWhy_13 : decode cX1_weekWhy 13 = .ok (.bipush 9, 2) := dk_16 9 (dk_at dksX1_weekWhy_0 13 rfl rfl)
theorem dX1_weekWhy_15 : decode cX1_weekWhy 15 = .ok (.invokestatic 93, 3) := dk_184 0 93 (dk_at dksX1_weekWhy_0 15 rfl rfl)
theorem dX1_weekWhy_18 : decode cX1_weekWhy 18 = .ok (.ifCond .eq 7, 3) := dk_153 0 7 (dk_at dksX1_weekWhy_0 18 rfl rfl)
theorem dX1_weekWhy_21 : decode cX1_weekWhy 21 = .ok (.iconst 0, 1) := dk_3 (dk_at dksX1_weekWhy_0 21 rfl rfl)
theorem dX1_weekWhy_22 : decode cX1_weekWhy 22 = .ok (.goto 4, 3) := dk_167 0 4 (dk_at dksX1_weekWhy_1 0 rfl rfl)
theorem dX1_weekWhy_25 : decode cX1_weekWhy 25 = .ok (.iconst 2, 1) := dk_5 (dk_at dksX1_weekWhy_1 3 rfl rfl)
theorem dX1_weekWhy_26 : decode cX1_weekWhy 26 = .ok (.ireturn, 1) := dk_172 (dk_at dksX1_weekWhy_1 4 rfl rfl)
abbrev cX1_turnAt : ByteArray := prog_1_method_46_code
def yX1_turnAt : MethodName := ⟨RX1, "turnAt", "(II)I"⟩
def dkwX1_turnAt_3 : List UInt8 := [172]
abbrev dktX1_turnAt_3 : List UInt8 := dkwX1_turnAt_3 ++ []
def dkwX1_turnAt_2 : List UInt8 := [27, 182, 1, 60, 153, 0, 14, 42, 180, 0, 62, 28, 182, 1, 63, 167, 0, 9, 42, 16, 6, 182, 0, 97]
abbrev dktX1_turnAt_2 : List UInt8 := dkwX1_turnAt_2 ++ dktX1_turnAt_3
def dkwX1_turnAt_1 : List UInt8 := [100, 184, 0, 93, 154, 0, 9, 42, 4, 182, 0, 97, 172, 42, 180, 0, 62, 42, 180, 0, 108, 180, 0, 133]
abbrev dktX1_turnAt_1 : List UInt8 := dkwX1_turnAt_1 ++ dktX1_turnAt_2
def dkwX1_turnAt_0 : List UInt8 := [42, 182, 0, 83, 42, 27, 182, 1, 57, 62, 29, 153, 0, 9, 42, 29, 182, 0, 97, 172, 28, 3, 27, 4]
abbrev dktX1_turnAt_0 : List UInt8 := dkwX1_turnAt_0 ++ dktX1_turnAt_1
theorem dksX1_turnAt_0 : cX1_turnAt.data.toList.drop 0 = dktX1_turnAt_0 := by decide +kernel
theorem dksX1_turnAt_1 : cX1_turnAt.data.toList.drop 24 = dktX1_turnAt_1 := dk_seg dksX1_turnAt_0 24 rfl rfl
theorem dksX1_turnAt_2 : cX1_turnAt.data.toList.drop 48 = dktX1_turnAt_2 := dk_seg dksX1_turnAt_1 24 rfl rfl
theorem dksX1_turnAt_3 : cX1_turnAt.data.toList.drop 72 = dktX1_turnAt_3 := dk_seg dksX1_turnAt_2 24 rfl rfl
theorem dX1_turnAt_0 : decode cX1_turnAt 0 = .ok (.aload_n 0, 1) := dk_42 (dk_at dksX1_turnAt_0 0 rfl rfl)
theorem dX1_turnAt_1 : decode cX1_turnAt 1 = .ok (.invokevirtual 83, 3) := dk_182 0 83 (dk_at dksX1_turnAt_0 1 rfl rfl)
theorem dX1_turnAt_4 : decode cX1_turnAt 4 = .ok (.aload_n 0, 1) := dk_42 (dk_at dksX1_turnAt_0 4 rfl rfl)
theorem dX1_turnAt_5 : decode cX1_turnAt 5 = .ok (.iload_n 1, 1) := dk_27 (dk_at dksX1_turnAt_0 5 rfl rfl)
theorem dX1_turnAt_6 : decode cX1_turnAt 6 = .ok (.invokevirtual 313, 3) := dk_182 1 57 (dk_at dksX1_turnAt_0 6 rfl rfl)
theorem dX1_turnAt_9 : decode cX1_turnAt 9 = .ok (.istore_n 3, 1) := dk_62 (dk_at dksX1_turnAt_0 9 rfl rfl)
theorem dX1_turnAt_10 : decode cX1_turnAt 10 = .ok (.iload_n 3, 1) := dk_29 (dk_at dksX1_turnAt_0 10 rfl rfl)
theorem dX1_turnAt_11 : decode cX1_turnAt 11 = .ok (.ifCond .eq 9, 3) := dk_153 0 9 (dk_at dksX1_turnAt_0 11 rfl rfl)
theorem dX1_turnAt_14 : decode cX1_turnAt 14 = .ok (.aload_n 0, 1) := dk_42 (dk_at dksX1_turnAt_0 14 rfl rfl)
theorem dX1_turnAt_15 : decode cX1_turnAt 15 = .ok (.iload_n 3, 1) := dk_29 (dk_at dksX1_turnAt_0 15 rfl rfl)
theorem dX1_turnAt_16 : decode cX1_turnAt 16 = .ok (.invokevirtual 97, 3) := dk_182 0 97 (dk_at dksX1_turnAt_0 16 rfl rfl)
theorem dX1_turnAt_19 : decode cX1_turnAt 19 = .ok (.ireturn, 1) := dk_172 (dk_at dksX1_turnAt_0 19 rfl rfl)
theorem dX1_turnAt_20 : decode cX1_turnAt 20 = .ok (.iload_n 2, 1) := dk_28 (dk_at dksX1_turnAt_0 20 rfl rfl)
theorem dX1_turnAt_21 : decode cX1_turnAt 21 = .ok (.iconst 0, 1) := dk_3 (dk_at dksX1_turnAt_0 21 rfl rfl)
theorem dX1_turnAt_22 : decode cX1_turnAt 22 = .ok (.iload_n 1, 1) := dk_27 (dk_at dksX1_turnAt_0 22 rfl rfl)
theorem dX1_turnAt_23 : decode cX1_turnAt 23 = .ok (.iconst 1, 1) := dk_4 (dk_at dksX1_turnAt_0 23 rfl rfl)
theorem dX1_turnAt_24 : decode cX1_turnAt 24 = .ok (.isub, 1) := dk_100 (dk_at dksX1_turnAt_1 0 rfl rfl)
theorem dX1_turnAt_25 : decode cX1_turnAt 25 = .ok (.invokestatic 93, 3) := dk_184 0 93 (dk_at dksX1_turnAt_1 1 rfl rfl)
theorem dX1_turnAt_28 : decode cX1_turnAt 28 = .ok (.ifCond .ne 9, 3) := dk_154 0 9 (dk_at dksX1_turnAt_1 4 rfl rfl)
theorem dX1_turnAt_31 : decode cX1_turnAt 31 = .ok (.aload_n 0, 1) := dk_42 (dk_at dksX1_turnAt_1 7 rfl rfl)
theorem dX1_turnAt_32 : decode cX1_turnAt 32 = .ok (.iconst 1, 1) := dk_4 (dk_at dksX1_turnAt_1 8 rfl rfl)
theorem dX1_turnAt_33 : decode cX1_turnAt 33 = .ok (.invokevirtual 97, 3) := dk_182 0 97 (dk_at dksX1_turnAt_1 9 rfl rfl)
theorem dX1_turnAt_36 : decode cX1_turnAt 36 = .ok (.ireturn, 1) := dk_172 (dk_at dksX1_turnAt_1 12 rfl rfl)
theorem dX1_turnAt_37 : decode cX1_turnAt 37 = .ok (.aload_n 0, 1) := dk_42 (dk_at dksX1_turnAt_1 13 rfl rfl)
theorem dX1_turnAt_38 : decode cX1_turnAt 38 = .ok (.getfield 62, 3) := dk_180 0 62 (dk_at dksX1_turnAt_1 14 rfl rfl)
theorem dX1_turnAt_41 : decode cX1_turnAt 41 = .ok (.aload_n 0, 1) := dk_42 (dk_at dksX1_turnAt_1 17 rfl rfl)
theorem dX1_turnAt_42 : decode cX1_turnAt 42 = .ok (.getfield 108, 3) := dk_180 0 108 (dk_at dksX1_turnAt_1 18 rfl rfl)
theorem dX1_turnAt_45 : decode cX1_turnAt 45 = .ok (.getfield 133, 3) := dk_180 0 133 (dk_at dksX1_turnAt_1 21 rfl rfl)
theorem dX1_turnAt_48 : decode cX1_turnAt 48 = .ok (.iload_n 1, 1) := dk_27 (dk_at dksX1_turnAt_2 0 rfl rfl)
theorem dX1_turnAt_49 : decode cX1_turnAt 49 = .ok (.invokevirtual 316, 3) := dk_182 1 60 (dk_at dksX1_turnAt_2 1 rfl rfl)
theorem dX1_turnAt_52 : decode cX1_turnAt 52 = .ok (.ifCond .eq 14, 3) := dk_153 0 14 (dk_at dksX1_turnAt_2 4 rfl rfl)
theorem dX1_turnAt_55 : decode cX1_turnAt 55 = .ok (.aload_n 0, 1) := dk_42 (dk_at dksX1_turnAt_2 7 rfl rfl)
theorem dX1_turnAt_56 : decode cX1_turnAt 56 = .ok (.getfield 62, 3) := dk_180 0 62 (dk_at dksX1_turnAt_2 8 rfl rfl)
theorem dX1_turnAt_59 : decode cX1_turnAt 59 = .ok (.iload_n 2, 1) := dk_28 (dk_at dksX1_turnAt_2 11 rfl rfl)
theorem dX1_turnAt_60 : decode cX1_turnAt 60 = .ok (.invokevirtual 319, 3) := dk_182 1 63 (dk_at dksX1_turnAt_2 12 rfl rfl)
theorem dX1_turnAt_63 : decode cX1_turnAt 63 = .ok (.goto 9, 3) := dk_167 0 9 (dk_at dksX1_turnAt_2 15 rfl rfl)
theorem dX1_turnAt_66 : decode cX1_turnAt 66 = .ok (.aload_n 0, 1) := dk_42 (dk_at dksX1_turnAt_2 18 rfl rfl)
theorem dX1_turnAt_67 : decode cX1_turnAt 67 = .ok (.bipush 6, 2) := dk_16 6 (dk_at dksX1_turnAt_2 19 rfl rfl)
theorem dX1_turnAt_69 : decode cX1_turnAt 69 = .ok (.invokevirtual 97, 3) := dk_182 0 97 (dk_at dksX1_turnAt_2 21 rfl rfl)
theorem dX1_turnAt_72 : decode cX1_turnAt 72 = .ok (.ireturn, 1) := dk_172 (dk_at dksX1_turnAt_3 0 rfl rfl)
abbrev cX1_hand : ByteArray := prog_1_method_48_code
def yX1_hand : MethodName := ⟨RX1, "hand", "(IZ)J"⟩
def dkwX1_hand_2 : List UInt8 := [184, 1, 0, 173]
abbrev dktX1_hand_2 : List UInt8 := dkwX1_hand_2 ++ []
def dkwX1_hand_1 : List UInt8 := [180, 0, 176, 27, 50, 78, 45, 180, 0, 192, 45, 180, 0, 195, 184, 1, 66, 10, 45, 180, 0, 192, 121, 28]
abbrev dktX1_hand_1 : List UInt8 := dkwX1_hand_1 ++ dktX1_hand_2
def dkwX1_hand_0 : List UInt8 := [42, 182, 0, 83, 42, 27, 182, 0, 136, 154, 0, 10, 42, 4, 182, 0, 97, 133, 173, 42, 180, 0, 108]
abbrev dktX1_hand_0 : List UInt8 := dkwX1_hand_0 ++ dktX1_hand_1
theorem dksX1_hand_0 : cX1_hand.data.toList.drop 0 = dktX1_hand_0 := by decide +kernel
theorem dksX1_hand_1 : cX1_hand.data.toList.drop 23 = dktX1_hand_1 := dk_seg dksX1_hand_0 23 rfl rfl
theorem dksX1_hand_2 : cX1_hand.data.toList.drop 47 = dktX1_hand_2 := dk_seg dksX1_hand_1 24 rfl rfl
theorem dX1_hand_0 : decode cX1_hand 0 = .ok (.aload_n 0, 1) := dk_42 (dk_at dksX1_hand_0 0 rfl rfl)
theorem dX1_hand_1 : decode cX1_hand 1 = .ok (.invokevirtual 83, 3) := dk_182 0 83 (dk_at dksX1_hand_0 1 rfl rfl)
theorem dX1_hand_4 : decode cX1_hand 4 = .ok (.aload_n 0, 1) := dk_42 (dk_at dksX1_hand_0 4 rfl rfl)
theorem dX1_hand_5 : decode cX1_hand 5 = .ok (.iload_n 1, 1) := dk_27 (dk_at dksX1_hand_0 5 rfl rfl)
theorem dX1_hand_6 : decode cX1_hand 6 = .ok (.invokevirtual 136, 3) := dk_182 0 136 (dk_at dksX1_hand_0 6 rfl rfl)
theorem dX1_hand_9 : decode cX1_hand 9 = .ok (.ifCond .ne 10, 3) := dk_154 0 10 (dk_at dksX1_hand_0 9 rfl rfl)
theorem dX1_hand_12 : decode cX1_hand 12 = .ok (.aload_n 0, 1) := dk_42 (dk_at dksX1_hand_0 12 rfl rfl)
theorem dX1_hand_13 : decode cX1_hand 13 = .ok (.iconst 1, 1) := dk_4 (dk_at dksX1_hand_0 13 rfl rfl)
theorem dX1_hand_14 : decode cX1_hand 14 = .ok (.invokevirtual 97, 3) := dk_182 0 97 (dk_at dksX1_hand_0 14 rfl rfl)
theorem dX1_hand_17 : decode cX1_hand 17 = .ok (.i2l, 1) := dk_133 (dk_at dksX1_hand_0 17 rfl rfl)
theorem dX1_hand_18 : decode cX1_hand 18 = .ok (.lreturn, 1) := dk_173 (dk_at dksX1_hand_0 18 rfl rfl)
theorem dX1_hand_19 : decode cX1_hand 19 = .ok (.aload_n 0, 1) := dk_42 (dk_at dksX1_hand_0 19 rfl rfl)
theorem dX1_hand_20 : decode cX1_hand 20 = .ok (.getfield 108, 3) := dk_180 0 108 (dk_at dksX1_hand_0 20 rfl rfl)
theorem dX1_hand_23 : decode cX1_hand 23 = .ok (.getfield 176, 3) := dk_180 0 176 (dk_at dksX1_hand_1 0 rfl rfl)
theorem dX1_hand_26 : decode cX1_hand 26 = .ok (.iload_n 1, 1) := dk_27 (dk_at dksX1_hand_1 3 rfl rfl)
theorem dX1_hand_27 : decode cX1_hand 27 = .ok (.aaload, 1) := dk_50 (dk_at dksX1_hand_1 4 rfl rfl)
theorem dX1_hand_28 : decode cX1_hand 28 = .ok (.astore_n 3, 1) := dk_78 (dk_at dksX1_hand_1 5 rfl rfl)
theorem dX1_hand_29 : decode cX1_hand 29 = .ok (.aload_n 3, 1) := dk_45 (dk_at dksX1_hand_1 6 rfl rfl)
theorem dX1_hand_30 : decode cX1_hand 30 = .ok (.getfield 192, 3) := dk_180 0 192 (dk_at dksX1_hand_1 7 rfl rfl)
theorem dX1_hand_33 : decode cX1_hand 33 = .ok (.aload_n 3, 1) := dk_45 (dk_at dksX1_hand_1 10 rfl rfl)
theorem dX1_hand_34 : decode cX1_hand 34 = .ok (.getfield 195, 3) := dk_180 0 195 (dk_at dksX1_hand_1 11 rfl rfl)
theorem dX1_hand_37 : decode cX1_hand 37 = .ok (.invokestatic 322, 3) := dk_184 1 66 (dk_at dksX1_hand_1 14 rfl rfl)
theorem dX1_hand_40 : decode cX1_hand 40 = .ok (.lconst 1, 1) := dk_10 (dk_at dksX1_hand_1 17 rfl rfl)
theorem dX1_hand_41 : decode cX1_hand 41 = .ok (.aload_n 3, 1) := dk_45 (dk_at dksX1_hand_1 18 rfl rfl)
theorem dX1_hand_42 : decode cX1_hand 42 = .ok (.getfield 192, 3) := dk_180 0 192 (dk_at dksX1_hand_1 19 rfl rfl)
theorem dX1_hand_45 : decode cX1_hand 45 = .ok (.lshl, 1) := dk_121 (dk_at dksX1_hand_1 22 rfl rfl)
theorem dX1_hand_46 : decode cX1_hand 46 = .ok (.iload_n 2, 1) := dk_28 (dk_at dksX1_hand_1 23 rfl rfl)
theorem dX1_hand_47 : decode cX1_hand 47 = .ok (.invokestatic 256, 3) := dk_184 1 0 (dk_at dksX1_hand_2 0 rfl rfl)
theorem dX1_hand_50 : decode cX1_hand 50 = .ok (.lreturn, 1) := dk_173 (dk_at dksX1_hand_2 3 rfl rfl)
abbrev cX1_tail : ByteArray := prog_1_method_47_code
def yX1_tail : MethodName := ⟨RX1, "tail", "(II)J"⟩
def dkwX1_tail_2 : List UInt8 := [132, 6, 1, 167, 255, 216, 32, 173]
abbrev dktX1_tail_2 : List UInt8 := dkwX1_tail_2 ++ []
def dkwX1_tail_1 : List UInt8 := [167, 0, 4, 9, 97, 65, 22, 4, 26, 21, 6, 100, 133, 105, 21, 6, 4, 96, 133, 109, 55, 4]
abbrev dktX1_tail_1 : List UInt8 := dkwX1_tail_1 ++ dktX1_tail_2
def dkwX1_tail_0 : List UInt8 := [9, 65, 10, 55, 4, 3, 54, 6, 21, 6, 26, 163, 0, 40, 32, 21, 6, 27, 161, 0, 8, 22, 4]
abbrev dktX1_tail_0 : List UInt8 := dkwX1_tail_0 ++ dktX1_tail_1
theorem dksX1_tail_0 : cX1_tail.data.toList.drop 0 = dktX1_tail_0 := by decide +kernel
theorem dksX1_tail_1 : cX1_tail.data.toList.drop 23 = dktX1_tail_1 := dk_seg dksX1_tail_0 23 rfl rfl
theorem dksX1_tail_2 : cX1_tail.data.toList.drop 45 = dktX1_tail_2 := dk_seg dksX1_tail_1 22 rfl rfl
theorem dX1_tail_0 : decode cX1_tail 0 = .ok (.lconst 0, 1) := dk_9 (dk_at dksX1_tail_0 0 rfl rfl)
theorem dX1_tail_1 : decode cX1_tail 1 = .ok (.lstore_n 2, 1) := dk_65 (dk_at dksX1_tail_0 1 rfl rfl)
theorem dX1_tail_2 : decode cX1_tail 2 = .ok (.lconst 1, 1) := dk_10 (dk_at dksX1_tail_0 2 rfl rfl)
theorem dX1_tail_3 : decode cX1_tail 3 = .ok (.lstore 4, 2) := dk_55 4 (dk_at dksX1_tail_0 3 rfl rfl)
theorem dX1_tail_5 : decode cX1_tail 5 = .ok (.iconst 0, 1) := dk_3 (dk_at dksX1_tail_0 5 rfl rfl)
theorem dX1_tail_6 : decode cX1_tail 6 = .ok (.istore 6, 2) := dk_54 6 (dk_at dksX1_tail_0 6 rfl rfl)
theorem dX1_tail_8 : decode cX1_tail 8 = .ok (.iload 6, 2) := dk_21 6 (dk_at dksX1_tail_0 8 rfl rfl)
theorem dX1_tail_10 : decode cX1_tail 10 = .ok (.iload_n 0, 1) := dk_26 (dk_at dksX1_tail_0 10 rfl rfl)
theorem dX1_tail_11 : decode cX1_tail 11 = .ok (.if_icmp .gt 40, 3) := dk_163 0 40 (dk_at dksX1_tail_0 11 rfl rfl)
theorem dX1_tail_14 : decode cX1_tail 14 = .ok (.lload_n 2, 1) := dk_32 (dk_at dksX1_tail_0 14 rfl rfl)
theorem dX1_tail_15 : decode cX1_tail 15 = .ok (.iload 6, 2) := dk_21 6 (dk_at dksX1_tail_0 15 rfl rfl)
theorem dX1_tail_17 : decode cX1_tail 17 = .ok (.iload_n 1, 1) := dk_27 (dk_at dksX1_tail_0 17 rfl rfl)
theorem dX1_tail_18 : decode cX1_tail 18 = .ok (.if_icmp .lt 8, 3) := dk_161 0 8 (dk_at dksX1_tail_0 18 rfl rfl)
theorem dX1_tail_21 : decode cX1_tail 21 = .ok (.lload 4, 2) := dk_22 4 (dk_at dksX1_tail_0 21 rfl rfl)
theorem dX1_tail_23 : decode cX1_tail 23 = .ok (.goto 4, 3) := dk_167 0 4 (dk_at dksX1_tail_1 0 rfl rfl)
theorem dX1_tail_26 : decode cX1_tail 26 = .ok (.lconst 0, 1) := dk_9 (dk_at dksX1_tail_1 3 rfl rfl)
theorem dX1_tail_27 : decode cX1_tail 27 = .ok (.ladd, 1) := dk_97 (dk_at dksX1_tail_1 4 rfl rfl)
theorem dX1_tail_28 : decode cX1_tail 28 = .ok (.lstore_n 2, 1) := dk_65 (dk_at dksX1_tail_1 5 rfl rfl)
theorem dX1_tail_29 : decode cX1_tail 29 = .ok (.lload 4, 2) := dk_22 4 (dk_at dksX1_tail_1 6 rfl rfl)
theorem dX1_tail_31 : decode cX1_tail 31 = .ok (.iload_n 0, 1) := dk_26 (dk_at dksX1_tail_1 8 rfl rfl)
theorem dX1_tail_32 : decode cX1_tail 32 = .ok (.iload 6, 2) := dk_21 6 (dk_at dksX1_tail_1 9 rfl rfl)
theorem dX1_tail_34 : decode cX1_tail 34 = .ok (.isub, 1) := dk_100 (dk_at dksX1_tail_1 11 rfl rfl)
theorem dX1_tail_35 : decode cX1_tail 35 = .ok (.i2l, 1) := dk_133 (dk_at dksX1_tail_1 12 rfl rfl)
theorem dX1_tail_36 : decode cX1_tail 36 = .ok (.lmul, 1) := dk_105 (dk_at dksX1_tail_1 13 rfl rfl)
theorem dX1_tail_37 : decode cX1_tail 37 = .ok (.iload 6, 2) := dk_21 6 (dk_at dksX1_tail_1 14 rfl rfl)
theorem dX1_tail_39 : decode cX1_tail 39 = .ok (.iconst 1, 1) := dk_4 (dk_at dksX1_tail_1 16 rfl rfl)
theorem dX1_tail_40 : decode cX1_tail 40 = .ok (.iadd, 1) := dk_96 (dk_at dksX1_tail_1 17 rfl rfl)
theorem dX1_tail_41 : decode cX1_tail 41 = .ok (.i2l, 1) := dk_133 (dk_at dksX1_tail_1 18 rfl rfl)
theorem dX1_tail_42 : decode cX1_tail 42 = .ok (.ldiv, 1) := dk_109 (dk_at dksX1_tail_1 19 rfl rfl)
theorem dX1_tail_43 : decode cX1_tail 43 = .ok (.lstore 4, 2) := dk_55 4 (dk_at dksX1_tail_1 20 rfl rfl)
theorem dX1_tail_45 : decode cX1_tail 45 = .ok (.iinc 6 1, 3) := dk_132 6 1 (dk_at dksX1_tail_2 0 rfl rfl)
theorem dX1_tail_48 : decode cX1_tail 48 = .ok (.goto (-40), 3) := dk_167 255 216 (dk_at dksX1_tail_2 3 rfl rfl)
theorem dX1_tail_51 : decode cX1_tail 51 = .ok (.lload_n 2, 1) := dk_32 (dk_at dksX1_tail_2 6 rfl rfl)
theorem dX1_tail_52 : decode cX1_tail 52 = .ok (.lreturn, 1) := dk_173 (dk_at dksX1_tail_2 7 rfl rfl)
abbrev cX1_side : ByteArray := prog_1_method_49_code
def yX1_side : MethodName := ⟨RX1, "side", "(Z)J"⟩
def dkwX1_side_2 : List UInt8 := [184, 1, 0, 173]
abbrev dktX1_side_2 : List UInt8 := dkwX1_side_2 ++ []
def dkwX1_side_1 : List UInt8 := [180, 1, 70, 42, 180, 0, 108, 180, 1, 73, 184, 1, 66, 10, 42, 180, 0, 108, 180, 1, 70, 121, 27]
abbrev dktX1_side_1 : List UInt8 := dkwX1_side_1 ++ dktX1_side_2
def dkwX1_side_0 : List UInt8 := [42, 182, 0, 83, 42, 180, 0, 108, 199, 0, 10, 42, 4, 182, 0, 97, 133, 173, 42, 180, 0, 108]
abbrev dktX1_side_0 : List UInt8 := dkwX1_side_0 ++ dktX1_side_1
theorem dksX1_side_0 : cX1_side.data.toList.drop 0 = dktX1_side_0 := by decide +kernel
theorem dksX1_side_1 : cX1_side.data.toList.drop 22 = dktX1_side_1 := dk_seg dksX1_side_0 22 rfl rfl
theorem dksX1_side_2 : cX1_side.data.toList.drop 45 = dktX1_side_2 := dk_seg dksX1_side_1 23 rfl rfl
theorem dX1_side_0 : decode cX1_side 0 = .ok (.aload_n 0, 1) := dk_42 (dk_at dksX1_side_0 0 rfl rfl)
theorem dX1_side_1 : decode cX1_side 1 = .ok (.invokevirtual 83, 3) := dk_182 0 83 (dk_at dksX1_side_0 1 rfl rfl)
theorem dX1_side_4 : decode cX1_side 4 = .ok (.aload_n 0, 1) := dk_42 (dk_at dksX1_side_0 4 rfl rfl)
theorem dX1_side_5 : decode cX1_side 5 = .ok (.getfield 108, 3) := dk_180 0 108 (dk_at dksX1_side_0 5 rfl rfl)
theorem dX1_side_8 : decode cX1_side 8 = .ok (.ifnonnull 10, 3) := dk_199 0 10 (dk_at dksX1_side_0 8 rfl rfl)
theorem dX1_side_11 : decode cX1_side 11 = .ok (.aload_n 0, 1) := dk_42 (dk_at dksX1_side_0 11 rfl rfl)
theorem dX1_side_12 : decode cX1_side 12 = .ok (.iconst 1, 1) := dk_4 (dk_at dksX1_side_0 12 rfl rfl)
theorem dX1_side_13 : decode cX1_side 13 = .ok (.invokevirtual 97, 3) := dk_182 0 97 (dk_at dksX1_side_0 13 rfl rfl)
theorem dX1_side_16 : decode cX1_side 16 = .ok (.i2l, 1) := dk_133 (dk_at dksX1_side_0 16 rfl rfl)
theorem dX1_side_17 : decode cX1_side 17 = .ok (.lreturn, 1) := dk_173 (dk_at dksX1_side_0 17 rfl rfl)
theorem dX1_side_18 : decode cX1_side 18 = .ok (.aload_n 0, 1) := dk_42 (dk_at dksX1_side_0 18 rfl rfl)
theorem dX1_side_19 : decode cX1_side 19 = .ok (.getfield 108, 3) := dk_180 0 108 (dk_at dksX1_side_0 19 rfl rfl)
theorem dX1_side_22 : decode cX1_side 22 = .ok (.getfield 326, 3) := dk_180 1 70 (dk_at dksX1_side_1 0 rfl rfl)
theorem dX1_side_25 : decode cX1_side 25 = .ok (.aload_n 0, 1) := dk_42 (dk_at dksX1_side_1 3 rfl rfl)
theorem dX1_side_26 : decode cX1_side 26 = .ok (.getfield 108, 3) := dk_180 0 108 (dk_at dksX1_side_1 4 rfl rfl)
theorem dX1_side_29 : decode cX1_side 29 = .ok (.getfield 329, 3) := dk_180 1 73 (dk_at dksX1_side_1 7 rfl rfl)
theorem dX1_side_32 : decode cX1_side 32 = .ok (.invokestatic 322, 3) := dk_184 1 66 (dk_at dksX1_side_1 10 rfl rfl)
theorem dX1_side_35 : decode cX1_side 35 = .ok (.lconst 1, 1) := dk_10 (dk_at dksX1_side_1 13 rfl rfl)
theorem dX1_side_36 : decode cX1_side 36 = .ok (.aload_n 0, 1) := dk_42 (dk_at dksX1_side_1 14 rfl rfl)
theorem dX1_side_37 : decode cX1_side 37 = .ok (.getfield 108, 3) := dk_180 0 108 (dk_at dksX1_side_1 15 rfl rfl)
theorem dX1_side_40 : decode cX1_side 40 = .ok (.getfield 326, 3) := dk_180 1 70 (dk_at dksX1_side_1 18 rfl rfl)
theorem dX1_side_43 : decode cX1_side 43 = .ok (.lshl, 1) := dk_121 (dk_at dksX1_side_1 21 rfl rfl)
theorem dX1_side_44 : decode cX1_side 44 = .ok (.iload_n 1, 1) := dk_27 (dk_at dksX1_side_1 22 rfl rfl)
theorem dX1_side_45 : decode cX1_side 45 = .ok (.invokestatic 256, 3) := dk_184 1 0 (dk_at dksX1_side_2 0 rfl rfl)
theorem dX1_side_48 : decode cX1_side 48 = .ok (.lreturn, 1) := dk_173 (dk_at dksX1_side_2 3 rfl rfl)
abbrev cX1_known : ByteArray := prog_1_method_50_code
def yX1_known : MethodName := ⟨RX1, "known", "()I"⟩
def dkwX1_known_4 : List UInt8 := [132, 2, 1, 167, 255, 183, 27, 172]
abbrev dktX1_known_4 : List UInt8 := dkwX1_known_4 ++ []
def dkwX1_known_3 : List UInt8 := [180, 0, 176, 28, 50, 180, 0, 192, 121, 148, 157, 0, 9, 4, 28, 120, 167, 0, 4, 3, 128, 60]
abbrev dktX1_known_3 : List UInt8 := dkwX1_known_3 ++ dktX1_known_4
def dkwX1_known_2 : List UInt8 := [180, 0, 192, 42, 180, 0, 108, 180, 0, 176, 28, 50, 180, 0, 195, 184, 1, 66, 105, 10, 42, 180, 0, 108]
abbrev dktX1_known_2 : List UInt8 := dkwX1_known_2 ++ dktX1_known_3
def dkwX1_known_1 : List UInt8 := [180, 0, 108, 180, 0, 133, 162, 0, 68, 27, 20, 1, 76, 42, 180, 0, 108, 180, 0, 176, 28, 50]
abbrev dktX1_known_1 : List UInt8 := dkwX1_known_1 ++ dktX1_known_2
def dkwX1_known_0 : List UInt8 := [42, 182, 0, 83, 42, 180, 0, 108, 199, 0, 9, 42, 4, 182, 0, 97, 172, 3, 60, 3, 61, 28, 42]
abbrev dktX1_known_0 : List UInt8 := dkwX1_known_0 ++ dktX1_known_1
theorem dksX1_known_0 : cX1_known.data.toList.drop 0 = dktX1_known_0 := by decide +kernel
theorem dksX1_known_1 : cX1_known.data.toList.drop 23 = dktX1_known_1 := dk_seg dksX1_known_0 23 rfl rfl
theorem dksX1_known_2 : cX1_known.data.toList.drop 45 = dktX1_known_2 := dk_seg dksX1_known_1 22 rfl rfl
theorem dksX1_known_3 : cX1_known.data.toList.drop 69 = dktX1_known_3 := dk_seg dksX1_known_2 24 rfl rfl
theorem dksX1_known_4 : cX1_known.data.toList.drop 91 = dktX1_known_4 := dk_seg dksX1_known_3 22 rfl rfl
theorem dX1_known_0 : decode cX1_known 0 = .ok (.aload_n 0, 1) := dk_42 (dk_at dksX1_known_0 0 rfl rfl)
theorem dX1_known_1 : decode cX1_known 1 = .ok (.invokevirtual 83, 3) := dk_182 0 83 (dk_at dksX1_known_0 1 rfl rfl)
theorem dX1_known_4 : decode cX1_known 4 = .ok (.aload_n 0, 1) := dk_42 (dk_at dksX1_known_0 4 rfl rfl)
theorem dX1_known_5 : decode cX1_known 5 = .ok (.getfield 108, 3) := dk_180 0 108 (dk_at dksX1_known_0 5 rfl rfl)
theorem dX1_known_8 : decode cX1_known 8 = .ok (.ifnonnull 9, 3) := dk_199 0 9 (dk_at dksX1_known_0 8 rfl rfl)
theorem dX1_known_11 : decode cX1_known 11 = .ok (.aload_n 0, 1) := dk_42 (dk_at dksX1_known_0 11 rfl rfl)
theorem dX1_known_12 : decode cX1_known 12 = .ok (.iconst 1, 1) := dk_4 (dk_at dksX1_known_0 12 rfl rfl)
theorem dX1_known_13 : decode cX1_known 13 = .ok (.invokevirtual 97, 3) := dk_182 0 97 (dk_at dksX1_known_0 13 rfl rfl)
theorem dX1_known_16 : decode cX1_known 16 = .ok (.ireturn, 1) := dk_172 (dk_at dksX1_known_0 16 rfl rfl)
theorem dX1_known_17 : decode cX1_known 17 = .ok (.iconst 0, 1) := dk_3 (dk_at dksX1_known_0 17 rfl rfl)
theorem dX1_known_18 : decode cX1_known 18 = .ok (.istore_n 1, 1) := dk_60 (dk_at dksX1_known_0 18 rfl rfl)
theorem dX1_known_19 : decode cX1_known 19 = .ok (.iconst 0, 1) := dk_3 (dk_at dksX1_known_0 19 rfl rfl)
theorem dX1_known_20 : decode cX1_known 20 = .ok (.istore_n 2, 1) := dk_61 (dk_at dksX1_known_0 20 rfl rfl)
theorem dX1_known_21 : decode cX1_known 21 = .ok (.iload_n 2, 1) := dk_28 (dk_at dksX1_known_0 21 rfl rfl)
theorem dX1_known_22 : decode cX1_known 22 = .ok (.aload_n 0, 1) := dk_42 (dk_at dksX1_known_0 22 rfl rfl)
theorem dX1_known_23 : decode cX1_known 23 = .ok (.getfield 108, 3) := dk_180 0 108 (dk_at dksX1_known_1 0 rfl rfl)
theorem dX1_known_26 : decode cX1_known 26 = .ok (.getfield 133, 3) := dk_180 0 133 (dk_at dksX1_known_1 3 rfl rfl)
theorem dX1_known_29 : decode cX1_known 29 = .ok (.if_icmp .ge 68, 3) := dk_162 0 68 (dk_at dksX1_known_1 6 rfl rfl)
theorem dX1_known_32 : decode cX1_known 32 = .ok (.iload_n 1, 1) := dk_27 (dk_at dksX1_known_1 9 rfl rfl)
theorem dX1_known_33 : decode cX1_known 33 = .ok (.ldc2_w 332, 3) := dk_20 1 76 (dk_at dksX1_known_1 10 rfl rfl)
theorem dX1_known_36 : decode cX1_known 36 = .ok (.aload_n 0, 1) := dk_42 (dk_at dksX1_known_1 13 rfl rfl)
theorem dX1_known_37 : decode cX1_known 37 = .ok (.getfield 108, 3) := dk_180 0 108 (dk_at dksX1_known_1 14 rfl rfl)
theorem dX1_known_40 : decode cX1_known 40 = .ok (.getfield 176, 3) := dk_180 0 176 (dk_at dksX1_known_1 17 rfl rfl)
theorem dX1_known_43 : decode cX1_known 43 = .ok (.iload_n 2, 1) := dk_28 (dk_at dksX1_known_1 20 rfl rfl)
theorem dX1_known_44 : decode cX1_known 44 = .ok (.aaload, 1) := dk_50 (dk_at dksX1_known_1 21 rfl rfl)
theorem dX1_known_45 : decode cX1_known 45 = .ok (.getfield 192, 3) := dk_180 0 192 (dk_at dksX1_known_2 0 rfl rfl)
theorem dX1_known_48 : decode cX1_known 48 = .ok (.aload_n 0, 1) := dk_42 (dk_at dksX1_known_2 3 rfl rfl)
theorem dX1_known_49 : decode cX1_known 49 = .ok (.getfield 108, 3) := dk_180 0 108 (dk_at dksX1_known_2 4 rfl rfl)
theorem dX1_known_52 : decode cX1_known 52 = .ok (.getfield 176, 3) := dk_180 0 176 (dk_at dksX1_known_2 7 rfl rfl)
theorem dX1_known_55 : decode cX1_known 55 = .ok (.iload_n 2, 1) := dk_28 (dk_at dksX1_known_2 10 rfl rfl)
theorem dX1_known_56 : decode cX1_known 56 = .ok (.aaload, 1) := dk_50 (dk_at dksX1_known_2 11 rfl rfl)
theorem dX1_known_57 : decode cX1_known 57 = .ok (.getfield 195, 3) := dk_180 0 195 (dk_at dksX1_known_2 12 rfl rfl)
theorem dX1_known_60 : decode cX1_known 60 = .ok (.invokestatic 322, 3) := dk_184 1 66 (dk_at dksX1_known_2 15 rfl rfl)
theorem dX1_known_63 : decode cX1_known 63 = .ok (.lmul, 1) := dk_105 (dk_at dksX1_known_2 18 rfl rfl)
theorem dX1_known_64 : decode cX1_known 64 = .ok (.lconst 1, 1) := dk_10 (dk_at dksX1_known_2 19 rfl rfl)
theorem dX1_known_65 : decode cX1_known 65 = .ok (.aload_n 0, 1) := dk_42 (dk_at dksX1_known_2 20 rfl rfl)
theorem dX1_known_66 : decode cX1_known 66 = .ok (.getfield 108, 3) := dk_180 0 108 (dk_at dksX1_known_2 21 rfl rfl)
theorem dX1_known_69 : decode cX1_known 69 = .ok (.getfield 176, 3) := dk_180 0 176 (dk_at dksX1_known_3 0 rfl rfl)
theorem dX1_known_72 : decode cX1_known 72 = .ok (.iload_n 2, 1) := dk_28 (dk_at dksX1_known_3 3 rfl rfl)
theorem dX1_known_73 : decode cX1_known 73 = .ok (.aaload, 1) := dk_50 (dk_at dksX1_known_3 4 rfl rfl)
theorem dX1_known_74 : decode cX1_known 74 = .ok (.getfield 192, 3) := dk_180 0 192 (dk_at dksX1_known_3 5 rfl rfl)
theorem dX1_known_77 : decode cX1_known 77 = .ok (.lshl, 1) := dk_121 (dk_at dksX1_known_3 8 rfl rfl)
theorem dX1_known_78 : decode cX1_known 78 = .ok (.lcmp, 1) := dk_148 (dk_at dksX1_known_3 9 rfl rfl)
theorem dX1_known_79 : decode cX1_known 79 = .ok (.ifCond .gt 9, 3) := dk_157 0 9 (dk_at dksX1_known_3 10 rfl rfl)
theorem dX1_known_82 : decode cX1_known 82 = .ok (.iconst 1, 1) := dk_4 (dk_at dksX1_known_3 13 rfl rfl)
theorem dX1_known_83 : decode cX1_known 83 = .ok (.iload_n 2, 1) := dk_28 (dk_at dksX1_known_3 14 rfl rfl)
theorem dX1_known_84 : decode cX1_known 84 = .ok (.ishl, 1) := dk_120 (dk_at dksX1_known_3 15 rfl rfl)
theorem dX1_known_85 : decode cX1_known 85 = .ok (.goto 4, 3) := dk_167 0 4 (dk_at dksX1_known_3 16 rfl rfl)
theorem dX1_known_88 : decode cX1_known 88 = .ok (.iconst 0, 1) := dk_3 (dk_at dksX1_known_3 19 rfl rfl)
theorem dX1_known_89 : decode cX1_known 89 = .ok (.ior, 1) := dk_128 (dk_at dksX1_known_3 20 rfl rfl)
theorem dX1_known_90 : decode cX1_known 90 = .ok (.istore_n 1, 1) := dk_60 (dk_at dksX1_known_3 21 rfl rfl)
theorem dX1_known_91 : decode cX1_known 91 = .ok (.iinc 2 1, 3) := dk_132 2 1 (dk_at dksX1_known_4 0 rfl rfl)
theorem dX1_known_94 : decode cX1_known 94 = .ok (.goto (-73), 3) := dk_167 255 183 (dk_at dksX1_known_4 3 rfl rfl)
theorem dX1_known_97 : decode cX1_known 97 = .ok (.iload_n 1, 1) := dk_27 (dk_at dksX1_known_4 6 rfl rfl)
theorem dX1_known_98 : decode cX1_known 98 = .ok (.ireturn, 1) := dk_172 (dk_at dksX1_known_4 7 rfl rfl)
abbrev cX1_hens : ByteArray := prog_1_method_51_code
def yX1_hens : MethodName := ⟨RX1, "hens", "(I)I"⟩
def dkwX1_hens_2 : List UInt8 := [167, 255, 246, 28, 172]
abbrev dktX1_hens_2 : List UInt8 := dkwX1_hens_2 ++ []
def dkwX1_hens_1 : List UInt8 := [184, 0, 93, 154, 0, 9, 42, 5, 182, 0, 97, 172, 3, 61, 4, 28, 120, 27, 162, 0, 9, 132, 2, 1]
abbrev dktX1_hens_1 : List UInt8 := dkwX1_hens_1 ++ dktX1_hens_2
def dkwX1_hens_0 : List UInt8 := [42, 182, 0, 83, 42, 180, 0, 108, 199, 0, 9, 42, 4, 182, 0, 97, 172, 27, 4, 19, 1, 78]
abbrev dktX1_hens_0 : List UInt8 := dkwX1_hens_0 ++ dktX1_hens_1
theorem dksX1_hens_0 : cX1_hens.data.toList.drop 0 = dktX1_hens_0 := by decide +kernel
theorem dksX1_hens_1 : cX1_hens.data.toList.drop 22 = dktX1_hens_1 := dk_seg dksX1_hens_0 22 rfl rfl
theorem dksX1_hens_2 : cX1_hens.data.toList.drop 46 = dktX1_hens_2 := dk_seg dksX1_hens_1 24 rfl rfl
theorem dX1_hens_0 : decode cX1_hens 0 = .ok (.aload_n 0, 1) := dk_42 (dk_at dksX1_hens_0 0 rfl rfl)
theorem dX1_hens_1 : decode cX1_hens 1 = .ok (.invokevirtual 83, 3) := dk_182 0 83 (dk_at dksX1_hens_0 1 rfl rfl)
theorem dX1_hens_4 : decode cX1_hens 4 = .ok (.aload_n 0, 1) := dk_42 (dk_at dksX1_hens_0 4 rfl rfl)
theorem dX1_hens_5 : decode cX1_hens 5 = .ok (.getfield 108, 3) := dk_180 0 108 (dk_at dksX1_hens_0 5 rfl rfl)
theorem dX1_hens_8 : decode cX1_hens 8 = .ok (.ifnonnull 9, 3) := dk_199 0 9 (dk_at dksX1_hens_0 8 rfl rfl)
theorem dX1_hens_11 : decode cX1_hens 11 = .ok (.aload_n 0, 1) := dk_42 (dk_at dksX1_hens_0 11 rfl rfl)
theorem dX1_hens_12 : decode cX1_hens 12 = .ok (.iconst 1, 1) := dk_4 (dk_at dksX1_hens_0 12 rfl rfl)
theorem dX1_hens_13 : decode cX1_hens 13 = .ok (.invokevirtual 97, 3) := dk_182 0 97 (dk_at dksX1_hens_0 13 rfl rfl)
theorem dX1_hens_16 : decode cX1_hens 16 = .ok (.ireturn, 1) := dk_172 (dk_at dksX1_hens_0 16 rfl rfl)
theorem dX1_hens_17 : decode cX1_hens 17 = .ok (.iload_n 1, 1) := dk_27 (dk_at dksX1_hens_0 17 rfl rfl)
theorem dX1_hens_18 : decode cX1_hens 18 = .ok (.iconst 1, 1) := dk_4 (dk_at dksX1_hens_0 18 rfl rfl)
theorem dX1_hens_19 : decode cX1_hens 19 = .ok (.ldc_w 334, 3) := dk_19 1 78 (dk_at dksX1_hens_0 19 rfl rfl)
theorem dX1_hens_22 : decode cX1_hens 22 = .ok (.invokestatic 93, 3) := dk_184 0 93 (dk_at dksX1_hens_1 0 rfl rfl)
theorem dX1_hens_25 : decode cX1_hens 25 = .ok (.ifCond .ne 9, 3) := dk_154 0 9 (dk_at dksX1_hens_1 3 rfl rfl)
theorem dX1_hens_28 : decode cX1_hens 28 = .ok (.aload_n 0, 1) := dk_42 (dk_at dksX1_hens_1 6 rfl rfl)
theorem dX1_hens_29 : decode cX1_hens 29 = .ok (.iconst 2, 1) := dk_5 (dk_at dksX1_hens_1 7 rfl rfl)
theorem dX1_hens_30 : decode cX1_hens 30 = .ok (.invokevirtual 97, 3) := dk_182 0 97 (dk_at dksX1_hens_1 8 rfl rfl)
theorem dX1_hens_33 : decode cX1_hens 33 = .ok (.ireturn, 1) := dk_172 (dk_at dksX1_hens_1 11 rfl rfl)
theorem dX1_hens_34 : decode cX1_hens 34 = .ok (.iconst 0, 1) := dk_3 (dk_at dksX1_hens_1 12 rfl rfl)
theorem dX1_hens_35 : decode cX1_hens 35 = .ok (.istore_n 2, 1) := dk_61 (dk_at dksX1_hens_1 13 rfl rfl)
theorem dX1_hens_36 : decode cX1_hens 36 = .ok (.iconst 1, 1) := dk_4 (dk_at dksX1_hens_1 14 rfl rfl)
theorem dX1_hens_37 : decode cX1_hens 37 = .ok (.iload_n 2, 1) := dk_28 (dk_at dksX1_hens_1 15 rfl rfl)
theorem dX1_hens_38 : decode cX1_hens 38 = .ok (.ishl, 1) := dk_120 (dk_at dksX1_hens_1 16 rfl rfl)
theorem dX1_hens_39 : decode cX1_hens 39 = .ok (.iload_n 1, 1) := dk_27 (dk_at dksX1_hens_1 17 rfl rfl)
theorem dX1_hens_40 : decode cX1_hens 40 = .ok (.if_icmp .ge 9, 3) := dk_162 0 9 (dk_at dksX1_hens_1 18 rfl rfl)
theorem dX1_hens_43 : decode cX1_hens 43 = .ok (.iinc 2 1, 3) := dk_132 2 1 (dk_at dksX1_hens_1 21 rfl rfl)
theorem dX1_hens_46 : decode cX1_hens 46 = .ok (.goto (-10), 3) := dk_167 255 246 (dk_at dksX1_hens_2 0 rfl rfl)
theorem dX1_hens_49 : decode cX1_hens 49 = .ok (.iload_n 2, 1) := dk_28 (dk_at dksX1_hens_2 3 rfl rfl)
theorem dX1_hens_50 : decode cX1_hens 50 = .ok (.ireturn, 1) := dk_172 (dk_at dksX1_hens_2 4 rfl rfl)
