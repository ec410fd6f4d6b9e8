set_option maxRecDepth 100000
abbrev cX1_thumbs : ByteArray := prog_1_method_53_code
def yX1_thumbs : MethodName := ⟨RX1, "thumbs", "(IZ)J"⟩
def dkwX1_thumbs_4 : List UInt8 := [180, 0, 195, 100, 184, 1, 85, 105, 55, 6, 22, 4, 22, 4, 22, 6, 97, 28, 184, 1, 0, 173]
abbrev dktX1_thumbs_4 : List UInt8 := dkwX1_thumbs_4 ++ []
def dkwX1_thumbs_3 : List UInt8 := [105, 55, 4, 16, 100, 45, 180, 1, 79, 100, 133, 45, 180, 1, 89, 45, 180, 0, 195, 45, 180, 0, 192, 45]
abbrev dktX1_thumbs_3 : List UInt8 := dkwX1_thumbs_3 ++ dktX1_thumbs_4
def dkwX1_thumbs_2 : List UInt8 := [180, 1, 79, 133, 45, 180, 1, 82, 45, 180, 0, 195, 45, 180, 0, 192, 45, 180, 0, 195, 100, 184, 1, 85]
abbrev dktX1_thumbs_2 : List UInt8 := dkwX1_thumbs_2 ++ dktX1_thumbs_3
def dkwX1_thumbs_1 : List UInt8 := [180, 0, 176, 27, 50, 78, 45, 180, 1, 79, 16, 254, 160, 0, 11, 42, 16, 6, 182, 0, 97, 133, 173, 45]
abbrev dktX1_thumbs_1 : List UInt8 := dkwX1_thumbs_1 ++ dktX1_thumbs_2
def dkwX1_thumbs_0 : List UInt8 := [42, 182, 0, 83, 42, 27, 182, 0, 136, 154, 0, 10, 42, 4, 182, 0, 97, 133, 173, 42, 180, 0, 108]
abbrev dktX1_thumbs_0 : List UInt8 := dkwX1_thumbs_0 ++ dktX1_thumbs_1
theorem dksX1_thumbs_0 : cX1_thumbs.data.toList.drop 0 = dktX1_thumbs_0 := by decide +kernel
theorem dksX1_thumbs_1 : cX1_thumbs.data.toList.drop 23 = dktX1_thumbs_1 := dk_seg dksX1_thumbs_0 23 rfl rfl
theorem dksX1_thumbs_2 : cX1_thumbs.data.toList.drop 47 = dktX1_thumbs_2 := dk_seg dksX1_thumbs_1 24 rfl rfl
theorem dksX1_thumbs_3 : cX1_thumbs.data.toList.drop 71 = dktX1_thumbs_3 := dk_seg dksX1_thumbs_2 24 rfl rfl
theorem dksX1_thumbs_4 : cX1_thumbs.data.toList.drop 95 = dktX1_thumbs_4 := dk_seg dksX1_thumbs_3 24 rfl rfl
theorem dX1_thumbs_0 : decode cX1_thumbs 0 = .ok (.aload_n 0, 1) := dk_42 (dk_at dksX1_thumbs_0 0 rfl rfl)
theorem dX1_thumbs_1 : decode cX1_thumbs 1 = .ok (.invokevirtual 83, 3) := dk_182 0 83 (dk_at dksX1_thumbs_0 1 rfl rfl)
theorem dX1_thumbs_4 : decode cX1_thumbs 4 = .ok (.aload_n 0, 1) := dk_42 (dk_at dksX1_thumbs_0 4 rfl rfl)
theorem dX1_thumbs_5 : decode cX1_thumbs 5 = .ok (.iload_n 1, 1) := dk_27 (dk_at dksX1_thumbs_0 5 rfl rfl)
theorem dX1_thumbs_6 : decode cX1_thumbs 6 = .ok (.invokevirtual 136, 3) := dk_182 0 136 (dk_at dksX1_thumbs_0 6 rfl rfl)
theorem dX1_thumbs_9 : decode cX1_thumbs 9 = .ok (.ifCond .ne 10, 3) := dk_154 0 10 (dk_at dksX1_thumbs_0 9 rfl rfl)
theorem dX1_thumbs_12 : decode cX1_thumbs 12 = .ok (.aload_n 0, 1) := dk_42 (dk_at dksX1_thumbs_0 12 rfl rfl)
theorem dX1_thumbs_13 : decode cX1_thumbs 13 = .ok (.iconst 1, 1) := dk_4 (dk_at dksX1_thumbs_0 13 rfl rfl)
theorem dX1_thumbs_14 : decode cX1_thumbs 14 = .ok (.invokevirtual 97, 3) := dk_182 0 97 (dk_at dksX1_thumbs_0 14 rfl rfl)
theorem dX1_thumbs_17 : decode cX1_thumbs 17 = .ok (.i2l, 1) := dk_133 (dk_at dksX1_thumbs_0 17 rfl rfl)
theorem dX1_thumbs_18 : decode cX1_thumbs 18 = .ok (.lreturn, 1) := dk_173 (dk_at dksX1_thumbs_0 18 rfl rfl)
theorem dX1_thumbs_19 : decode cX1_thumbs 19 = .ok (.aload_n 0, 1) := dk_42 (dk_at dksX1_thumbs_0 19 rfl rfl)
theorem dX1_thumbs_20 : decode cX1_thumbs 20 = .ok (.getfield 108, 3) := dk_180 0 108 (dk_at dksX1_thumbs_0 20 rfl rfl)
theorem dX1_thumbs_23 : decode cX1_thumbs 23 = .ok (.getfield 176, 3) := dk_180 0 176 (dk_at dksX1_thumbs_1 0 rfl rfl)
theorem dX1_thumbs_26 : decode cX1_thumbs 26 = .ok (.iload_n 1, 1) := dk_27 (dk_at dksX1_thumbs_1 3 rfl rfl)
theorem dX1_thumbs_27 : decode cX1_thumbs 27 = .ok (.aaload, 1) := dk_50 (dk_at dksX1_thumbs_1 4 rfl rfl)
theorem dX1_thumbs_28 : decode cX1_thumbs 28 = .ok (.astore_n 3, 1) := dk_78 (dk_at dksX1_thumbs_1 5 rfl rfl)
theorem dX1_thumbs_29 : decode cX1_thumbs 29 = .ok (.aload_n 3, 1) := dk_45 (dk_at dksX1_thumbs_1 6 rfl rfl)
theorem dX1_thumbs_30 : decode cX1_thumbs 30 = .ok (.getfield 335, 3) := dk_180 1 79 (dk_at dksX1_thumbs_1 7 rfl rfl)
theorem dX1_thumbs_33 : decode cX1_thumbs 33 = .ok (.bipush (-2), 2) := dk_16 254 (dk_at dksX1_thumbs_1 10 rfl rfl)
theorem dX1_thumbs_35 : decode cX1_thumbs 35 = .ok (.if_icmp .ne 11, 3) := dk_160 0 11 (dk_at dksX1_thumbs_1 12 rfl rfl)
theorem dX1_thumbs_38 : decode cX1_thumbs 38 = .ok (.aload_n 0, 1) := dk_42 (dk_at dksX1_thumbs_1 15 rfl rfl)
theorem dX1_thumbs_39 : decode cX1_thumbs 39 = .ok (.bipush 6, 2) := dk_16 6 (dk_at dksX1_thumbs_1 16 rfl rfl)
theorem dX1_thumbs_41 : decode cX1_thumbs 41 = .ok (.invokevirtual 97, 3) := dk_182 0 97 (dk_at dksX1_thumbs_1 18 rfl rfl)
theorem dX1_thumbs_44 : decode cX1_thumbs 44 = .ok (.i2l, 1) := dk_133 (dk_at dksX1_thumbs_1 21 rfl rfl)
theorem dX1_thumbs_45 : decode cX1_thumbs 45 = .ok (.lreturn, 1) := dk_173 (dk_at dksX1_thumbs_1 22 rfl rfl)
theorem dX1_thumbs_46 : decode cX1_thumbs 46 = .ok (.aload_n 3, 1) := dk_45 (dk_at dksX1_thumbs_1 23 rfl rfl)
theorem dX1_thumbs_47 : decode cX1_thumbs 47 = .ok (.getfield 335, 3) := dk_180 1 79 (dk_at dksX1_thumbs_2 0 rfl rfl)
theorem dX1_thumbs_50 : decode cX1_thumbs 50 = .ok (.i2l, 1) := dk_133 (dk_at dksX1_thumbs_2 3 rfl rfl)
theorem dX1_thumbs_51 : decode cX1_thumbs 51 = .ok (.aload_n 3, 1) := dk_45 (dk_at dksX1_thumbs_2 4 rfl rfl)
theorem dX1_thumbs_52 : decode cX1_thumbs 52 = .ok (.getfield 338, 3) := dk_180 1 82 (dk_at dksX1_thumbs_2 5 rfl rfl)
theorem dX1_thumbs_55 : decode cX1_thumbs 55 = .ok (.aload_n 3, 1) := dk_45 (dk_at dksX1_thumbs_2 8 rfl rfl)
theorem dX1_thumbs_56 : decode cX1_thumbs 56 = .ok (.getfield 195, 3) := dk_180 0 195 (dk_at dksX1_thumbs_2 9 rfl rfl)
theorem dX1_thumbs_59 : decode cX1_thumbs 59 = .ok (.aload_n 3, 1) := dk_45 (dk_at dksX1_thumbs_2 12 rfl rfl)
theorem dX1_thumbs_60 : decode cX1_thumbs 60 = .ok (.getfield 192, 3) := dk_180 0 192 (dk_at dksX1_thumbs_2 13 rfl rfl)
theorem dX1_thumbs_63 : decode cX1_thumbs 63 = .ok (.aload_n 3, 1) := dk_45 (dk_at dksX1_thumbs_2 16 rfl rfl)
theorem dX1_thumbs_64 : decode cX1_thumbs 64 = .ok (.getfield 195, 3) := dk_180 0 195 (dk_at dksX1_thumbs_2 17 rfl rfl)
theorem dX1_thumbs_67 : decode cX1_thumbs 67 = .ok (.isub, 1) := dk_100 (dk_at dksX1_thumbs_2 20 rfl rfl)
theorem dX1_thumbs_68 : decode cX1_thumbs 68 = .ok (.invokestatic 341, 3) := dk_184 1 85 (dk_at dksX1_thumbs_2 21 rfl rfl)
theorem dX1_thumbs_71 : decode cX1_thumbs 71 = .ok (.lmul, 1) := dk_105 (dk_at dksX1_thumbs_3 0 rfl rfl)
theorem dX1_thumbs_72 : decode cX1_thumbs 72 = .ok (.lstore 4, 2) := dk_55 4 (dk_at dksX1_thumbs_3 1 rfl rfl)
theorem dX1_thumbs_74 : decode cX1_thumbs 74 = .ok (.bipush 100, 2) := dk_16 100 (dk_at dksX1_thumbs_3 3 rfl rfl)
theorem dX1_thumbs_76 : decode cX1_thumbs 76 = .ok (.aload_n 3, 1) := dk_45 (dk_at dksX1_thumbs_3 5 rfl rfl)
theorem dX1_thumbs_77 : decode cX1_thumbs 77 = .ok (.getfield 335, 3) := dk_180 1 79 (dk_at dksX1_thumbs_3 6 rfl rfl)
theorem dX1_thumbs_80 : decode cX1_thumbs 80 = .ok (.isub, 1) := dk_100 (dk_at dksX1_thumbs_3 9 rfl rfl)
theorem dX1_thumbs_81 : decode cX1_thumbs 81 = .ok (.i2l, 1) := dk_133 (dk_at dksX1_thumbs_3 10 rfl rfl)
theorem dX1_thumbs_82 : decode cX1_thumbs 82 = .ok (.aload_n 3, 1) := dk_45 (dk_at dksX1_thumbs_3 11 rfl rfl)
theorem dX1_thumbs_83 : decode cX1_thumbs 83 = .ok (.getfield 345, 3) := dk_180 1 89 (dk_at dksX1_thumbs_3 12 rfl rfl)
theorem dX1_thumbs_86 : decode cX1_thumbs 86 = .ok (.aload_n 3, 1) := dk_45 (dk_at dksX1_thumbs_3 15 rfl rfl)
theorem dX1_thumbs_87 : decode cX1_thumbs 87 = .ok (.getfield 195, 3) := dk_180 0 195 (dk_at dksX1_thumbs_3 16 rfl rfl)
theorem dX1_thumbs_90 : decode cX1_thumbs 90 = .ok (.aload_n 3, 1) := dk_45 (dk_at dksX1_thumbs_3 19 rfl rfl)
theorem dX1_thumbs_91 : decode cX1_thumbs 91 = .ok (.getfield 192, 3) := dk_180 0 192 (dk_at dksX1_thumbs_3 20 rfl rfl)
theorem dX1_thumbs_94 : decode cX1_thumbs 94 = .ok (.aload_n 3, 1) := dk_45 (dk_at dksX1_thumbs_3 23 rfl rfl)
theorem dX1_thumbs_95 : decode cX1_thumbs 95 = .ok (.getfield 195, 3) := dk_180 0 195 (dk_at dksX1_thumbs_4 0 rfl rfl)
theorem dX1_thumbs_98 : decode cX1_thumbs 98 = .ok (.isub, 1) := dk_100 (dk_at dksX1_thumbs_4 3 rfl rfl)
theorem dX1_thumbs_99 : decode cX1_thumbs 99 = .ok (.invokestatic 341, 3) := dk_184 1 85 (dk_at dksX1_thumbs_4 4 rfl rfl)
theorem dX1_thumbs_102 : decode cX1_thumbs 102 = .ok (.lmul, 1) := dk_105 (dk_at dksX1_thumbs_4 7 rfl rfl)
theorem dX1_thumbs_103 : decode cX1_thumbs 103 = .ok (.lstore 6, 2) := dk_55 6 (dk_at dksX1_thumbs_4 8 rfl rfl)
theorem dX1_thumbs_105 : decode cX1_thumbs 105 = .ok (.lload 4, 2) := dk_22 4 (dk_at dksX1_thumbs_4 10 rfl rfl)
theorem dX1_thumbs_107 : decode cX1_thumbs 107 = .ok (.lload 4, 2) := dk_22 4 (dk_at dksX1_thumbs_4 12 rfl rfl)
theorem dX1_thumbs_109 : decode cX1_thumbs 109 = .ok (.lload 6, 2) := dk_22 6 (dk_at dksX1_thumbs_4 14 rfl rfl)
theorem dX1_thumbs_111 : decode cX1_thumbs 111 = .ok (.ladd, 1) := dk_97 (dk_at dksX1_thumbs_4 16 rfl rfl)
theorem dX1_thumbs_112 : decode cX1_thumbs 112 = .ok (.iload_n 2, 1) := dk_28 (dk_at dksX1_thumbs_4 17 rfl rfl)
theorem dX1_thumbs_113 : decode cX1_thumbs 113 = .ok (.invokestatic 256, 3) := dk_184 1 0 (dk_at dksX1_thumbs_4 18 rfl rfl)
theorem dX1_thumbs_116 : decode cX1_thumbs 116 = .ok (.lreturn, 1) := dk_173 (dk_at dksX1_thumbs_4 21 rfl rfl)
abbrev cX1_likely : ByteArray := prog_1_method_52_code
def yX1_likely : MethodName := ⟨RX1, "likely", "(III)J"⟩
def dkwX1_likely_1 : List UInt8 := [54, 5, 21, 5, 28, 162, 0, 17, 33, 16, 10, 26, 100, 133, 105, 66, 132, 5, 1, 167, 255, 239, 33, 173]
abbrev dktX1_likely_1 : List UInt8 := dkwX1_likely_1 ++ []
def dkwX1_likely_0 : List UInt8 := [10, 66, 3, 54, 5, 21, 5, 27, 162, 0, 14, 33, 26, 133, 105, 66, 132, 5, 1, 167, 255, 242, 3]
abbrev dktX1_likely_0 : List UInt8 := dkwX1_likely_0 ++ dktX1_likely_1
theorem dksX1_likely_0 : cX1_likely.data.toList.drop 0 = dktX1_likely_0 := by decide +kernel
theorem dksX1_likely_1 : cX1_likely.data.toList.drop 23 = dktX1_likely_1 := dk_seg dksX1_likely_0 23 rfl rfl
theorem dX1_likely_0 : decode cX1_likely 0 = .ok (.lconst 1, 1) := dk_10 (dk_at dksX1_likely_0 0 rfl rfl)
theorem dX1_likely_1 : decode cX1_likely 1 = .ok (.lstore_n 3, 1) := dk_66 (dk_at dksX1_likely_0 1 rfl rfl)
theorem dX1_likely_2 : decode cX1_likely 2 = .ok (.iconst 0, 1) := dk_3 (dk_at dksX1_likely_0 2 rfl rfl)
theorem dX1_likely_3 : decode cX1_likely 3 = .ok (.istore 5, 2) := dk_54 5 (dk_at dksX1_likely_0 3 rfl rfl)
theorem dX1_likely_5 : decode cX1_likely 5 = .ok (.iload 5, 2) := dk_21 5 (dk_at dksX1_likely_0 5 rfl rfl)
theorem dX1_likely_7 : decode cX1_likely 7 = .ok (.iload_n 1, 1) := dk_27 (dk_at dksX1_likely_0 7 rfl rfl)
theorem dX1_likely_8 : decode cX1_likely 8 = .ok (.if_icmp .ge 14, 3) := dk_162 0 14 (dk_at dksX1_likely_0 8 rfl rfl)
theorem dX1_likely_11 : decode cX1_likely 11 = .ok (.lload_n 3, 1) := dk_33 (dk_at dksX1_likely_0 11 rfl rfl)
theorem dX1_likely_12 : decode cX1_likely 12 = .ok (.iload_n 0, 1) := dk_26 (dk_at dksX1_likely_0 12 rfl rfl)
theorem dX1_likely_13 : decode cX1_likely 13 = .ok (.i2l, 1) := dk_133 (dk_at dksX1_likely_0 13 rfl rfl)
theorem dX1_likely_14 : decode cX1_likely 14 = .ok (.lmul, 1) := dk_105 (dk_at dksX1_likely_0 14 rfl rfl)
theorem dX1_likely_15 : decode cX1_likely 15 = .ok (.lstore_n 3, 1) := dk_66 (dk_at dksX1_likely_0 15 rfl rfl)
theorem dX1_likely_16 : decode cX1_likely 16 = .ok (.iinc 5 1, 3) := dk_132 5 1 (dk_at dksX1_likely_0 16 rfl rfl)
theorem dX1_likely_19 : decode cX1_likely 19 = .ok (.goto (-14), 3) := dk_167 255 242 (dk_at dksX1_likely_0 19 rfl rfl)
theorem dX1_likely_22 : decode cX1_likely 22 = .ok (.iconst 0, 1) := dk_3 (dk_at dksX1_likely_0 22 rfl rfl)
theorem dX1_likely_23 : decode cX1_likely 23 = .ok (.istore 5, 2) := dk_54 5 (dk_at dksX1_likely_1 0 rfl rfl)
theorem dX1_likely_25 : decode cX1_likely 25 = .ok (.iload 5, 2) := dk_21 5 (dk_at dksX1_likely_1 2 rfl rfl)
theorem dX1_likely_27 : decode cX1_likely 27 = .ok (.iload_n 2, 1) := dk_28 (dk_at dksX1_likely_1 4 rfl rfl)
theorem dX1_likely_28 : decode cX1_likely 28 = .ok (.if_icmp .ge 17, 3) := dk_162 0 17 (dk_at dksX1_likely_1 5 rfl rfl)
theorem dX1_likely_31 : decode cX1_likely 31 = .ok (.lload_n 3, 1) := dk_33 (dk_at dksX1_likely_1 8 rfl rfl)
theorem dX1_likely_32 : decode cX1_likely 32 = .ok (.bipush 10, 2) := dk_16 10 (dk_at dksX1_likely_1 9 rfl rfl)
theorem dX1_likely_34 : decode cX1_likely 34 = .ok (.iload_n 0, 1) := dk_26 (dk_at dksX1_likely_1 11 rfl rfl)
theorem dX1_likely_35 : decode cX1_likely 35 = .ok (.isub, 1) := dk_100 (dk_at dksX1_likely_1 12 rfl rfl)
theorem dX1_likely_36 : decode cX1_likely 36 = .ok (.i2l, 1) := dk_133 (dk_at dksX1_likely_1 13 rfl rfl)
theorem dX1_likely_37 : decode cX1_likely 37 = .ok (.lmul, 1) := dk_105 (dk_at dksX1_likely_1 14 rfl rfl)
theorem dX1_likely_38 : decode cX1_likely 38 = .ok (.lstore_n 3, 1) := dk_66 (dk_at dksX1_likely_1 15 rfl rfl)
theorem dX1_likely_39 : decode cX1_likely 39 = .ok (.iinc 5 1, 3) := dk_132 5 1 (dk_at dksX1_likely_1 16 rfl rfl)
theorem dX1_likely_42 : decode cX1_likely 42 = .ok (.goto (-17), 3) := dk_167 255 239 (dk_at dksX1_likely_1 19 rfl rfl)
theorem dX1_likely_45 : decode cX1_likely 45 = .ok (.lload_n 3, 1) := dk_33 (dk_at dksX1_likely_1 22 rfl rfl)
theorem dX1_likely_46 : decode cX1_likely 46 = .ok (.lreturn, 1) := dk_173 (dk_at dksX1_likely_1 23 rfl rfl)
abbrev cX1_let : ByteArray := prog_1_method_55_code
def yX1_let : MethodName := ⟨RX1, "let", "(II)I"⟩
def dkwX1_let_2 : List UInt8 := [167, 0, 4, 29, 172]
abbrev dktX1_let_2 : List UInt8 := dkwX1_let_2 ++ []
def dkwX1_let_1 : List UInt8 := [62, 27, 28, 184, 1, 98, 54, 4, 42, 21, 4, 182, 1, 101, 42, 29, 182, 1, 101, 164, 0, 8, 21, 4]
abbrev dktX1_let_1 : List UInt8 := dkwX1_let_1 ++ dktX1_let_2
def dkwX1_let_0 : List UInt8 := [42, 182, 0, 83, 42, 27, 28, 182, 0, 216, 154, 0, 9, 42, 4, 182, 0, 97, 172, 27, 28, 184, 1, 95]
abbrev dktX1_let_0 : List UInt8 := dkwX1_let_0 ++ dktX1_let_1
theorem dksX1_let_0 : cX1_let.data.toList.drop 0 = dktX1_let_0 := by decide +kernel
theorem dksX1_let_1 : cX1_let.data.toList.drop 24 = dktX1_let_1 := dk_seg dksX1_let_0 24 rfl rfl
theorem dksX1_let_2 : cX1_let.data.toList.drop 48 = dktX1_let_2 := dk_seg dksX1_let_1 24 rfl rfl
theorem dX1_let_0 : decode cX1_let 0 = .ok (.aload_n 0, 1) := dk_42 (dk_at dksX1_let_0 0 rfl rfl)
theorem dX1_let_1 : decode cX1_let 1 = .ok (.invokevirtual 83, 3) := dk_182 0 83 (dk_at dksX1_let_0 1 rfl rfl)
theorem dX1_let_4 : decode cX1_let 4 = .ok (.aload_n 0, 1) := dk_42 (dk_at dksX1_let_0 4 rfl rfl)
theorem dX1_let_5 : decode cX1_let 5 = .ok (.iload_n 1, 1) := dk_27 (dk_at dksX1_let_0 5 rfl rfl)
theorem dX1_let_6 : decode cX1_let 6 = .ok (.iload_n 2, 1) := dk_28 (dk_at dksX1_let_0 6 rfl rfl)
theorem dX1_let_7 : decode cX1_let 7 = .ok (.invokevirtual 216, 3) := dk_182 0 216 (dk_at dksX1_let_0 7 rfl rfl)
theorem dX1_let_10 : decode cX1_let 10 = .ok (.ifCond .ne 9, 3) := dk_154 0 9 (dk_at dksX1_let_0 10 rfl rfl)
theorem dX1_let_13 : decode cX1_let 13 = .ok (.aload_n 0, 1) := dk_42 (dk_at dksX1_let_0 13 rfl rfl)
theorem dX1_let_14 : decode cX1_let 14 = .ok (.iconst 1, 1) := dk_4 (dk_at dksX1_let_0 14 rfl rfl)
theorem dX1_let_15 : decode cX1_let 15 = .ok (.invokevirtual 97, 3) := dk_182 0 97 (dk_at dksX1_let_0 15 rfl rfl)
theorem dX1_let_18 : decode cX1_let 18 = .ok (.ireturn, 1) := dk_172 (dk_at dksX1_let_0 18 rfl rfl)
theorem dX1_let_19 : decode cX1_let 19 = .ok (.iload_n 1, 1) := dk_27 (dk_at dksX1_let_0 19 rfl rfl)
theorem dX1_let_20 : decode cX1_let 20 = .ok (.iload_n 2, 1) := dk_28 (dk_at dksX1_let_0 20 rfl rfl)
theorem dX1_let_21 : decode cX1_let 21 = .ok (.invokestatic 351, 3) := dk_184 1 95 (dk_at dksX1_let_0 21 rfl rfl)
theorem dX1_let_24 : decode cX1_let 24 = .ok (.istore_n 3, 1) := dk_62 (dk_at dksX1_let_1 0 rfl rfl)
theorem dX1_let_25 : decode cX1_let 25 = .ok (.iload_n 1, 1) := dk_27 (dk_at dksX1_let_1 1 rfl rfl)
theorem dX1_let_26 : decode cX1_let 26 = .ok (.iload_n 2, 1) := dk_28 (dk_at dksX1_let_1 2 rfl rfl)
theorem dX1_let_27 : decode cX1_let 27 = .ok (.invokestatic 354, 3) := dk_184 1 98 (dk_at dksX1_let_1 3 rfl rfl)
theorem dX1_let_30 : decode cX1_let 30 = .ok (.istore 4, 2) := dk_54 4 (dk_at dksX1_let_1 6 rfl rfl)
theorem dX1_let_32 : decode cX1_let 32 = .ok (.aload_n 0, 1) := dk_42 (dk_at dksX1_let_1 8 rfl rfl)
theorem dX1_let_33 : decode cX1_let 33 = .ok (.iload 4, 2) := dk_21 4 (dk_at dksX1_let_1 9 rfl rfl)
theorem dX1_let_35 : decode cX1_let 35 = .ok (.invokevirtual 357, 3) := dk_182 1 101 (dk_at dksX1_let_1 11 rfl rfl)
theorem dX1_let_38 : decode cX1_let 38 = .ok (.aload_n 0, 1) := dk_42 (dk_at dksX1_let_1 14 rfl rfl)
theorem dX1_let_39 : decode cX1_let 39 = .ok (.iload_n 3, 1) := dk_29 (dk_at dksX1_let_1 15 rfl rfl)
theorem dX1_let_40 : decode cX1_let 40 = .ok (.invokevirtual 357, 3) := dk_182 1 101 (dk_at dksX1_let_1 16 rfl rfl)
theorem dX1_let_43 : decode cX1_let 43 = .ok (.if_icmp .le 8, 3) := dk_164 0 8 (dk_at dksX1_let_1 19 rfl rfl)
theorem dX1_let_46 : decode cX1_let 46 = .ok (.iload 4, 2) := dk_21 4 (dk_at dksX1_let_1 22 rfl rfl)
theorem dX1_let_48 : decode cX1_let 48 = .ok (.goto 4, 3) := dk_167 0 4 (dk_at dksX1_let_2 0 rfl rfl)
theorem dX1_let_51 : decode cX1_let 51 = .ok (.iload_n 3, 1) := dk_29 (dk_at dksX1_let_2 3 rfl rfl)
theorem dX1_let_52 : decode cX1_let 52 = .ok (.ireturn, 1) := dk_172 (dk_at dksX1_let_2 4 rfl rfl)
abbrev cX1_worthOf : ByteArray := prog_1_method_54_code
def yX1_worthOf : MethodName := ⟨RX1, "worthOf", "(I)I"⟩
def dkwX1_worthOf_2 : List UInt8 := [167, 255, 225, 28, 172]
abbrev dktX1_worthOf_2 : List UInt8 := dkwX1_worthOf_2 ++ []
def dkwX1_worthOf_1 : List UInt8 := [162, 0, 26, 28, 42, 180, 0, 108, 180, 0, 176, 27, 50, 180, 1, 92, 29, 46, 96, 61, 132, 3, 1]
abbrev dktX1_worthOf_1 : List UInt8 := dkwX1_worthOf_1 ++ dktX1_worthOf_2
def dkwX1_worthOf_0 : List UInt8 := [42, 180, 0, 108, 180, 0, 176, 27, 50, 180, 0, 189, 61, 3, 62, 29, 42, 180, 0, 108, 180, 0, 133]
abbrev dktX1_worthOf_0 : List UInt8 := dkwX1_worthOf_0 ++ dktX1_worthOf_1
theorem dksX1_worthOf_0 : cX1_worthOf.data.toList.drop 0 = dktX1_worthOf_0 := by decide +kernel
theorem dksX1_worthOf_1 : cX1_worthOf.data.toList.drop 23 = dktX1_worthOf_1 := dk_seg dksX1_worthOf_0 23 rfl rfl
theorem dksX1_worthOf_2 : cX1_worthOf.data.toList.drop 46 = dktX1_worthOf_2 := dk_seg dksX1_worthOf_1 23 rfl rfl
theorem dX1_worthOf_0 : decode cX1_worthOf 0 = .ok (.aload_n 0, 1) := dk_42 (dk_at dksX1_worthOf_0 0 rfl rfl)
theorem dX1_worthOf_1 : decode cX1_worthOf 1 = .ok (.getfield 108, 3) := dk_180 0 108 (dk_at dksX1_worthOf_0 1 rfl rfl)
theorem dX1_worthOf_4 : decode cX1_worthOf 4 = .ok (.getfield 176, 3) := dk_180 0 176 (dk_at dksX1_worthOf_0 4 rfl rfl)
theorem dX1_worthOf_7 : decode cX1_worthOf 7 = .ok (.iload_n 1, 1) := dk_27 (dk_at dksX1_worthOf_0 7 rfl rfl)
theorem dX1_worthOf_8 : decode cX1_worthOf 8 = .ok (.aaload, 1) := dk_50 (dk_at dksX1_worthOf_0 8 rfl rfl)
theorem dX1_worthOf_9 : decode cX1_worthOf 9 = .ok (.getfield 189, 3) := dk_180 0 189 (dk_at dksX1_worthOf_0 9 rfl rfl)
theorem dX1_worthOf_12 : decode cX1_worthOf 12 = .ok (.istore_n 2, 1) := dk_61 (dk_at dksX1_worthOf_0 12 rfl rfl)
theorem dX1_worthOf_13 : decode cX1_worthOf 13 = .ok (.iconst 0, 1) := dk_3 (dk_at dksX1_worthOf_0 13 rfl rfl)
theorem dX1_worthOf_14 : decode cX1_worthOf 14 = .ok (.istore_n 3, 1) := dk_62 (dk_at dksX1_worthOf_0 14 rfl rfl)
theorem dX1_worthOf_15 : decode cX1_worthOf 15 = .ok (.iload_n 3, 1) := dk_29 (dk_at dksX1_worthOf_0 15 rfl rfl)
theorem dX1_worthOf_16 : decode cX1_worthOf 16 = .ok (.aload_n 0, 1) := dk_42 (dk_at dksX1_worthOf_0 16 rfl rfl)
theorem dX1_worthOf_17 : decode cX1_worthOf 17 = .ok (.getfield 108, 3) := dk_180 0 108 (dk_at dksX1_worthOf_0 17 rfl rfl)
theorem dX1_worthOf_20 : decode cX1_worthOf 20 = .ok (.getfield 133, 3) := dk_180 0 133 (dk_at dksX1_worthOf_0 20 rfl rfl)
theorem dX1_worthOf_23 : decode cX1_worthOf 23 = .ok (.if_icmp .ge 26, 3) := dk_162 0 26 (dk_at dksX1_worthOf_1 0 rfl rfl)
theorem dX1_worthOf_26 : decode cX1_worthOf 26 = .ok (.iload_n 2, 1) := dk_28 (dk_at dksX1_worthOf_1 3 rfl rfl)
theorem dX1_worthOf_27 : decode cX1_worthOf 27 = .ok (.aload_n 0, 1) := dk_42 (dk_at dksX1_worthOf_1 4 rfl rfl)
theorem dX1_worthOf_28 : decode cX1_worthOf 28 = .ok (.getfield 108, 3) := dk_180 0 108 (dk_at dksX1_worthOf_1 5 rfl rfl)
theorem dX1_worthOf_31 : decode cX1_worthOf 31 = .ok (.getfield 176, 3) := dk_180 0 176 (dk_at dksX1_worthOf_1 8 rfl rfl)
theorem dX1_worthOf_34 : decode cX1_worthOf 34 = .ok (.iload_n 1, 1) := dk_27 (dk_at dksX1_worthOf_1 11 rfl rfl)
theorem dX1_worthOf_35 : decode cX1_worthOf 35 = .ok (.aaload, 1) := dk_50 (dk_at dksX1_worthOf_1 12 rfl rfl)
theorem dX1_worthOf_36 : decode cX1_worthOf 36 = .ok (.getfield 348, 3) := dk_180 1 92 (dk_at dksX1_worthOf_1 13 rfl rfl)
theorem dX1_worthOf_39 : decode cX1_worthOf 39 = .ok (.iload_n 3, 1) := dk_29 (dk_at dksX1_worthOf_1 16 rfl rfl)
theorem dX1_worthOf_40 : decode cX1_worthOf 40 = .ok (.iaload, 1) := dk_46 (dk_at dksX1_worthOf_1 17 rfl rfl)
theorem dX1_worthOf_41 : decode cX1_worthOf 41 = .ok (.iadd, 1) := dk_96 (dk_at dksX1_worthOf_1 18 rfl rfl)
theorem dX1_worthOf_42 : decode cX1_worthOf 42 = .ok (.istore_n 2, 1) := dk_61 (dk_at dksX1_worthOf_1 19 rfl rfl)
theorem dX1_worthOf_43 : decode cX1_worthOf 43 = .ok (.iinc 3 1, 3) := dk_132 3 1 (dk_at dksX1_worthOf_1 20 rfl rfl)
theorem dX1_worthOf_46 : decode cX1_worthOf 46 = .ok (.goto (-31), 3) := dk_167 255 225 (dk_at dksX1_worthOf_2 0 rfl rfl)
theorem dX1_worthOf_49 : decode cX1_worthOf 49 = .ok (.iload_n 2, 1) := dk_28 (dk_at dksX1_worthOf_2 3 rfl rfl)
theorem dX1_worthOf_50 : decode cX1_worthOf 50 = .ok (.ireturn, 1) := dk_172 (dk_at dksX1_worthOf_2 4 rfl rfl)
abbrev cX1_worth : ByteArray := prog_1_method_56_code
def yX1_worth : MethodName := ⟨RX1, "worth", "(I)I"⟩
def dkwX1_worth_1 : List UInt8 := [182, 0, 97, 172]
abbrev dktX1_worth_1 : List UInt8 := dkwX1_worth_1 ++ []
def dkwX1_worth_0 : List UInt8 := [42, 182, 0, 83, 42, 27, 182, 0, 136, 153, 0, 11, 42, 27, 182, 1, 101, 167, 0, 8, 42, 4]
abbrev dktX1_worth_0 : List UInt8 := dkwX1_worth_0 ++ dktX1_worth_1
theorem dksX1_worth_0 : cX1_worth.data.toList.drop 0 = dktX1_worth_0 := by decide +kernel
theorem dksX1_worth_1 : cX1_worth.data.toList.drop 22 = dktX1_worth_1 := dk_seg dksX1_worth_0 22 rfl rfl
theorem dX1_worth_0 : decode cX1_worth 0 = .ok (.aload_n 0, 1) := dk_42 (dk_at dksX1_worth_0 0 rfl rfl)
theorem dX1_worth_1 : decode cX1_worth 1 = .ok (.invokevirtual 83, 3) := dk_182 0 83 (dk_at dksX1_worth_0 1 rfl rfl)
theorem dX1_worth_4 : decode cX1_worth 4 = .ok (.aload_n 0, 1) := dk_42 (dk_at dksX1_worth_0 4 rfl rfl)
theorem dX1_worth_5 : decode cX1_worth 5 = .ok (.iload_n 1, 1) := dk_27 (dk_at dksX1_worth_0 5 rfl rfl)
theorem dX1_worth_6 : decode cX1_worth 6 = .ok (.invokevirtual 136, 3) := dk_182 0 136 (dk_at dksX1_worth_0 6 rfl rfl)
theorem dX1_worth_9 : decode cX1_worth 9 = .ok (.ifCond .eq 11, 3) := dk_153 0 11 (dk_at dksX1_worth_0 9 rfl rfl)
theorem dX1_worth_12 : decode cX1_worth 12 = .ok (.aload_n 0, 1) := dk_42 (dk_at dksX1_worth_0 12 rfl rfl)
theorem dX1_worth_13 : decode cX1_worth 13 = .ok (.iload_n 1, 1) := dk_27 (dk_at dksX1_worth_0 13 rfl rfl)
theorem dX1_worth_14 : decode cX1_worth 14 = .ok (.invokevirtual 357, 3) := dk_182 1 101 (dk_at dksX1_worth_0 14 rfl rfl)
theorem dX1_worth_17 : decode cX1_worth 17 = .ok (.goto 8, 3) := dk_167 0 8 (dk_at dksX1_worth_0 17 rfl rfl)
theorem dX1_worth_20 : decode cX1_worth 20 = .ok (.aload_n 0, 1) := dk_42 (dk_at dksX1_worth_0 20 rfl rfl)
theorem dX1_worth_21 : decode cX1_worth 21 = .ok (.iconst 1, 1) := dk_4 (dk_at dksX1_worth_0 21 rfl rfl)
theorem dX1_worth_22 : decode cX1_worth 22 = .ok (.invokevirtual 97, 3) := dk_182 0 97 (dk_at dksX1_worth_1 0 rfl rfl)
theorem dX1_worth_25 : decode cX1_worth 25 = .ok (.ireturn, 1) := dk_172 (dk_at dksX1_worth_1 3 rfl rfl)
abbrev cX1_knob : ByteArray := prog_1_method_59_code
def yX1_knob : MethodName := ⟨RX1, "knob", "(I)I"⟩
def dkwX1_knob_1 : List UInt8 := [172]
abbrev dktX1_knob_1 : List UInt8 := dkwX1_knob_1 ++ []
def dkwX1_knob_0 : List UInt8 := [42, 182, 0, 83, 42, 27, 182, 1, 123, 153, 0, 10, 42, 180, 1, 107, 167, 0, 8, 42, 4, 182, 0, 97]
abbrev dktX1_knob_0 : List UInt8 := dkwX1_knob_0 ++ dktX1_knob_1
theorem dksX1_knob_0 : cX1_knob.data.toList.drop 0 = dktX1_knob_0 := by decide +kernel
theorem dksX1_knob_1 : cX1_knob.data.toList.drop 24 = dktX1_knob_1 := dk_seg dksX1_knob_0 24 rfl rfl
theorem dX1_knob_0 : decode cX1_knob 0 = .ok (.aload_n 0, 1) := dk_42 (dk_at dksX1_knob_0 0 rfl rfl)
theorem dX1_knob_1 : decode cX1_knob 1 = .ok (.invokevirtual 83, 3) := dk_182 0 83 (dk_at dksX1_knob_0 1 rfl rfl)
theorem dX1_knob_4 : decode cX1_knob 4 = .ok (.aload_n 0, 1) := dk_42 (dk_at dksX1_knob_0 4 rfl rfl)
theorem dX1_knob_5 : decode cX1_knob 5 = .ok (.iload_n 1, 1) := dk_27 (dk_at dksX1_knob_0 5 rfl rfl)
theorem dX1_knob_6 : decode cX1_knob 6 = .ok (.invokevirtual 379, 3) := dk_182 1 123 (dk_at dksX1_knob_0 6 rfl rfl)
theorem dX1_knob_9 : decode cX1_knob 9 = .ok (.ifCond .eq 10, 3) := dk_153 0 10 (dk_at dksX1_knob_0 9 rfl rfl)
theorem dX1_knob_12 : decode cX1_knob 12 = .ok (.aload_n 0, 1) := dk_42 (dk_at dksX1_knob_0 12 rfl rfl)
theorem dX1_knob_13 : decode cX1_knob 13 = .ok (.getfield 363, 3) := dk_180 1 107 (dk_at dksX1_knob_0 13 rfl rfl)
theorem dX1_knob_16 : decode cX1_knob 16 = .ok (.goto 8, 3) := dk_167 0 8 (dk_at dksX1_knob_0 16 rfl rfl)
theorem dX1_knob_19 : decode cX1_knob 19 = .ok (.aload_n 0, 1) := dk_42 (dk_at dksX1_knob_0 19 rfl rfl)
theorem dX1_knob_20 : decode cX1_knob 20 = .ok (.iconst 1, 1) := dk_4 (dk_at dksX1_knob_0 20 rfl rfl)
theorem dX1_knob_21 : decode cX1_knob 21 = .ok (.invokevirtual 97, 3) := dk_182 0 97 (dk_at dksX1_knob_0 21 rfl rfl)
theorem dX1_knob_24 : decode cX1_knob 24 = .ok (.ireturn, 1) := dk_172 (dk_at dksX1_knob_1 0 rfl rfl)
abbrev cX1_seekKnob : ByteArray := prog_1_method_57_code
def yX1_seekKnob : MethodName := ⟨RX1, "seekKnob", "(I)Z"⟩
def dkwX1_seekKnob_4 : List UInt8 := [132, 4, 1, 167, 255, 226, 132, 3, 1, 167, 255, 206, 132, 2, 1, 167, 255, 187, 4, 172]
abbrev dktX1_seekKnob_4 : List UInt8 := dkwX1_seekKnob_4 ++ []
def dkwX1_seekKnob_3 : List UInt8 := [180, 0, 108, 180, 0, 133, 162, 0, 24, 29, 21, 4, 159, 0, 12, 42, 27, 28, 29, 21, 4, 182, 1, 113]
abbrev dktX1_seekKnob_3 : List UInt8 := dkwX1_seekKnob_3 ++ dktX1_seekKnob_4
def dkwX1_seekKnob_2 : List UInt8 := [162, 0, 64, 3, 62, 29, 42, 180, 0, 108, 180, 0, 133, 162, 0, 45, 3, 54, 4, 21, 4, 42]
abbrev dktX1_seekKnob_2 : List UInt8 := dkwX1_seekKnob_2 ++ dktX1_seekKnob_3
def dkwX1_seekKnob_1 : List UInt8 := [3, 172, 42, 3, 181, 1, 107, 42, 3, 181, 1, 110, 3, 61, 28, 42, 180, 0, 108, 180, 0, 128]
abbrev dktX1_seekKnob_1 : List UInt8 := dkwX1_seekKnob_1 ++ dktX1_seekKnob_2
def dkwX1_seekKnob_0 : List UInt8 := [42, 180, 0, 108, 198, 0, 20, 27, 3, 42, 180, 0, 108, 180, 1, 104, 4, 100, 184, 0, 93, 154, 0, 5]
abbrev dktX1_seekKnob_0 : List UInt8 := dkwX1_seekKnob_0 ++ dktX1_seekKnob_1
theorem dksX1_seekKnob_0 : cX1_seekKnob.data.toList.drop 0 = dktX1_seekKnob_0 := by decide +kernel
theorem dksX1_seekKnob_1 : cX1_seekKnob.data.toList.drop 24 = dktX1_seekKnob_1 := dk_seg dksX1_seekKnob_0 24 rfl rfl
theorem dksX1_seekKnob_2 : cX1_seekKnob.data.toList.drop 46 = dktX1_seekKnob_2 := dk_seg dksX1_seekKnob_1 22 rfl rfl
theorem dksX1_seekKnob_3 : cX1_seekKnob.data.toList.drop 68 = dktX1_seekKnob_3 := dk_seg dksX1_seekKnob_2 22 rfl rfl
theorem dksX1_seekKnob_4 : cX1_seekKnob.data.toList.drop 92 = dktX1_seekKnob_4 := dk_seg dksX1_seekKnob_3 24 rfl rfl
theorem dX1_seekKnob_0 : decode cX1_seekKnob 0 = .ok (.aload_n 0, 1) := dk_42 (dk_at dksX1_seekKnob_0 0 rfl rfl)
theorem dX1_seekKnob_1 : decode cX1_seekKnob 1 = .ok (.getfield 108, 3) := dk_180 0 108 (dk_at dksX1_seekKnob_0 1 rfl rfl)
theorem dX1_seekKnob_4 : decode cX1_seekKnob 4 = .ok (.ifnull 20, 3) := dk_198 0 20 (dk_at dksX1_seekKnob_0 4 rfl rfl)
theorem dX1_seekKnob_7 : decode cX1_seekKnob 7 = .ok (.iload_n 1, 1) := dk_27 (dk_at dksX1_seekKnob_0 7 rfl rfl)
theorem dX1_seekKnob_8 : decode cX1_seekKnob 8 = .ok (.iconst 0, 1) := dk_3 (dk_at dksX1_seekKnob_0 8 rfl rfl)
theorem dX1_seekKnob_9 : decode cX1_seekKnob 9 = .ok (.aload_n 0, 1) := dk_42 (dk_at dksX1_seekKnob_0 9 rfl rfl)
theorem dX1_seekKnob_10 : decode cX1_seekKnob 10 = .ok (.getfield 108, 3) := dk_180 0 108 (dk_at dksX1_seekKnob_0 10 rfl rfl)
theorem dX1_seekKnob_13 : decode cX1_seekKnob 13 = .ok (.getfield 360, 3) := dk_180 1 104 (dk_at dksX1_seekKnob_0 13 rfl rfl)
theorem dX1_seekKnob_16 : decode cX1_seekKnob 16 = .ok (.iconst 1, 1) := dk_4 (dk_at dksX1_seekKnob_0 16 rfl rfl)
theorem dX1_seekKnob_17 : decode cX1_seekKnob 17 = .ok (.isub, 1) := dk_100 (dk_at dksX1_seekKnob_0 17 rfl rfl)
theorem dX1_seekKnob_18 : decode cX1_seekKnob 18 = .ok (.invokestatic 93, 3) := dk_184 0 93 (dk_at dksX1_seekKnob_0 18 rfl rfl)
theorem dX1_seekKnob_21 : decode cX1_seekKnob 21 = .ok (.ifCond .ne 5, 3) := dk_154 0 5 (dk_at dksX1_seekKnob_0 21 rfl rfl)
theorem dX1_seekKnob_24 : decode cX1_seekKnob 24 = .ok (.iconst 0, 1) := dk_3 (dk_at dksX1_seekKnob_1 0 rfl rfl)
theorem dX1_seekKnob_25 : decode cX1_seekKnob 25 = .ok (.ireturn, 1) := dk_172 (dk_at dksX1_seekKnob_1 1 rfl rfl)
theorem dX1_seekKnob_26 : decode cX1_seekKnob 26 = .ok (.aload_n 0, 1) := dk_42 (dk_at dksX1_seekKnob_1 2 rfl rfl)
theorem dX1_seekKnob_27 : decode cX1_seekKnob 27 = .ok (.iconst 0, 1) := dk_3 (dk_at dksX1_seekKnob_1 3 rfl rfl)
theorem dX1_seekKnob_28 : decode cX1_seekKnob 28 = .ok (.putfield 363, 3) := dk_181 1 107 (dk_at dksX1_seekKnob_1 4 rfl rfl)
theorem dX1_seekKnob_31 : decode cX1_seekKnob 31 = .ok (.aload_n 0, 1) := dk_42 (dk_at dksX1_seekKnob_1 7 rfl rfl)
theorem dX1_seekKnob_32 : decode cX1_seekKnob 32 = .ok (.iconst 0, 1) := dk_3 (dk_at dksX1_seekKnob_1 8 rfl rfl)
theorem dX1_seekKnob_33 : decode cX1_seekKnob 33 = .ok (.putfield 366, 3) := dk_181 1 110 (dk_at dksX1_seekKnob_1 9 rfl rfl)
theorem dX1_seekKnob_36 : decode cX1_seekKnob 36 = .ok (.iconst 0, 1) := dk_3 (dk_at dksX1_seekKnob_1 12 rfl rfl)
theorem dX1_seekKnob_37 : decode cX1_seekKnob 37 = .ok (.istore_n 2, 1) := dk_61 (dk_at dksX1_seekKnob_1 13 rfl rfl)
theorem dX1_seekKnob_38 : decode cX1_seekKnob 38 = .ok (.iload_n 2, 1) := dk_28 (dk_at dksX1_seekKnob_1 14 rfl rfl)
theorem dX1_seekKnob_39 : decode cX1_seekKnob 39 = .ok (.aload_n 0, 1) := dk_42 (dk_at dksX1_seekKnob_1 15 rfl rfl)
theorem dX1_seekKnob_40 : decode cX1_seekKnob 40 = .ok (.getfield 108, 3) := dk_180 0 108 (dk_at dksX1_seekKnob_1 16 rfl rfl)
theorem dX1_seekKnob_43 : decode cX1_seekKnob 43 = .ok (.getfield 128, 3) := dk_180 0 128 (dk_at dksX1_seekKnob_1 19 rfl rfl)
theorem dX1_seekKnob_46 : decode cX1_seekKnob 46 = .ok (.if_icmp .ge 64, 3) := dk_162 0 64 (dk_at dksX1_seekKnob_2 0 rfl rfl)
theorem dX1_seekKnob_49 : decode cX1_seekKnob 49 = .ok (.iconst 0, 1) := dk_3 (dk_at dksX1_seekKnob_2 3 rfl rfl)
theorem dX1_seekKnob_50 : decode cX1_seekKnob 50 = .ok (.istore_n 3, 1) := dk_62 (dk_at dksX1_seekKnob_2 4 rfl rfl)
theorem dX1_seekKnob_51 : decode cX1_seekKnob 51 = .ok (.iload_n 3, 1) := dk_29 (dk_at dksX1_seekKnob_2 5 rfl rfl)
theorem dX1_seekKnob_52 : decode cX1_seekKnob 52 = .ok (.aload_n 0, 1) := dk_42 (dk_at dksX1_seekKnob_2 6 rfl rfl)
theorem dX1_seekKnob_53 : decode cX1_seekKnob 53 = .ok (.getfield 108, 3) := dk_180 0 108 (dk_at dksX1_seekKnob_2 7 rfl rfl)
theorem dX1_seekKnob_56 : decode cX1_seekKnob 56 = .ok (.getfield 133, 3) := dk_180 0 133 (dk_at dksX1_seekKnob_2 10 rfl rfl)
theorem dX1_seekKnob_59 : decode cX1_seekKnob 59 = .ok (.if_icmp .ge 45, 3) := dk_162 0 45 (dk_at dksX1_seekKnob_2 13 rfl rfl)
theorem dX1_seekKnob_62 : decode cX1_seekKnob 62 = .ok (.iconst 0, 1) := dk_3 (dk_at dksX1_seekKnob_2 16 rfl rfl)
theorem dX1_seekKnob_63 : decode cX1_seekKnob 63 = .ok (.istore 4, 2) := dk_54 4 (dk_at dksX1_seekKnob_2 17 rfl rfl)
theorem dX1_seekKnob_65 : decode cX1_seekKnob 65 = .ok (.iload 4, 2) := dk_21 4 (dk_at dksX1_seekKnob_2 19 rfl rfl)
theorem dX1_seekKnob_67 : decode cX1_seekKnob 67 = .ok (.aload_n 0, 1) := dk_42 (dk_at dksX1_seekKnob_2 21 rfl rfl)
theorem dX1_seekKnob_68 : decode cX1_seekKnob 68 = .ok (.getfield 108, 3) := dk_180 0 108 (dk_at dksX1_seekKnob_3 0 rfl rfl)
theorem dX1_seekKnob_71 : decode cX1_seekKnob 71 = .ok (.getfield 133, 3) := dk_180 0 133 (dk_at dksX1_seekKnob_3 3 rfl rfl)
theorem dX1_seekKnob_74 : decode cX1_seekKnob 74 = .ok (.if_icmp .ge 24, 3) := dk_162 0 24 (dk_at dksX1_seekKnob_3 6 rfl rfl)
theorem dX1_seekKnob_77 : decode cX1_seekKnob 77 = .ok (.iload_n 3, 1) := dk_29 (dk_at dksX1_seekKnob_3 9 rfl rfl)
theorem dX1_seekKnob_78 : decode cX1_seekKnob 78 = .ok (.iload 4, 2) := dk_21 4 (dk_at dksX1_seekKnob_3 10 rfl rfl)
theorem dX1_seekKnob_80 : decode cX1_seekKnob 80 = .ok (.if_icmp .eq 12, 3) := dk_159 0 12 (dk_at dksX1_seekKnob_3 12 rfl rfl)
theorem dX1_seekKnob_83 : decode cX1_seekKnob 83 = .ok (.aload_n 0, 1) := dk_42 (dk_at dksX1_seekKnob_3 15 rfl rfl)
theorem dX1_seekKnob_84 : decode cX1_seekKnob 84 = .ok (.iload_n 1, 1) := dk_27 (dk_at dksX1_seekKnob_3 16 rfl rfl)
theorem dX1_seekKnob_85 : decode cX1_seekKnob 85 = .ok (.iload_n 2, 1) := dk_28 (dk_at dksX1_seekKnob_3 17 rfl rfl)
theorem dX1_seekKnob_86 : decode cX1_seekKnob 86 = .ok (.iload_n 3, 1) := dk_29 (dk_at dksX1_seekKnob_3 18 rfl rfl)
theorem dX1_seekKnob_87 : decode cX1_seekKnob 87 = .ok (.iload 4, 2) := dk_21 4 (dk_at dksX1_seekKnob_3 19 rfl rfl)
theorem dX1_seekKnob_89 : decode cX1_seekKnob 89 = .ok (.invokevirtual 369, 3) := dk_182 1 113 (dk_at dksX1_seekKnob_3 21 rfl rfl)
theorem dX1_seekKnob_92 : decode cX1_seekKnob 92 = .ok (.iinc 4 1, 3) := dk_132 4 1 (dk_at dksX1_seekKnob_4 0 rfl rfl)
theorem dX1_seekKnob_95 : decode cX1_seekKnob 95 = .ok (.goto (-30), 3) := dk_167 255 226 (dk_at dksX1_seekKnob_4 3 rfl rfl)
theorem dX1_seekKnob_98 : decode cX1_seekKnob 98 = .ok (.iinc 3 1, 3) := dk_132 3 1 (dk_at dksX1_seekKnob_4 6 rfl rfl)
theorem dX1_seekKnob_101 : decode cX1_seekKnob 101 = .ok (.goto (-50), 3) := dk_167 255 206 (dk_at dksX1_seekKnob_4 9 rfl rfl)
theorem dX1_seekKnob_104 : decode cX1_seekKnob 104 = .ok (.iinc 2 1, 3) := dk_132 2 1 (dk_at dksX1_seekKnob_4 12 rfl rfl)
theorem dX1_seekKnob_107 : decode cX1_seekKnob 107 = .ok (.goto (-69), 3) := dk_167 255 187 (dk_at dksX1_seekKnob_4 15 rfl rfl)
theorem dX1_seekKnob_110 : decode cX1_seekKnob 110 = .ok (.iconst 1, 1) := dk_4 (dk_at dksX1_seekKnob_4 18 rfl rfl)
theorem dX1_seekKnob_111 : decode cX1_seekKnob 111 = .ok (.ireturn, 1) := dk_172 (dk_at dksX1_seekKnob_4 19 rfl rfl)
abbrev cX1_tryKnob : ByteArray := prog_1_method_58_code
def yX1_tryKnob : MethodName := ⟨RX1, "tryKnob", "(IIII)V"⟩
def dkwX1_tryKnob_4 : List UInt8 := [180, 1, 110, 4, 21, 5, 154, 0, 7, 29, 167, 0, 5, 21, 4, 120, 128, 181, 1, 110, 177]
abbrev dktX1_tryKnob_4 : List UInt8 := dkwX1_tryKnob_4 ++ []
def dkwX1_tryKnob_3 : List UInt8 := [180, 0, 108, 180, 1, 120, 27, 46, 159, 0, 4, 177, 42, 89, 180, 1, 107, 4, 96, 181, 1, 107, 42, 89]
abbrev dktX1_tryKnob_3 : List UInt8 := dkwX1_tryKnob_3 ++ dktX1_tryKnob_4
def dkwX1_tryKnob_2 : List UInt8 := [180, 0, 240, 42, 180, 0, 108, 180, 1, 117, 27, 46, 160, 0, 22, 42, 180, 0, 46, 180, 0, 243, 42]
abbrev dktX1_tryKnob_2 : List UInt8 := dkwX1_tryKnob_2 ++ dktX1_tryKnob_3
def dkwX1_tryKnob_1 : List UInt8 := [182, 1, 31, 42, 180, 0, 46, 182, 0, 237, 54, 5, 21, 5, 5, 162, 0, 41, 42, 180, 0, 46]
abbrev dktX1_tryKnob_1 : List UInt8 := dkwX1_tryKnob_1 ++ dktX1_tryKnob_2
def dkwX1_tryKnob_0 : List UInt8 := [42, 28, 182, 0, 209, 42, 180, 0, 108, 180, 0, 176, 29, 50, 42, 180, 0, 108, 180, 0, 176, 21, 4, 50]
abbrev dktX1_tryKnob_0 : List UInt8 := dkwX1_tryKnob_0 ++ dktX1_tryKnob_1
theorem dksX1_tryKnob_0 : cX1_tryKnob.data.toList.drop 0 = dktX1_tryKnob_0 := by decide +kernel
theorem dksX1_tryKnob_1 : cX1_tryKnob.data.toList.drop 24 = dktX1_tryKnob_1 := dk_seg dksX1_tryKnob_0 24 rfl rfl
theorem dksX1_tryKnob_2 : cX1_tryKnob.data.toList.drop 46 = dktX1_tryKnob_2 := dk_seg dksX1_tryKnob_1 22 rfl rfl
theorem dksX1_tryKnob_3 : cX1_tryKnob.data.toList.drop 69 = dktX1_tryKnob_3 := dk_seg dksX1_tryKnob_2 23 rfl rfl
theorem dksX1_tryKnob_4 : cX1_tryKnob.data.toList.drop 93 = dktX1_tryKnob_4 := dk_seg dksX1_tryKnob_3 24 rfl rfl
theorem dX1_tryKnob_0 : decode cX1_tryKnob 0 = .ok (.aload_n 0, 1) := dk_42 (dk_at dksX1_tryKnob_0 0 rfl rfl)
theorem dX1_tryKnob_1 : decode cX1_tryKnob 1 = .ok (.iload_n 2, 1) := dk_28 (dk_at dksX1_tryKnob_0 1 rfl rfl)
theorem dX1_tryKnob_2 : decode cX1_tryKnob 2 = .ok (.invokevirtual 209, 3) := dk_182 0 209 (dk_at dksX1_tryKnob_0 2 rfl rfl)
theorem dX1_tryKnob_5 : decode cX1_tryKnob 5 = .ok (.aload_n 0, 1) := dk_42 (dk_at dksX1_tryKnob_0 5 rfl rfl)
theorem dX1_tryKnob_6 : decode cX1_tryKnob 6 = .ok (.getfield 108, 3) := dk_180 0 108 (dk_at dksX1_tryKnob_0 6 rfl rfl)
theorem dX1_tryKnob_9 : decode cX1_tryKnob 9 = .ok (.getfield 176, 3) := dk_180 0 176 (dk_at dksX1_tryKnob_0 9 rfl rfl)
theorem dX1_tryKnob_12 : decode cX1_tryKnob 12 = .ok (.iload_n 3, 1) := dk_29 (dk_at dksX1_tryKnob_0 12 rfl rfl)
theorem dX1_tryKnob_13 : decode cX1_tryKnob 13 = .ok (.aaload, 1) := dk_50 (dk_at dksX1_tryKnob_0 13 rfl rfl)
theorem dX1_tryKnob_14 : decode cX1_tryKnob 14 = .ok (.aload_n 0, 1) := dk_42 (dk_at dksX1_tryKnob_0 14 rfl rfl)
theorem dX1_tryKnob_15 : decode cX1_tryKnob 15 = .ok (.getfield 108, 3) := dk_180 0 108 (dk_at dksX1_tryKnob_0 15 rfl rfl)
theorem dX1_tryKnob_18 : decode cX1_tryKnob 18 = .ok (.getfield 176, 3) := dk_180 0 176 (dk_at dksX1_tryKnob_0 18 rfl rfl)
theorem dX1_tryKnob_21 : decode cX1_tryKnob 21 = .ok (.iload 4, 2) := dk_21 4 (dk_at dksX1_tryKnob_0 21 rfl rfl)
theorem dX1_tryKnob_23 : decode cX1_tryKnob 23 = .ok (.aaload, 1) := dk_50 (dk_at dksX1_tryKnob_0 23 rfl rfl)
theorem dX1_tryKnob_24 : decode cX1_tryKnob 24 = .ok (.invokevirtual 287, 3) := dk_182 1 31 (dk_at dksX1_tryKnob_1 0 rfl rfl)
theorem dX1_tryKnob_27 : decode cX1_tryKnob 27 = .ok (.aload_n 0, 1) := dk_42 (dk_at dksX1_tryKnob_1 3 rfl rfl)
theorem dX1_tryKnob_28 : decode cX1_tryKnob 28 = .ok (.getfield 46, 3) := dk_180 0 46 (dk_at dksX1_tryKnob_1 4 rfl rfl)
theorem dX1_tryKnob_31 : decode cX1_tryKnob 31 = .ok (.invokevirtual 237, 3) := dk_182 0 237 (dk_at dksX1_tryKnob_1 7 rfl rfl)
theorem dX1_tryKnob_34 : decode cX1_tryKnob 34 = .ok (.istore 5, 2) := dk_54 5 (dk_at dksX1_tryKnob_1 10 rfl rfl)
theorem dX1_tryKnob_36 : decode cX1_tryKnob 36 = .ok (.iload 5, 2) := dk_21 5 (dk_at dksX1_tryKnob_1 12 rfl rfl)
theorem dX1_tryKnob_38 : decode cX1_tryKnob 38 = .ok (.iconst 2, 1) := dk_5 (dk_at dksX1_tryKnob_1 14 rfl rfl)
theorem dX1_tryKnob_39 : decode cX1_tryKnob 39 = .ok (.if_icmp .ge 41, 3) := dk_162 0 41 (dk_at dksX1_tryKnob_1 15 rfl rfl)
theorem dX1_tryKnob_42 : decode cX1_tryKnob 42 = .ok (.aload_n 0, 1) := dk_42 (dk_at dksX1_tryKnob_1 18 rfl rfl)
theorem dX1_tryKnob_43 : decode cX1_tryKnob 43 = .ok (.getfield 46, 3) := dk_180 0 46 (dk_at dksX1_tryKnob_1 19 rfl rfl)
theorem dX1_tryKnob_46 : decode cX1_tryKnob 46 = .ok (.getfield 240, 3) := dk_180 0 240 (dk_at dksX1_tryKnob_2 0 rfl rfl)
theorem dX1_tryKnob_49 : decode cX1_tryKnob 49 = .ok (.aload_n 0, 1) := dk_42 (dk_at dksX1_tryKnob_2 3 rfl rfl)
theorem dX1_tryKnob_50 : decode cX1_tryKnob 50 = .ok (.getfield 108, 3) := dk_180 0 108 (dk_at dksX1_tryKnob_2 4 rfl rfl)
theorem dX1_tryKnob_53 : decode cX1_tryKnob 53 = .ok (.getfield 373, 3) := dk_180 1 117 (dk_at dksX1_tryKnob_2 7 rfl rfl)
theorem dX1_tryKnob_56 : decode cX1_tryKnob 56 = .ok (.iload_n 1, 1) := dk_27 (dk_at dksX1_tryKnob_2 10 rfl rfl)
theorem dX1_tryKnob_57 : decode cX1_tryKnob 57 = .ok (.iaload, 1) := dk_46 (dk_at dksX1_tryKnob_2 11 rfl rfl)
theorem dX1_tryKnob_58 : decode cX1_tryKnob 58 = .ok (.if_icmp .ne 22, 3) := dk_160 0 22 (dk_at dksX1_tryKnob_2 12 rfl rfl)
theorem dX1_tryKnob_61 : decode cX1_tryKnob 61 = .ok (.aload_n 0, 1) := dk_42 (dk_at dksX1_tryKnob_2 15 rfl rfl)
theorem dX1_tryKnob_62 : decode cX1_tryKnob 62 = .ok (.getfield 46, 3) := dk_180 0 46 (dk_at dksX1_tryKnob_2 16 rfl rfl)
theorem dX1_tryKnob_65 : decode cX1_tryKnob 65 = .ok (.getfield 243, 3) := dk_180 0 243 (dk_at dksX1_tryKnob_2 19 rfl rfl)
theorem dX1_tryKnob_68 : decode cX1_tryKnob 68 = .ok (.aload_n 0, 1) := dk_42 (dk_at dksX1_tryKnob_2 22 rfl rfl)
theorem dX1_tryKnob_69 : decode cX1_tryKnob 69 = .ok (.getfield 108, 3) := dk_180 0 108 (dk_at dksX1_tryKnob_3 0 rfl rfl)
theorem dX1_tryKnob_72 : decode cX1_tryKnob 72 = .ok (.getfield 376, 3) := dk_180 1 120 (dk_at dksX1_tryKnob_3 3 rfl rfl)
theorem dX1_tryKnob_75 : decode cX1_tryKnob 75 = .ok (.iload_n 1, 1) := dk_27 (dk_at dksX1_tryKnob_3 6 rfl rfl)
theorem dX1_tryKnob_76 : decode cX1_tryKnob 76 = .ok (.iaload, 1) := dk_46 (dk_at dksX1_tryKnob_3 7 rfl rfl)
theorem dX1_tryKnob_77 : decode cX1_tryKnob 77 = .ok (.if_icmp .eq 4, 3) := dk_159 0 4 (dk_at dksX1_tryKnob_3 8 rfl rfl)
theorem dX1_tryKnob_80 : decode cX1_tryKnob 80 = .ok (.return_, 1) := dk_177 (dk_at dksX1_tryKnob_3 11 rfl rfl)
theorem dX1_tryKnob_81 : decode cX1_tryKnob 81 = .ok (.aload_n 0, 1) := dk_42 (dk_at dksX1_tryKnob_3 12 rfl rfl)
theorem dX1_tryKnob_82 : decode cX1_tryKnob 82 = .ok (.dup, 1) := dk_89 (dk_at dksX1_tryKnob_3 13 rfl rfl)
theorem dX1_tryKnob_83 : decode cX1_tryKnob 83 = .ok (.getfield 363, 3) := dk_180 1 107 (dk_at dksX1_tryKnob_3 14 rfl rfl)
theorem dX1_tryKnob_86 : decode cX1_tryKnob 86 = .ok (.iconst 1, 1) := dk_4 (dk_at dksX1_tryKnob_3 17 rfl rfl)
theorem dX1_tryKnob_87 : decode cX1_tryKnob 87 = .ok (.iadd, 1) := dk_96 (dk_at dksX1_tryKnob_3 18 rfl rfl)
theorem dX1_tryKnob_88 : decode cX1_tryKnob 88 = .ok (.putfield 363, 3) := dk_181 1 107 (dk_at dksX1_tryKnob_3 19 rfl rfl)
theorem dX1_tryKnob_91 : decode cX1_tryKnob 91 = .ok (.aload_n 0, 1) := dk_42 (dk_at dksX1_tryKnob_3 22 rfl rfl)
theorem dX1_tryKnob_92 : decode cX1_tryKnob 92 = .ok (.dup, 1) := dk_89 (dk_at dksX1_tryKnob_3 23 rfl rfl)
theorem dX1_tryKnob_93 : decode cX1_tryKnob 93 = .ok (.getfield 366, 3) := dk_180 1 110 (dk_at dksX1_tryKnob_4 0 rfl rfl)
theorem dX1_tryKnob_96 : decode cX1_tryKnob 96 = .ok (.iconst 1, 1) := dk_4 (dk_at dksX1_tryKnob_4 3 rfl rfl)
theorem dX1_tryKnob_97 : decode cX1_tryKnob 97 = .ok (.iload 5, 2) := dk_21 5 (dk_at dksX1_tryKnob_4 4 rfl rfl)
theorem dX1_tryKnob_99 : decode cX1_tryKnob 99 = .ok (.ifCond .ne 7, 3) := dk_154 0 7 (dk_at dksX1_tryKnob_4 6 rfl rfl)
theorem dX1_tryKnob_102 : decode cX1_tryKnob 102 = .ok (.iload_n 3, 1) := dk_29 (dk_at dksX1_tryKnob_4 9 rfl rfl)
theorem dX1_tryKnob_103 : decode cX1_tryKnob 103 = .ok (.goto 5, 3) := dk_167 0 5 (dk_at dksX1_tryKnob_4 10 rfl rfl)
theorem dX1_tryKnob_106 : decode cX1_tryKnob 106 = .ok (.iload 4, 2) := dk_21 4 (dk_at dksX1_tryKnob_4 13 rfl rfl)
theorem dX1_tryKnob_108 : decode cX1_tryKnob 108 = .ok (.ishl, 1) := dk_120 (dk_at dksX1_tryKnob_4 15 rfl rfl)
theorem dX1_tryKnob_109 : decode cX1_tryKnob 109 = .ok (.ior, 1) := dk_128 (dk_at dksX1_tryKnob_4 16 rfl rfl)
theorem dX1_tryKnob_110 : decode cX1_tryKnob 110 = .ok (.putfield 366, 3) := dk_181 1 110 (dk_at dksX1_tryKnob_4 17 rfl rfl)
theorem dX1_tryKnob_113 : decode cX1_tryKnob 113 = .ok (.return_, 1) := dk_177 (dk_at dksX1_tryKnob_4 20 rfl rfl)
abbrev cX1_owners : ByteArray := prog_1_method_60_code
def yX1_owners : MethodName := ⟨RX1, "owners", "(I)I"⟩
def dkwX1_owners_1 : List UInt8 := [172]
abbrev dktX1_owners_1 : List UInt8 := dkwX1_owners_1 ++ []
def dkwX1_owners_0 : List UInt8 := [42, 182, 0, 83, 42, 27, 182, 1, 123, 153, 0, 10, 42, 180, 1, 110, 167, 0, 8, 42, 4, 182, 0, 97]
abbrev dktX1_owners_0 : List UInt8 := dkwX1_owners_0 ++ dktX1_owners_1
theorem dksX1_owners_0 : cX1_owners.data.toList.drop 0 = dktX1_owners_0 := by decide +kernel
theorem dksX1_owners_1 : cX1_owners.data.toList.drop 24 = dktX1_owners_1 := dk_seg dksX1_owners_0 24 rfl rfl
theorem dX1_owners_0 : decode cX1_owners 0 = .ok (.aload_n 0, 1) := dk_42 (dk_at dksX1_owners_0 0 rfl rfl)
theorem dX1_owners_1 : decode cX1_owners 1 = .ok (.invokevirtual 83, 3) := dk_182 0 83 (dk_at dksX1_owners_0 1 rfl rfl)
theorem dX1_owners_4 : decode cX1_owners 4 = .ok (.aload_n 0, 1) := dk_42 (dk_at dksX1_owners_0 4 rfl rfl)
theorem dX1_owners_5 : decode cX1_owners 5 = .ok (.iload_n 1, 1) := dk_27 (dk_at dksX1_owners_0 5 rfl rfl)
theorem dX1_owners_6 : decode cX1_owners 6 = .ok (.invokevirtual 379, 3) := dk_182 1 123 (dk_at dksX1_owners_0 6 rfl rfl)
theorem dX1_owners_9 : decode cX1_owners 9 = .ok (.ifCond .eq 10, 3) := dk_153 0 10 (dk_at dksX1_owners_0 9 rfl rfl)
theorem dX1_owners_12 : decode cX1_owners 12 = .ok (.aload_n 0, 1) := dk_42 (dk_at dksX1_owners_0 12 rfl rfl)
theorem dX1_owners_13 : decode cX1_owners 13 = .ok (.getfield 366, 3) := dk_180 1 110 (dk_at dksX1_owners_0 13 rfl rfl)
theorem dX1_owners_16 : decode cX1_owners 16 = .ok (.goto 8, 3) := dk_167 0 8 (dk_at dksX1_owners_0 16 rfl rfl)
theorem dX1_owners_19 : decode cX1_owners 19 = .ok (.aload_n 0, 1) := dk_42 (dk_at dksX1_owners_0 19 rfl rfl)
theorem dX1_owners_20 : decode cX1_owners 20 = .ok (.iconst 1, 1) := dk_4 (dk_at dksX1_owners_0 20 rfl rfl)
theorem dX1_owners_21 : decode cX1_owners 21 = .ok (.invokevirtual 97, 3) := dk_182 0 97 (dk_at dksX1_owners_0 21 rfl rfl)
theorem dX1_owners_24 : decode cX1_owners 24 = .ok (.ireturn, 1) := dk_172 (dk_at dksX1_owners_1 0 rfl rfl)
abbrev cX1_wins : ByteArray := prog_1_method_63_code
def yX1_wins : MethodName := ⟨RX1, "wins", "(III)I"⟩
def dkwX1_wins_2 : List UInt8 := [28, 29, 182, 1, 146, 42, 180, 0, 73, 27, 46, 172]
abbrev dktX1_wins_2 : List UInt8 := dkwX1_wins_2 ++ []
def dkwX1_wins_1 : List UInt8 := [184, 0, 93, 153, 0, 14, 29, 3, 17, 0, 200, 184, 0, 93, 154, 0, 9, 42, 5, 182, 0, 97, 172, 42]
abbrev dktX1_wins_1 : List UInt8 := dkwX1_wins_1 ++ dktX1_wins_2
def dkwX1_wins_0 : List UInt8 := [42, 182, 0, 83, 42, 27, 182, 0, 136, 154, 0, 9, 42, 4, 182, 0, 97, 172, 28, 3, 19, 1, 145]
abbrev dktX1_wins_0 : List UInt8 := dkwX1_wins_0 ++ dktX1_wins_1
theorem dksX1_wins_0 : cX1_wins.data.toList.drop 0 = dktX1_wins_0 := by decide +kernel
theorem dksX1_wins_1 : cX1_wins.data.toList.drop 23 = dktX1_wins_1 := dk_seg dksX1_wins_0 23 rfl rfl
theorem dksX1_wins_2 : cX1_wins.data.toList.drop 47 = dktX1_wins_2 := dk_seg dksX1_wins_1 24 rfl rfl
theorem dX1_wins_0 : decode cX1_wins 0 = .ok (.aload_n 0, 1) := dk_42 (dk_at dksX1_wins_0 0 rfl rfl)
theorem dX1_wins_1 : decode cX1_wins 1 = .ok (.invokevirtual 83, 3) := dk_182 0 83 (dk_at dksX1_wins_0 1 rfl rfl)
theorem dX1_wins_4 : decode cX1_wins 4 = .ok (.aload_n 0, 1) := dk_42 (dk_at dksX1_wins_0 4 rfl rfl)
theorem dX1_wins_5 : decode cX1_wins 5 = .ok (.iload_n 1, 1) := dk_27 (dk_at dksX1_wins_0 5 rfl rfl)
theorem dX1_wins_6 : decode cX1_wins 6 = .ok (.invokevirtual 136, 3) := dk_182 0 136 (dk_at dksX1_wins_0 6 rfl rfl)
theorem dX1_wins_9 : decode cX1_wins 9 = .ok (.ifCond .ne 9, 3) := dk_154 0 9 (dk_at dksX1_wins_0 9 rfl rfl)
theorem dX1_wins_12 : decode cX1_wins 12 = .ok (.aload_n 0, 1) := dk_42 (dk_at dksX1_wins_0 12 rfl rfl)
theorem dX1_wins_13 : decode cX1_wins 13 = .ok (.iconst 1, 1) := dk_4 (dk_at dksX1_wins_0 13 rfl rfl)
theorem dX1_wins_14 : decode cX1_wins 14 = .ok (.invokevirtual 97, 3) := dk_182 0 97 (dk_at dksX1_wins_0 14 rfl rfl)
theorem dX1_wins_17 : decode cX1_wins 17 = .ok (.ireturn, 1) := dk_172 (dk_at dksX1_wins_0 17 rfl rfl)
theorem dX1_wins_18 : decode cX1_wins 18 = .ok (.iload_n 2, 1) := dk_28 (dk_at dksX1_wins_0 18 rfl rfl)
theorem dX1_wins_19 : decode cX1_wins 19 = .ok (.iconst 0, 1) := dk_3 (dk_at dksX1_wins_0 19 rfl rfl)
theorem dX1_wins_20 : decode cX1_wins 20 = .ok (.ldc_w 401, 3) := dk_19 1 145 (dk_at dksX1_wins_0 20 rfl rfl)
theorem dX1_wins_23 : decode cX1_wins 23 = .ok (.invokestatic 93, 3) := dk_184 0 93 (dk_at dksX1_wins_1 0 rfl rfl)
theorem dX1_wins_26 : decode cX1_wins 26 = .ok (.ifCond .eq 14, 3) := dk_153 0 14 (dk_at dksX1_wins_1 3 rfl rfl)
theorem dX1_wins_29 : decode cX1_wins 29 = .ok (.iload_n 3, 1) := dk_29 (dk_at dksX1_wins_1 6 rfl rfl)
theorem dX1_wins_30 : decode cX1_wins 30 = .ok (.iconst 0, 1) := dk_3 (dk_at dksX1_wins_1 7 rfl rfl)
theorem dX1_wins_31 : decode cX1_wins 31 = .ok (.sipush 200, 3) := dk_17 0 200 (dk_at dksX1_wins_1 8 rfl rfl)
theorem dX1_wins_34 : decode cX1_wins 34 = .ok (.invokestatic 93, 3) := dk_184 0 93 (dk_at dksX1_wins_1 11 rfl rfl)
theorem dX1_wins_37 : decode cX1_wins 37 = .ok (.ifCond .ne 9, 3) := dk_154 0 9 (dk_at dksX1_wins_1 14 rfl rfl)
theorem dX1_wins_40 : decode cX1_wins 40 = .ok (.aload_n 0, 1) := dk_42 (dk_at dksX1_wins_1 17 rfl rfl)
theorem dX1_wins_41 : decode cX1_wins 41 = .ok (.iconst 2, 1) := dk_5 (dk_at dksX1_wins_1 18 rfl rfl)
theorem dX1_wins_42 : decode cX1_wins 42 = .ok (.invokevirtual 97, 3) := dk_182 0 97 (dk_at dksX1_wins_1 19 rfl rfl)
theorem dX1_wins_45 : decode cX1_wins 45 = .ok (.ireturn, 1) := dk_172 (dk_at dksX1_wins_1 22 rfl rfl)
theorem dX1_wins_46 : decode cX1_wins 46 = .ok (.aload_n 0, 1) := dk_42 (dk_at dksX1_wins_1 23 rfl rfl)
theorem dX1_wins_47 : decode cX1_wins 47 = .ok (.iload_n 2, 1) := dk_28 (dk_at dksX1_wins_2 0 rfl rfl)
theorem dX1_wins_48 : decode cX1_wins 48 = .ok (.iload_n 3, 1) := dk_29 (dk_at dksX1_wins_2 1 rfl rfl)
theorem dX1_wins_49 : decode cX1_wins 49 = .ok (.invokevirtual 402, 3) := dk_182 1 146 (dk_at dksX1_wins_2 2 rfl rfl)
theorem dX1_wins_52 : decode cX1_wins 52 = .ok (.aload_n 0, 1) := dk_42 (dk_at dksX1_wins_2 5 rfl rfl)
theorem dX1_wins_53 : decode cX1_wins 53 = .ok (.getfield 73, 3) := dk_180 0 73 (dk_at dksX1_wins_2 6 rfl rfl)
theorem dX1_wins_56 : decode cX1_wins 56 = .ok (.iload_n 1, 1) := dk_27 (dk_at dksX1_wins_2 9 rfl rfl)
theorem dX1_wins_57 : decode cX1_wins 57 = .ok (.iaload, 1) := dk_46 (dk_at dksX1_wins_2 10 rfl rfl)
theorem dX1_wins_58 : decode cX1_wins 58 = .ok (.ireturn, 1) := dk_172 (dk_at dksX1_wins_2 11 rfl rfl)
abbrev cX1_goThrough : ByteArray := prog_1_method_62_code
def yX1_goThrough : MethodName := ⟨RX1, "goThrough", "(II)V"⟩
def dkwX1_goThrough_9 : List UInt8 := [167, 255, 91, 177]
abbrev dktX1_goThrough_9 : List UInt8 := dkwX1_goThrough_9 ++ []
def dkwX1_goThrough_8 : List UInt8 := [180, 0, 73, 21, 7, 154, 0, 8, 21, 5, 167, 0, 5, 21, 6, 92, 46, 4, 96, 79, 132, 3, 1]
abbrev dktX1_goThrough_8 : List UInt8 := dkwX1_goThrough_8 ++ dktX1_goThrough_9
def dkwX1_goThrough_7 : List UInt8 := [54, 7, 21, 7, 5, 161, 0, 17, 42, 180, 0, 77, 21, 7, 92, 46, 4, 96, 79, 167, 0, 24, 42]
abbrev dktX1_goThrough_7 : List UInt8 := dkwX1_goThrough_7 ++ dktX1_goThrough_8
def dkwX1_goThrough_6 : List UInt8 := [180, 0, 176, 21, 6, 50, 182, 1, 31, 42, 42, 180, 0, 40, 182, 1, 141, 42, 180, 0, 46, 182, 0, 237]
abbrev dktX1_goThrough_6 : List UInt8 := dkwX1_goThrough_6 ++ dktX1_goThrough_7
def dkwX1_goThrough_5 : List UInt8 := [3, 96, 54, 6, 42, 21, 4, 182, 0, 209, 42, 180, 0, 108, 180, 0, 176, 21, 5, 50, 42, 180, 0, 108]
abbrev dktX1_goThrough_5 : List UInt8 := dkwX1_goThrough_5 ++ dktX1_goThrough_6
def dkwX1_goThrough_4 : List UInt8 := [180, 0, 108, 180, 0, 133, 4, 100, 112, 54, 6, 21, 6, 21, 6, 21, 5, 161, 0, 7, 4, 167, 0, 4]
abbrev dktX1_goThrough_4 : List UInt8 := dkwX1_goThrough_4 ++ dktX1_goThrough_5
def dkwX1_goThrough_3 : List UInt8 := [180, 0, 40, 182, 1, 126, 42, 180, 0, 108, 180, 0, 133, 112, 54, 5, 42, 180, 0, 40, 182, 1, 126, 42]
abbrev dktX1_goThrough_3 : List UInt8 := dkwX1_goThrough_3 ++ dktX1_goThrough_4
def dkwX1_goThrough_2 : List UInt8 := [28, 162, 0, 166, 42, 180, 0, 40, 182, 1, 126, 42, 180, 0, 108, 180, 0, 128, 112, 54, 4, 42]
abbrev dktX1_goThrough_2 : List UInt8 := dkwX1_goThrough_2 ++ dktX1_goThrough_3
def dkwX1_goThrough_1 : List UInt8 := [180, 0, 77, 5, 3, 79, 42, 180, 0, 77, 6, 3, 79, 42, 180, 0, 40, 27, 181, 1, 138, 3, 62, 29]
abbrev dktX1_goThrough_1 : List UInt8 := dkwX1_goThrough_1 ++ dktX1_goThrough_2
def dkwX1_goThrough_0 : List UInt8 := [3, 62, 29, 16, 6, 162, 0, 16, 42, 180, 0, 73, 29, 3, 79, 132, 3, 1, 167, 255, 240, 42]
abbrev dktX1_goThrough_0 : List UInt8 := dkwX1_goThrough_0 ++ dktX1_goThrough_1
theorem dksX1_goThrough_0 : cX1_goThrough.data.toList.drop 0 = dktX1_goThrough_0 := by decide +kernel
theorem dksX1_goThrough_1 : cX1_goThrough.data.toList.drop 22 = dktX1_goThrough_1 := dk_seg dksX1_goThrough_0 22 rfl rfl
theorem dksX1_goThrough_2 : cX1_goThrough.data.toList.drop 46 = dktX1_goThrough_2 := dk_seg dksX1_goThrough_1 24 rfl rfl
theorem dksX1_goThrough_3 : cX1_goThrough.data.toList.drop 68 = dktX1_goThrough_3 := dk_seg dksX1_goThrough_2 22 rfl rfl
theorem dksX1_goThrough_4 : cX1_goThrough.data.toList.drop 92 = dktX1_goThrough_4 := dk_seg dksX1_goThrough_3 24 rfl rfl
theorem dksX1_goThrough_5 : cX1_goThrough.data.toList.drop 116 = dktX1_goThrough_5 := dk_seg dksX1_goThrough_4 24 rfl rfl
theorem dksX1_goThrough_6 : cX1_goThrough.data.toList.drop 140 = dktX1_goThrough_6 := dk_seg dksX1_goThrough_5 24 rfl rfl
theorem dksX1_goThrough_7 : cX1_goThrough.data.toList.drop 164 = dktX1_goThrough_7 := dk_seg dksX1_goThrough_6 24 rfl rfl
theorem dksX1_goThrough_8 : cX1_goThrough.data.toList.drop 187 = dktX1_goThrough_8 := dk_seg dksX1_goThrough_7 23 rfl rfl
theorem dksX1_goThrough_9 : cX1_goThrough.data.toList.drop 210 = dktX1_goThrough_9 := dk_seg dksX1_goThrough_8 23 rfl rfl
theorem dX1_goThrough_0 : decode cX1_goThrough 0 = .ok (.iconst 0, 1) := dk_3 (dk_at dksX1_goThrough_0 0 rfl rfl)
theorem dX1_goThrough_1 : decode cX1_goThrough 1 = .ok (.istore_n 3, 1) := dk_62 (dk_at dksX1_goThrough_0 1 rfl rfl)
theorem dX1_goThrough_2 : decode cX1_goThrough 2 = .ok (.iload_n 3, 1) := dk_29 (dk_at dksX1_goThrough_0 2 rfl rfl)
theorem dX1_goThrough_3 : decode cX1_goThrough 3 = .ok (.bipush 6, 2) := dk_16 6 (dk_at dksX1_goThrough_0 3 rfl rfl)
theorem dX1_goThrough_5 : decode cX1_goThrough 5 = .ok (.if_icmp .ge 16, 3) := dk_162 0 16 (dk_at dksX1_goThrough_0 5 rfl rfl)
theorem dX1_goThrough_8 : decode cX1_goThrough 8 = .ok (.aload_n 0, 1) := dk_42 (dk_at dksX1_goThrough_0 8 rfl rfl)
theorem dX1_goThrough_9 : decode cX1_goThrough 9 = .ok (.getfield 73, 3) := dk_180 0 73 (dk_at dksX1_goThrough_0 9 rfl rfl)
theorem dX1_goThrough_12 : decode cX1_goThrough 12 = .ok (.iload_n 3, 1) := dk_29 (dk_at dksX1_goThrough_0 12 rfl rfl)
theorem dX1_goThrough_13 : decode cX1_goThrough 13 = .ok (.iconst 0, 1) := dk_3 (dk_at dksX1_goThrough_0 13 rfl rfl)
theorem dX1_goThrough_14 : decode cX1_goThrough 14 = .ok (.iastore, 1) := dk_79 (dk_at dksX1_goThrough_0 14 rfl rfl)
theorem dX1_goThrough_15 : decode cX1_goThrough 15 = .ok (.iinc 3 1, 3) := dk_132 3 1 (dk_at dksX1_goThrough_0 15 rfl rfl)
theorem dX1_goThrough_18 : decode cX1_goThrough 18 = .ok (.goto (-16), 3) := dk_167 255 240 (dk_at dksX1_goThrough_0 18 rfl rfl)
theorem dX1_goThrough_21 : decode cX1_goThrough 21 = .ok (.aload_n 0, 1) := dk_42 (dk_at dksX1_goThrough_0 21 rfl rfl)
theorem dX1_goThrough_22 : decode cX1_goThrough 22 = .ok (.getfield 77, 3) := dk_180 0 77 (dk_at dksX1_goThrough_1 0 rfl rfl)
theorem dX1_goThrough_25 : decode cX1_goThrough 25 = .ok (.iconst 2, 1) := dk_5 (dk_at dksX1_goThrough_1 3 rfl rfl)
theorem dX1_goThrough_26 : decode cX1_goThrough 26 = .ok (.iconst 0, 1) := dk_3 (dk_at dksX1_goThrough_1 4 rfl rfl)
theorem dX1_goThrough_27 : decode cX1_goThrough 27 = .ok (.iastore, 1) := dk_79 (dk_at dksX1_goThrough_1 5 rfl rfl)
theorem dX1_goThrough_28 : decode cX1_goThrough 28 = .ok (.aload_n 0, 1) := dk_42 (dk_at dksX1_goThrough_1 6 rfl rfl)
theorem dX1_goThrough_29 : decode cX1_goThrough 29 = .ok (.getfield 77, 3) := dk_180 0 77 (dk_at dksX1_goThrough_1 7 rfl rfl)
theorem dX1_goThrough_32 : decode cX1_goThrough 32 = .ok (.iconst 3, 1) := dk_6 (dk_at dksX1_goThrough_1 10 rfl rfl)
theorem dX1_goThrough_33 : decode cX1_goThrough 33 = .ok (.iconst 0, 1) := dk_3 (dk_at dksX1_goThrough_1 11 rfl rfl)
theorem dX1_goThrough_34 : decode cX1_goThrough 34 = .ok (.iastore, 1) := dk_79 (dk_at dksX1_goThrough_1 12 rfl rfl)
theorem dX1_goThrough_35 : decode cX1_goThrough 35 = .ok (.aload_n 0, 1) := dk_42 (dk_at dksX1_goThrough_1 13 rfl rfl)
theorem dX1_goThrough_36 : decode cX1_goThrough 36 = .ok (.getfield 40, 3) := dk_180 0 40 (dk_at dksX1_goThrough_1 14 rfl rfl)
theorem dX1_goThrough_39 : decode cX1_goThrough 39 = .ok (.iload_n 1, 1) := dk_27 (dk_at dksX1_goThrough_1 17 rfl rfl)
theorem dX1_goThrough_40 : decode cX1_goThrough 40 = .ok (.putfield 394, 3) := dk_181 1 138 (dk_at dksX1_goThrough_1 18 rfl rfl)
theorem dX1_goThrough_43 : decode cX1_goThrough 43 = .ok (.iconst 0, 1) := dk_3 (dk_at dksX1_goThrough_1 21 rfl rfl)
theorem dX1_goThrough_44 : decode cX1_goThrough 44 = .ok (.istore_n 3, 1) := dk_62 (dk_at dksX1_goThrough_1 22 rfl rfl)
theorem dX1_goThrough_45 : decode cX1_goThrough 45 = .ok (.iload_n 3, 1) := dk_29 (dk_at dksX1_goThrough_1 23 rfl rfl)
theorem dX1_goThrough_46 : decode cX1_goThrough 46 = .ok (.iload_n 2, 1) := dk_28 (dk_at dksX1_goThrough_2 0 rfl rfl)
theorem dX1_goThrough_47 : decode cX1_goThrough 47 = .ok (.if_icmp .ge 166, 3) := dk_162 0 166 (dk_at dksX1_goThrough_2 1 rfl rfl)
theorem dX1_goThrough_50 : decode cX1_goThrough 50 = .ok (.aload_n 0, 1) := dk_42 (dk_at dksX1_goThrough_2 4 rfl rfl)
theorem dX1_goThrough_51 : decode cX1_goThrough 51 = .ok (.getfield 40, 3) := dk_180 0 40 (dk_at dksX1_goThrough_2 5 rfl rfl)
theorem dX1_goThrough_54 : decode cX1_goThrough 54 = .ok (.invokevirtual 382, 3) := dk_182 1 126 (dk_at dksX1_goThrough_2 8 rfl rfl)
theorem dX1_goThrough_57 : decode cX1_goThrough 57 = .ok (.aload_n 0, 1) := dk_42 (dk_at dksX1_goThrough_2 11 rfl rfl)
theorem dX1_goThrough_58 : decode cX1_goThrough 58 = .ok (.getfield 108, 3) := dk_180 0 108 (dk_at dksX1_goThrough_2 12 rfl rfl)
theorem dX1_goThrough_61 : decode cX1_goThrough 61 = .ok (.getfield 128, 3) := dk_180 0 128 (dk_at dksX1_goThrough_2 15 rfl rfl)
theorem dX1_goThrough_64 : decode cX1_goThrough 64 = .ok (.irem, 1) := dk_112 (dk_at dksX1_goThrough_2 18 rfl rfl)
theorem dX1_goThrough_65 : decode cX1_goThrough 65 = .ok (.istore 4, 2) := dk_54 4 (dk_at dksX1_goThrough_2 19 rfl rfl)
theorem dX1_goThrough_67 : decode cX1_goThrough 67 = .ok (.aload_n 0, 1) := dk_42 (dk_at dksX1_goThrough_2 21 rfl rfl)
theorem dX1_goThrough_68 : decode cX1_goThrough 68 = .ok (.getfield 40, 3) := dk_180 0 40 (dk_at dksX1_goThrough_3 0 rfl rfl)
theorem dX1_goThrough_71 : decode cX1_goThrough 71 = .ok (.invokevirtual 382, 3) := dk_182 1 126 (dk_at dksX1_goThrough_3 3 rfl rfl)
theorem dX1_goThrough_74 : decode cX1_goThrough 74 = .ok (.aload_n 0, 1) := dk_42 (dk_at dksX1_goThrough_3 6 rfl rfl)
theorem dX1_goThrough_75 : decode cX1_goThrough 75 = .ok (.getfield 108, 3) := dk_180 0 108 (dk_at dksX1_goThrough_3 7 rfl rfl)
theorem dX1_goThrough_78 : decode cX1_goThrough 78 = .ok (.getfield 133, 3) := dk_180 0 133 (dk_at dksX1_goThrough_3 10 rfl rfl)
theorem dX1_goThrough_81 : decode cX1_goThrough 81 = .ok (.irem, 1) := dk_112 (dk_at dksX1_goThrough_3 13 rfl rfl)
theorem dX1_goThrough_82 : decode cX1_goThrough 82 = .ok (.istore 5, 2) := dk_54 5 (dk_at dksX1_goThrough_3 14 rfl rfl)
theorem dX1_goThrough_84 : decode cX1_goThrough 84 = .ok (.aload_n 0, 1) := dk_42 (dk_at dksX1_goThrough_3 16 rfl rfl)
theorem dX1_goThrough_85 : decode cX1_goThrough 85 = .ok (.getfield 40, 3) := dk_180 0 40 (dk_at dksX1_goThrough_3 17 rfl rfl)
theorem dX1_goThrough_88 : decode cX1_goThrough 88 = .ok (.invokevirtual 382, 3) := dk_182 1 126 (dk_at dksX1_goThrough_3 20 rfl rfl)
theorem dX1_goThrough_91 : decode cX1_goThrough 91 = .ok (.aload_n 0, 1) := dk_42 (dk_at dksX1_goThrough_3 23 rfl rfl)
theorem dX1_goThrough_92 : decode cX1_goThrough 92 = .ok (.getfield 108, 3) := dk_180 0 108 (dk_at dksX1_goThrough_4 0 rfl rfl)
theorem dX1_goThrough_95 : decode cX1_goThrough 95 = .ok (.getfield 133, 3) := dk_180 0 133 (dk_at dksX1_goThrough_4 3 rfl rfl)
theorem dX1_goThrough_98 : decode cX1_goThrough 98 = .ok (.iconst 1, 1) := dk_4 (dk_at dksX1_goThrough_4 6 rfl rfl)
theorem dX1_goThrough_99 : decode cX1_goThrough 99 = .ok (.isub, 1) := dk_100 (dk_at dksX1_goThrough_4 7 rfl rfl)
theorem dX1_goThrough_100 : decode cX1_goThrough 100 = .ok (.irem, 1) := dk_112 (dk_at dksX1_goThrough_4 8 rfl rfl)
theorem dX1_goThrough_101 : decode cX1_goThrough 101 = .ok (.istore 6, 2) := dk_54 6 (dk_at dksX1_goThrough_4 9 rfl rfl)
theorem dX1_goThrough_103 : decode cX1_goThrough 103 = .ok (.iload 6, 2) := dk_21 6 (dk_at dksX1_goThrough_4 11 rfl rfl)
theorem dX1_goThrough_105 : decode cX1_goThrough 105 = .ok (.iload 6, 2) := dk_21 6 (dk_at dksX1_goThrough_4 13 rfl rfl)
theorem dX1_goThrough_107 : decode cX1_goThrough 107 = .ok (.iload 5, 2) := dk_21 5 (dk_at dksX1_goThrough_4 15 rfl rfl)
theorem dX1_goThrough_109 : decode cX1_goThrough 109 = .ok (.if_icmp .lt 7, 3) := dk_161 0 7 (dk_at dksX1_goThrough_4 17 rfl rfl)
theorem dX1_goThrough_112 : decode cX1_goThrough 112 = .ok (.iconst 1, 1) := dk_4 (dk_at dksX1_goThrough_4 20 rfl rfl)
theorem dX1_goThrough_113 : decode cX1_goThrough 113 = .ok (.goto 4, 3) := dk_167 0 4 (dk_at dksX1_goThrough_4 21 rfl rfl)
theorem dX1_goThrough_116 : decode cX1_goThrough 116 = .ok (.iconst 0, 1) := dk_3 (dk_at dksX1_goThrough_5 0 rfl rfl)
theorem dX1_goThrough_117 : decode cX1_goThrough 117 = .ok (.iadd, 1) := dk_96 (dk_at dksX1_goThrough_5 1 rfl rfl)
theorem dX1_goThrough_118 : decode cX1_goThrough 118 = .ok (.istore 6, 2) := dk_54 6 (dk_at dksX1_goThrough_5 2 rfl rfl)
theorem dX1_goThrough_120 : decode cX1_goThrough 120 = .ok (.aload_n 0, 1) := dk_42 (dk_at dksX1_goThrough_5 4 rfl rfl)
theorem dX1_goThrough_121 : decode cX1_goThrough 121 = .ok (.iload 4, 2) := dk_21 4 (dk_at dksX1_goThrough_5 5 rfl rfl)
theorem dX1_goThrough_123 : decode cX1_goThrough 123 = .ok (.invokevirtual 209, 3) := dk_182 0 209 (dk_at dksX1_goThrough_5 7 rfl rfl)
theorem dX1_goThrough_126 : decode cX1_goThrough 126 = .ok (.aload_n 0, 1) := dk_42 (dk_at dksX1_goThrough_5 10 rfl rfl)
theorem dX1_goThrough_127 : decode cX1_goThrough 127 = .ok (.getfield 108, 3) := dk_180 0 108 (dk_at dksX1_goThrough_5 11 rfl rfl)
theorem dX1_goThrough_130 : decode cX1_goThrough 130 = .ok (.getfield 176, 3) := dk_180 0 176 (dk_at dksX1_goThrough_5 14 rfl rfl)
theorem dX1_goThrough_133 : decode cX1_goThrough 133 = .ok (.iload 5, 2) := dk_21 5 (dk_at dksX1_goThrough_5 17 rfl rfl)
theorem dX1_goThrough_135 : decode cX1_goThrough 135 = .ok (.aaload, 1) := dk_50 (dk_at dksX1_goThrough_5 19 rfl rfl)
theorem dX1_goThrough_136 : decode cX1_goThrough 136 = .ok (.aload_n 0, 1) := dk_42 (dk_at dksX1_goThrough_5 20 rfl rfl)
theorem dX1_goThrough_137 : decode cX1_goThrough 137 = .ok (.getfield 108, 3) := dk_180 0 108 (dk_at dksX1_goThrough_5 21 rfl rfl)
theorem dX1_goThrough_140 : decode cX1_goThrough 140 = .ok (.getfield 176, 3) := dk_180 0 176 (dk_at dksX1_goThrough_6 0 rfl rfl)
theorem dX1_goThrough_143 : decode cX1_goThrough 143 = .ok (.iload 6, 2) := dk_21 6 (dk_at dksX1_goThrough_6 3 rfl rfl)
theorem dX1_goThrough_145 : decode cX1_goThrough 145 = .ok (.aaload, 1) := dk_50 (dk_at dksX1_goThrough_6 5 rfl rfl)
theorem dX1_goThrough_146 : decode cX1_goThrough 146 = .ok (.invokevirtual 287, 3) := dk_182 1 31 (dk_at dksX1_goThrough_6 6 rfl rfl)
theorem dX1_goThrough_149 : decode cX1_goThrough 149 = .ok (.aload_n 0, 1) := dk_42 (dk_at dksX1_goThrough_6 9 rfl rfl)
theorem dX1_goThrough_150 : decode cX1_goThrough 150 = .ok (.aload_n 0, 1) := dk_42 (dk_at dksX1_goThrough_6 10 rfl rfl)
theorem dX1_goThrough_151 : decode cX1_goThrough 151 = .ok (.getfield 40, 3) := dk_180 0 40 (dk_at dksX1_goThrough_6 11 rfl rfl)
theorem dX1_goThrough_154 : decode cX1_goThrough 154 = .ok (.invokevirtual 397, 3) := dk_182 1 141 (dk_at dksX1_goThrough_6 14 rfl rfl)
theorem dX1_goThrough_157 : decode cX1_goThrough 157 = .ok (.aload_n 0, 1) := dk_42 (dk_at dksX1_goThrough_6 17 rfl rfl)
theorem dX1_goThrough_158 : decode cX1_goThrough 158 = .ok (.getfield 46, 3) := dk_180 0 46 (dk_at dksX1_goThrough_6 18 rfl rfl)
theorem dX1_goThrough_161 : decode cX1_goThrough 161 = .ok (.invokevirtual 237, 3) := dk_182 0 237 (dk_at dksX1_goThrough_6 21 rfl rfl)
theorem dX1_goThrough_164 : decode cX1_goThrough 164 = .ok (.istore 7, 2) := dk_54 7 (dk_at dksX1_goThrough_7 0 rfl rfl)
theorem dX1_goThrough_166 : decode cX1_goThrough 166 = .ok (.iload 7, 2) := dk_21 7 (dk_at dksX1_goThrough_7 2 rfl rfl)
theorem dX1_goThrough_168 : decode cX1_goThrough 168 = .ok (.iconst 2, 1) := dk_5 (dk_at dksX1_goThrough_7 4 rfl rfl)
theorem dX1_goThrough_169 : decode cX1_goThrough 169 = .ok (.if_icmp .lt 17, 3) := dk_161 0 17 (dk_at dksX1_goThrough_7 5 rfl rfl)
theorem dX1_goThrough_172 : decode cX1_goThrough 172 = .ok (.aload_n 0, 1) := dk_42 (dk_at dksX1_goThrough_7 8 rfl rfl)
theorem dX1_goThrough_173 : decode cX1_goThrough 173 = .ok (.getfield 77, 3) := dk_180 0 77 (dk_at dksX1_goThrough_7 9 rfl rfl)
theorem dX1_goThrough_176 : decode cX1_goThrough 176 = .ok (.iload 7, 2) := dk_21 7 (dk_at dksX1_goThrough_7 12 rfl rfl)
theorem dX1_goThrough_178 : decode cX1_goThrough 178 = .ok (.dup2, 1) := dk_92 (dk_at dksX1_goThrough_7 14 rfl rfl)
theorem dX1_goThrough_179 : decode cX1_goThrough 179 = .ok (.iaload, 1) := dk_46 (dk_at dksX1_goThrough_7 15 rfl rfl)
theorem dX1_goThrough_180 : decode cX1_goThrough 180 = .ok (.iconst 1, 1) := dk_4 (dk_at dksX1_goThrough_7 16 rfl rfl)
theorem dX1_goThrough_181 : decode cX1_goThrough 181 = .ok (.iadd, 1) := dk_96 (dk_at dksX1_goThrough_7 17 rfl rfl)
theorem dX1_goThrough_182 : decode cX1_goThrough 182 = .ok (.iastore, 1) := dk_79 (dk_at dksX1_goThrough_7 18 rfl rfl)
theorem dX1_goThrough_183 : decode cX1_goThrough 183 = .ok (.goto 24, 3) := dk_167 0 24 (dk_at dksX1_goThrough_7 19 rfl rfl)
theorem dX1_goThrough_186 : decode cX1_goThrough 186 = .ok (.aload_n 0, 1) := dk_42 (dk_at dksX1_goThrough_7 22 rfl rfl)
theorem dX1_goThrough_187 : decode cX1_goThrough 187 = .ok (.getfield 73, 3) := dk_180 0 73 (dk_at dksX1_goThrough_8 0 rfl rfl)
theorem dX1_goThrough_190 : decode cX1_goThrough 190 = .ok (.iload 7, 2) := dk_21 7 (dk_at dksX1_goThrough_8 3 rfl rfl)
theorem dX1_goThrough_192 : decode cX1_goThrough 192 = .ok (.ifCond .ne 8, 3) := dk_154 0 8 (dk_at dksX1_goThrough_8 5 rfl rfl)
theorem dX1_goThrough_195 : decode cX1_goThrough 195 = .ok (.iload 5, 2) := dk_21 5 (dk_at dksX1_goThrough_8 8 rfl rfl)
theorem dX1_goThrough_197 : decode cX1_goThrough 197 = .ok (.goto 5, 3) := dk_167 0 5 (dk_at dksX1_goThrough_8 10 rfl rfl)
theorem dX1_goThrough_200 : decode cX1_goThrough 200 = .ok (.iload 6, 2) := dk_21 6 (dk_at dksX1_goThrough_8 13 rfl rfl)
theorem dX1_goThrough_202 : decode cX1_goThrough 202 = .ok (.dup2, 1) := dk_92 (dk_at dksX1_goThrough_8 15 rfl rfl)
theorem dX1_goThrough_203 : decode cX1_goThrough 203 = .ok (.iaload, 1) := dk_46 (dk_at dksX1_goThrough_8 16 rfl rfl)
theorem dX1_goThrough_204 : decode cX1_goThrough 204 = .ok (.iconst 1, 1) := dk_4 (dk_at dksX1_goThrough_8 17 rfl rfl)
theorem dX1_goThrough_205 : decode cX1_goThrough 205 = .ok (.iadd, 1) := dk_96 (dk_at dksX1_goThrough_8 18 rfl rfl)
theorem dX1_goThrough_206 : decode cX1_goThrough 206 = .ok (.iastore, 1) := dk_79 (dk_at dksX1_goThrough_8 19 rfl rfl)
theorem dX1_goThrough_207 : decode cX1_goThrough 207 = .ok (.iinc 3 1, 3) := dk_132 3 1 (dk_at dksX1_goThrough_8 20 rfl rfl)
theorem dX1_goThrough_210 : decode cX1_goThrough 210 = .ok (.goto (-165), 3) := dk_167 255 91 (dk_at dksX1_goThrough_9 0 rfl rfl)
theorem dX1_goThrough_213 : decode cX1_goThrough 213 = .ok (.return_, 1) := dk_177 (dk_at dksX1_goThrough_9 3 rfl rfl)
abbrev cX1_drawFlaw : ByteArray := prog_1_method_61_code
def yX1_drawFlaw : MethodName := ⟨RX1, "drawFlaw", "(LLongerHalf$Drawer;)V"⟩
def dkwX1_drawFlaw_3 : List UInt8 := [182, 0, 147, 100, 182, 0, 244, 177]
abbrev dktX1_drawFlaw_3 : List UInt8 := dkwX1_drawFlaw_3 ++ []
def dkwX1_drawFlaw_2 : List UInt8 := [162, 0, 7, 3, 167, 0, 4, 4, 29, 44, 3, 182, 0, 147, 162, 0, 7, 29, 167, 0, 10, 29, 44, 3]
abbrev dktX1_drawFlaw_2 : List UInt8 := dkwX1_drawFlaw_2 ++ dktX1_drawFlaw_3
def dkwX1_drawFlaw_1 : List UInt8 := [180, 1, 131, 77, 43, 182, 1, 126, 44, 182, 1, 135, 112, 62, 42, 180, 0, 46, 29, 44, 3, 182, 0, 147]
abbrev dktX1_drawFlaw_1 : List UInt8 := dkwX1_drawFlaw_1 ++ dktX1_drawFlaw_2
def dkwX1_drawFlaw_0 : List UInt8 := [43, 182, 1, 126, 16, 100, 112, 42, 180, 0, 108, 180, 1, 129, 161, 0, 4, 177, 42, 180, 0, 46]
abbrev dktX1_drawFlaw_0 : List UInt8 := dkwX1_drawFlaw_0 ++ dktX1_drawFlaw_1
theorem dksX1_drawFlaw_0 : cX1_drawFlaw.data.toList.drop 0 = dktX1_drawFlaw_0 := by decide +kernel
theorem dksX1_drawFlaw_1 : cX1_drawFlaw.data.toList.drop 22 = dktX1_drawFlaw_1 := dk_seg dksX1_drawFlaw_0 22 rfl rfl
theorem dksX1_drawFlaw_2 : cX1_drawFlaw.data.toList.drop 46 = dktX1_drawFlaw_2 := dk_seg dksX1_drawFlaw_1 24 rfl rfl
theorem dksX1_drawFlaw_3 : cX1_drawFlaw.data.toList.drop 70 = dktX1_drawFlaw_3 := dk_seg dksX1_drawFlaw_2 24 rfl rfl
theorem dX1_drawFlaw_0 : decode cX1_drawFlaw 0 = .ok (.aload_n 1, 1) := dk_43 (dk_at dksX1_drawFlaw_0 0 rfl rfl)
theorem dX1_drawFlaw_1 : decode cX1_drawFlaw 1 = .ok (.invokevirtual 382, 3) := dk_182 1 126 (dk_at dksX1_drawFlaw_0 1 rfl rfl)
theorem dX1_drawFlaw_4 : decode cX1_drawFlaw 4 = .ok (.bipush 100, 2) := dk_16 100 (dk_at dksX1_drawFlaw_0 4 rfl rfl)
theorem dX1_drawFlaw_6 : decode cX1_drawFlaw 6 = .ok (.irem, 1) := dk_112 (dk_at dksX1_drawFlaw_0 6 rfl rfl)
theorem dX1_drawFlaw_7 : decode cX1_drawFlaw 7 = .ok (.aload_n 0, 1) := dk_42 (dk_at dksX1_drawFlaw_0 7 rfl rfl)
theorem dX1_drawFlaw_8 : decode cX1_drawFlaw 8 = .ok (.getfield 108, 3) := dk_180 0 108 (dk_at dksX1_drawFlaw_0 8 rfl rfl)
theorem dX1_drawFlaw_11 : decode cX1_drawFlaw 11 = .ok (.getfield 385, 3) := dk_180 1 129 (dk_at dksX1_drawFlaw_0 11 rfl rfl)
theorem dX1_drawFlaw_14 : decode cX1_drawFlaw 14 = .ok (.if_icmp .lt 4, 3) := dk_161 0 4 (dk_at dksX1_drawFlaw_0 14 rfl rfl)
theorem dX1_drawFlaw_17 : decode cX1_drawFlaw 17 = .ok (.return_, 1) := dk_177 (dk_at dksX1_drawFlaw_0 17 rfl rfl)
theorem dX1_drawFlaw_18 : decode cX1_drawFlaw 18 = .ok (.aload_n 0, 1) := dk_42 (dk_at dksX1_drawFlaw_0 18 rfl rfl)
theorem dX1_drawFlaw_19 : decode cX1_drawFlaw 19 = .ok (.getfield 46, 3) := dk_180 0 46 (dk_at dksX1_drawFlaw_0 19 rfl rfl)
theorem dX1_drawFlaw_22 : decode cX1_drawFlaw 22 = .ok (.getfield 387, 3) := dk_180 1 131 (dk_at dksX1_drawFlaw_1 0 rfl rfl)
theorem dX1_drawFlaw_25 : decode cX1_drawFlaw 25 = .ok (.astore_n 2, 1) := dk_77 (dk_at dksX1_drawFlaw_1 3 rfl rfl)
theorem dX1_drawFlaw_26 : decode cX1_drawFlaw 26 = .ok (.aload_n 1, 1) := dk_43 (dk_at dksX1_drawFlaw_1 4 rfl rfl)
theorem dX1_drawFlaw_27 : decode cX1_drawFlaw 27 = .ok (.invokevirtual 382, 3) := dk_182 1 126 (dk_at dksX1_drawFlaw_1 5 rfl rfl)
theorem dX1_drawFlaw_30 : decode cX1_drawFlaw 30 = .ok (.aload_n 2, 1) := dk_44 (dk_at dksX1_drawFlaw_1 8 rfl rfl)
theorem dX1_drawFlaw_31 : decode cX1_drawFlaw 31 = .ok (.invokevirtual 391, 3) := dk_182 1 135 (dk_at dksX1_drawFlaw_1 9 rfl rfl)
theorem dX1_drawFlaw_34 : decode cX1_drawFlaw 34 = .ok (.irem, 1) := dk_112 (dk_at dksX1_drawFlaw_1 12 rfl rfl)
theorem dX1_drawFlaw_35 : decode cX1_drawFlaw 35 = .ok (.istore_n 3, 1) := dk_62 (dk_at dksX1_drawFlaw_1 13 rfl rfl)
theorem dX1_drawFlaw_36 : decode cX1_drawFlaw 36 = .ok (.aload_n 0, 1) := dk_42 (dk_at dksX1_drawFlaw_1 14 rfl rfl)
theorem dX1_drawFlaw_37 : decode cX1_drawFlaw 37 = .ok (.getfield 46, 3) := dk_180 0 46 (dk_at dksX1_drawFlaw_1 15 rfl rfl)
theorem dX1_drawFlaw_40 : decode cX1_drawFlaw 40 = .ok (.iload_n 3, 1) := dk_29 (dk_at dksX1_drawFlaw_1 18 rfl rfl)
theorem dX1_drawFlaw_41 : decode cX1_drawFlaw 41 = .ok (.aload_n 2, 1) := dk_44 (dk_at dksX1_drawFlaw_1 19 rfl rfl)
theorem dX1_drawFlaw_42 : decode cX1_drawFlaw 42 = .ok (.iconst 0, 1) := dk_3 (dk_at dksX1_drawFlaw_1 20 rfl rfl)
theorem dX1_drawFlaw_43 : decode cX1_drawFlaw 43 = .ok (.invokevirtual 147, 3) := dk_182 0 147 (dk_at dksX1_drawFlaw_1 21 rfl rfl)
theorem dX1_drawFlaw_46 : decode cX1_drawFlaw 46 = .ok (.if_icmp .ge 7, 3) := dk_162 0 7 (dk_at dksX1_drawFlaw_2 0 rfl rfl)
theorem dX1_drawFlaw_49 : decode cX1_drawFlaw 49 = .ok (.iconst 0, 1) := dk_3 (dk_at dksX1_drawFlaw_2 3 rfl rfl)
theorem dX1_drawFlaw_50 : decode cX1_drawFlaw 50 = .ok (.goto 4, 3) := dk_167 0 4 (dk_at dksX1_drawFlaw_2 4 rfl rfl)
theorem dX1_drawFlaw_53 : decode cX1_drawFlaw 53 = .ok (.iconst 1, 1) := dk_4 (dk_at dksX1_drawFlaw_2 7 rfl rfl)
theorem dX1_drawFlaw_54 : decode cX1_drawFlaw 54 = .ok (.iload_n 3, 1) := dk_29 (dk_at dksX1_drawFlaw_2 8 rfl rfl)
theorem dX1_drawFlaw_55 : decode cX1_drawFlaw 55 = .ok (.aload_n 2, 1) := dk_44 (dk_at dksX1_drawFlaw_2 9 rfl rfl)
theorem dX1_drawFlaw_56 : decode cX1_drawFlaw 56 = .ok (.iconst 0, 1) := dk_3 (dk_at dksX1_drawFlaw_2 10 rfl rfl)
theorem dX1_drawFlaw_57 : decode cX1_drawFlaw 57 = .ok (.invokevirtual 147, 3) := dk_182 0 147 (dk_at dksX1_drawFlaw_2 11 rfl rfl)
theorem dX1_drawFlaw_60 : decode cX1_drawFlaw 60 = .ok (.if_icmp .ge 7, 3) := dk_162 0 7 (dk_at dksX1_drawFlaw_2 14 rfl rfl)
theorem dX1_drawFlaw_63 : decode cX1_drawFlaw 63 = .ok (.iload_n 3, 1) := dk_29 (dk_at dksX1_drawFlaw_2 17 rfl rfl)
theorem dX1_drawFlaw_64 : decode cX1_drawFlaw 64 = .ok (.goto 10, 3) := dk_167 0 10 (dk_at dksX1_drawFlaw_2 18 rfl rfl)
theorem dX1_drawFlaw_67 : decode cX1_drawFlaw 67 = .ok (.iload_n 3, 1) := dk_29 (dk_at dksX1_drawFlaw_2 21 rfl rfl)
theorem dX1_drawFlaw_68 : decode cX1_drawFlaw 68 = .ok (.aload_n 2, 1) := dk_44 (dk_at dksX1_drawFlaw_2 22 rfl rfl)
theorem dX1_drawFlaw_69 : decode cX1_drawFlaw 69 = .ok (.iconst 0, 1) := dk_3 (dk_at dksX1_drawFlaw_2 23 rfl rfl)
theorem dX1_drawFlaw_70 : decode cX1_drawFlaw 70 = .ok (.invokevirtual 147, 3) := dk_182 0 147 (dk_at dksX1_drawFlaw_3 0 rfl rfl)
theorem dX1_drawFlaw_73 : decode cX1_drawFlaw 73 = .ok (.isub, 1) := dk_100 (dk_at dksX1_drawFlaw_3 3 rfl rfl)
theorem dX1_drawFlaw_74 : decode cX1_drawFlaw 74 = .ok (.invokevirtual 244, 3) := dk_182 0 244 (dk_at dksX1_drawFlaw_3 4 rfl rfl)
theorem dX1_drawFlaw_77 : decode cX1_drawFlaw 77 = .ok (.return_, 1) := dk_177 (dk_at dksX1_drawFlaw_3 7 rfl rfl)
abbrev cX1_spoilt : ByteArray := prog_1_method_64_code
def yX1_spoilt : MethodName := ⟨RX1, "spoilt", "(IIZ)I"⟩
def dkwX1_spoilt_2 : List UInt8 := [27, 28, 182, 1, 146, 42, 180, 0, 77, 29, 153, 0, 7, 6, 167, 0, 4, 5, 46, 172]
abbrev dktX1_spoilt_2 : List UInt8 := dkwX1_spoilt_2 ++ []
def dkwX1_spoilt_1 : List UInt8 := [184, 0, 93, 153, 0, 14, 28, 3, 17, 0, 200, 184, 0, 93, 154, 0, 9, 42, 5, 182, 0, 97, 172, 42]
abbrev dktX1_spoilt_1 : List UInt8 := dkwX1_spoilt_1 ++ dktX1_spoilt_2
def dkwX1_spoilt_0 : List UInt8 := [42, 182, 0, 83, 42, 180, 0, 108, 199, 0, 9, 42, 4, 182, 0, 97, 172, 27, 3, 19, 1, 145]
abbrev dktX1_spoilt_0 : List UInt8 := dkwX1_spoilt_0 ++ dktX1_spoilt_1
theorem dksX1_spoilt_0 : cX1_spoilt.data.toList.drop 0 = dktX1_spoilt_0 := by decide +kernel
theorem dksX1_spoilt_1 : cX1_spoilt.data.toList.drop 22 = dktX1_spoilt_1 := dk_seg dksX1_spoilt_0 22 rfl rfl
theorem dksX1_spoilt_2 : cX1_spoilt.data.toList.drop 46 = dktX1_spoilt_2 := dk_seg dksX1_spoilt_1 24 rfl rfl
theorem dX1_spoilt_0 : decode cX1_spoilt 0 = .ok (.aload_n 0, 1) := dk_42 (dk_at dksX1_spoilt_0 0 rfl rfl)
theorem dX1_spoilt_1 : decode cX1_spoilt 1 = .ok (.invokevirtual 83, 3) := dk_182 0 83 (dk_at dksX1_spoilt_0 1 rfl rfl)
theorem dX1_spoilt_4 : decode cX1_spoilt 4 = .ok (.aload_n 0, 1) := dk_42 (dk_at dksX1_spoilt_0 4 rfl rfl)
theorem dX1_spoilt_5 : decode cX1_spoilt 5 = .ok (.getfield 108, 3) := dk_180 0 108 (dk_at dksX1_spoilt_0 5 rfl rfl)
theorem dX1_spoilt_8 : decode cX1_spoilt 8 = .ok (.ifnonnull 9, 3) := dk_199 0 9 (dk_at dksX1_spoilt_0 8 rfl rfl)
theorem dX1_spoilt_11 : decode cX1_spoilt 11 = .ok (.aload_n 0, 1) := dk_42 (dk_at dksX1_spoilt_0 11 rfl rfl)
theorem dX1_spoilt_12 : decode cX1_spoilt 12 = .ok (.iconst 1, 1) := dk_4 (dk_at dksX1_spoilt_0 12 rfl rfl)
theorem dX1_spoilt_13 : decode cX1_spoilt 13 = .ok (.invokevirtual 97, 3) := dk_182 0 97 (dk_at dksX1_spoilt_0 13 rfl rfl)
theorem dX1_spoilt_16 : decode cX1_spoilt 16 = .ok (.ireturn, 1) := dk_172 (dk_at dksX1_spoilt_0 16 rfl rfl)
theorem dX1_spoilt_17 : decode cX1_spoilt 17 = .ok (.iload_n 1, 1) := dk_27 (dk_at dksX1_spoilt_0 17 rfl rfl)
theorem dX1_spoilt_18 : decode cX1_spoilt 18 = .ok (.iconst 0, 1) := dk_3 (dk_at dksX1_spoilt_0 18 rfl rfl)
theorem dX1_spoilt_19 : decode cX1_spoilt 19 = .ok (.ldc_w 401, 3) := dk_19 1 145 (dk_at dksX1_spoilt_0 19 rfl rfl)
theorem dX1_spoilt_22 : decode cX1_spoilt 22 = .ok (.invokestatic 93, 3) := dk_184 0 93 (dk_at dksX1_spoilt_1 0 rfl rfl)
theorem dX1_spoilt_25 : decode cX1_spoilt 25 = .ok (.ifCond .eq 14, 3) := dk_153 0 14 (dk_at dksX1_spoilt_1 3 rfl rfl)
theorem dX1_spoilt_28 : decode cX1_spoilt 28 = .ok (.iload_n 2, 1) := dk_28 (dk_at dksX1_spoilt_1 6 rfl rfl)
theorem dX1_spoilt_29 : decode cX1_spoilt 29 = .ok (.iconst 0, 1) := dk_3 (dk_at dksX1_spoilt_1 7 rfl rfl)
theorem dX1_spoilt_30 : decode cX1_spoilt 30 = .ok (.sipush 200, 3) := dk_17 0 200 (dk_at dksX1_spoilt_1 8 rfl rfl)
theorem dX1_spoilt_33 : decode cX1_spoilt 33 = .ok (.invokestatic 93, 3) := dk_184 0 93 (dk_at dksX1_spoilt_1 11 rfl rfl)
theorem dX1_spoilt_36 : decode cX1_spoilt 36 = .ok (.ifCond .ne 9, 3) := dk_154 0 9 (dk_at dksX1_spoilt_1 14 rfl rfl)
theorem dX1_spoilt_39 : decode cX1_spoilt 39 = .ok (.aload_n 0, 1) := dk_42 (dk_at dksX1_spoilt_1 17 rfl rfl)
theorem dX1_spoilt_40 : decode cX1_spoilt 40 = .ok (.iconst 2, 1) := dk_5 (dk_at dksX1_spoilt_1 18 rfl rfl)
theorem dX1_spoilt_41 : decode cX1_spoilt 41 = .ok (.invokevirtual 97, 3) := dk_182 0 97 (dk_at dksX1_spoilt_1 19 rfl rfl)
theorem dX1_spoilt_44 : decode cX1_spoilt 44 = .ok (.ireturn, 1) := dk_172 (dk_at dksX1_spoilt_1 22 rfl rfl)
theorem dX1_spoilt_45 : decode cX1_spoilt 45 = .ok (.aload_n 0, 1) := dk_42 (dk_at dksX1_spoilt_1 23 rfl rfl)
theorem dX1_spoilt_46 : decode cX1_spoilt 46 = .ok (.iload_n 1, 1) := dk_27 (dk_at dksX1_spoilt_2 0 rfl rfl)
theorem dX1_spoilt_47 : decode cX1_spoilt 47 = .ok (.iload_n 2, 1) := dk_28 (dk_at dksX1_spoilt_2 1 rfl rfl)
theorem dX1_spoilt_48 : decode cX1_spoilt 48 = .ok (.invokevirtual 402, 3) := dk_182 1 146 (dk_at dksX1_spoilt_2 2 rfl rfl)
theorem dX1_spoilt_51 : decode cX1_spoilt 51 = .ok (.aload_n 0, 1) := dk_42 (dk_at dksX1_spoilt_2 5 rfl rfl)
theorem dX1_spoilt_52 : decode cX1_spoilt 52 = .ok (.getfield 77, 3) := dk_180 0 77 (dk_at dksX1_spoilt_2 6 rfl rfl)
theorem dX1_spoilt_55 : decode cX1_spoilt 55 = .ok (.iload_n 3, 1) := dk_29 (dk_at dksX1_spoilt_2 9 rfl rfl)
theorem dX1_spoilt_56 : decode cX1_spoilt 56 = .ok (.ifCond .eq 7, 3) := dk_153 0 7 (dk_at dksX1_spoilt_2 10 rfl rfl)
theorem dX1_spoilt_59 : decode cX1_spoilt 59 = .ok (.iconst 3, 1) := dk_6 (dk_at dksX1_spoilt_2 13 rfl rfl)
theorem dX1_spoilt_60 : decode cX1_spoilt 60 = .ok (.goto 4, 3) := dk_167 0 4 (dk_at dksX1_spoilt_2 14 rfl rfl)
theorem dX1_spoilt_63 : decode cX1_spoilt 63 = .ok (.iconst 2, 1) := dk_5 (dk_at dksX1_spoilt_2 17 rfl rfl)
theorem dX1_spoilt_64 : decode cX1_spoilt 64 = .ok (.iaload, 1) := dk_46 (dk_at dksX1_spoilt_2 18 rfl rfl)
theorem dX1_spoilt_65 : decode cX1_spoilt 65 = .ok (.ireturn, 1) := dk_172 (dk_at dksX1_spoilt_2 19 rfl rfl)
abbrev cX1_dry : ByteArray := prog_1_method_67_code
def yX1_dry : MethodName := ⟨RX1, "dry", "(I)Z"⟩
def dkwX1_dry_4 : List UInt8 := [167, 255, 203, 42, 182, 1, 158, 172]
abbrev dktX1_dry_4 : List UInt8 := dkwX1_dry_4 ++ []
def dkwX1_dry_3 : List UInt8 := [180, 0, 163, 28, 16, 24, 42, 180, 0, 33, 180, 0, 163, 28, 46, 27, 96, 184, 1, 95, 79, 132, 2, 1]
abbrev dktX1_dry_3 : List UInt8 := dkwX1_dry_3 ++ dktX1_dry_4
def dkwX1_dry_2 : List UInt8 := [180, 0, 128, 162, 0, 48, 42, 180, 0, 33, 180, 0, 166, 28, 184, 0, 155, 154, 0, 28, 42, 180, 0, 33]
abbrev dktX1_dry_2 : List UInt8 := dkwX1_dry_2 ++ dktX1_dry_3
def dkwX1_dry_1 : List UInt8 := [167, 0, 4, 5, 182, 1, 152, 154, 0, 5, 3, 172, 42, 182, 1, 155, 3, 61, 28, 42, 180, 0, 108]
abbrev dktX1_dry_1 : List UInt8 := dkwX1_dry_1 ++ dktX1_dry_2
def dkwX1_dry_0 : List UInt8 := [42, 42, 180, 0, 108, 199, 0, 7, 4, 167, 0, 18, 27, 4, 16, 24, 184, 0, 93, 153, 0, 7, 3]
abbrev dktX1_dry_0 : List UInt8 := dkwX1_dry_0 ++ dktX1_dry_1
theorem dksX1_dry_0 : cX1_dry.data.toList.drop 0 = dktX1_dry_0 := by decide +kernel
theorem dksX1_dry_1 : cX1_dry.data.toList.drop 23 = dktX1_dry_1 := dk_seg dksX1_dry_0 23 rfl rfl
theorem dksX1_dry_2 : cX1_dry.data.toList.drop 46 = dktX1_dry_2 := dk_seg dksX1_dry_1 23 rfl rfl
theorem dksX1_dry_3 : cX1_dry.data.toList.drop 70 = dktX1_dry_3 := dk_seg dksX1_dry_2 24 rfl rfl
theorem dksX1_dry_4 : cX1_dry.data.toList.drop 94 = dktX1_dry_4 := dk_seg dksX1_dry_3 24 rfl rfl
theorem dX1_dry_0 : decode cX1_dry 0 = .ok (.aload_n 0, 1) := dk_42 (dk_at dksX1_dry_0 0 rfl rfl)
theorem dX1_dry_1 : decode cX1_dry 1 = .ok (.aload_n 0, 1) := dk_42 (dk_at dksX1_dry_0 1 rfl rfl)
theorem dX1_dry_2 : decode cX1_dry 2 = .ok (.getfield 108, 3) := dk_180 0 108 (dk_at dksX1_dry_0 2 rfl rfl)
theorem dX1_dry_5 : decode cX1_dry 5 = .ok (.ifnonnull 7, 3) := dk_199 0 7 (dk_at dksX1_dry_0 5 rfl rfl)
theorem dX1_dry_8 : decode cX1_dry 8 = .ok (.iconst 1, 1) := dk_4 (dk_at dksX1_dry_0 8 rfl rfl)
theorem dX1_dry_9 : decode cX1_dry 9 = .ok (.goto 18, 3) := dk_167 0 18 (dk_at dksX1_dry_0 9 rfl rfl)
theorem dX1_dry_12 : decode cX1_dry 12 = .ok (.iload_n 1, 1) := dk_27 (dk_at dksX1_dry_0 12 rfl rfl)
theorem dX1_dry_13 : decode cX1_dry 13 = .ok (.iconst 1, 1) := dk_4 (dk_at dksX1_dry_0 13 rfl rfl)
theorem dX1_dry_14 : decode cX1_dry 14 = .ok (.bipush 24, 2) := dk_16 24 (dk_at dksX1_dry_0 14 rfl rfl)
theorem dX1_dry_16 : decode cX1_dry 16 = .ok (.invokestatic 93, 3) := dk_184 0 93 (dk_at dksX1_dry_0 16 rfl rfl)
theorem dX1_dry_19 : decode cX1_dry 19 = .ok (.ifCond .eq 7, 3) := dk_153 0 7 (dk_at dksX1_dry_0 19 rfl rfl)
theorem dX1_dry_22 : decode cX1_dry 22 = .ok (.iconst 0, 1) := dk_3 (dk_at dksX1_dry_0 22 rfl rfl)
theorem dX1_dry_23 : decode cX1_dry 23 = .ok (.goto 4, 3) := dk_167 0 4 (dk_at dksX1_dry_1 0 rfl rfl)
theorem dX1_dry_26 : decode cX1_dry 26 = .ok (.iconst 2, 1) := dk_5 (dk_at dksX1_dry_1 3 rfl rfl)
theorem dX1_dry_27 : decode cX1_dry 27 = .ok (.invokevirtual 408, 3) := dk_182 1 152 (dk_at dksX1_dry_1 4 rfl rfl)
theorem dX1_dry_30 : decode cX1_dry 30 = .ok (.ifCond .ne 5, 3) := dk_154 0 5 (dk_at dksX1_dry_1 7 rfl rfl)
theorem dX1_dry_33 : decode cX1_dry 33 = .ok (.iconst 0, 1) := dk_3 (dk_at dksX1_dry_1 10 rfl rfl)
theorem dX1_dry_34 : decode cX1_dry 34 = .ok (.ireturn, 1) := dk_172 (dk_at dksX1_dry_1 11 rfl rfl)
theorem dX1_dry_35 : decode cX1_dry 35 = .ok (.aload_n 0, 1) := dk_42 (dk_at dksX1_dry_1 12 rfl rfl)
theorem dX1_dry_36 : decode cX1_dry 36 = .ok (.invokevirtual 411, 3) := dk_182 1 155 (dk_at dksX1_dry_1 13 rfl rfl)
theorem dX1_dry_39 : decode cX1_dry 39 = .ok (.iconst 0, 1) := dk_3 (dk_at dksX1_dry_1 16 rfl rfl)
theorem dX1_dry_40 : decode cX1_dry 40 = .ok (.istore_n 2, 1) := dk_61 (dk_at dksX1_dry_1 17 rfl rfl)
theorem dX1_dry_41 : decode cX1_dry 41 = .ok (.iload_n 2, 1) := dk_28 (dk_at dksX1_dry_1 18 rfl rfl)
theorem dX1_dry_42 : decode cX1_dry 42 = .ok (.aload_n 0, 1) := dk_42 (dk_at dksX1_dry_1 19 rfl rfl)
theorem dX1_dry_43 : decode cX1_dry 43 = .ok (.getfield 108, 3) := dk_180 0 108 (dk_at dksX1_dry_1 20 rfl rfl)
theorem dX1_dry_46 : decode cX1_dry 46 = .ok (.getfield 128, 3) := dk_180 0 128 (dk_at dksX1_dry_2 0 rfl rfl)
theorem dX1_dry_49 : decode cX1_dry 49 = .ok (.if_icmp .ge 48, 3) := dk_162 0 48 (dk_at dksX1_dry_2 3 rfl rfl)
theorem dX1_dry_52 : decode cX1_dry 52 = .ok (.aload_n 0, 1) := dk_42 (dk_at dksX1_dry_2 6 rfl rfl)
theorem dX1_dry_53 : decode cX1_dry 53 = .ok (.getfield 33, 3) := dk_180 0 33 (dk_at dksX1_dry_2 7 rfl rfl)
theorem dX1_dry_56 : decode cX1_dry 56 = .ok (.getfield 166, 3) := dk_180 0 166 (dk_at dksX1_dry_2 10 rfl rfl)
theorem dX1_dry_59 : decode cX1_dry 59 = .ok (.iload_n 2, 1) := dk_28 (dk_at dksX1_dry_2 13 rfl rfl)
theorem dX1_dry_60 : decode cX1_dry 60 = .ok (.invokestatic 155, 3) := dk_184 0 155 (dk_at dksX1_dry_2 14 rfl rfl)
theorem dX1_dry_63 : decode cX1_dry 63 = .ok (.ifCond .ne 28, 3) := dk_154 0 28 (dk_at dksX1_dry_2 17 rfl rfl)
theorem dX1_dry_66 : decode cX1_dry 66 = .ok (.aload_n 0, 1) := dk_42 (dk_at dksX1_dry_2 20 rfl rfl)
theorem dX1_dry_67 : decode cX1_dry 67 = .ok (.getfield 33, 3) := dk_180 0 33 (dk_at dksX1_dry_2 21 rfl rfl)
theorem dX1_dry_70 : decode cX1_dry 70 = .ok (.getfield 163, 3) := dk_180 0 163 (dk_at dksX1_dry_3 0 rfl rfl)
theorem dX1_dry_73 : decode cX1_dry 73 = .ok (.iload_n 2, 1) := dk_28 (dk_at dksX1_dry_3 3 rfl rfl)
theorem dX1_dry_74 : decode cX1_dry 74 = .ok (.bipush 24, 2) := dk_16 24 (dk_at dksX1_dry_3 4 rfl rfl)
theorem dX1_dry_76 : decode cX1_dry 76 = .ok (.aload_n 0, 1) := dk_42 (dk_at dksX1_dry_3 6 rfl rfl)
theorem dX1_dry_77 : decode cX1_dry 77 = .ok (.getfield 33, 3) := dk_180 0 33 (dk_at dksX1_dry_3 7 rfl rfl)
theorem dX1_dry_80 : decode cX1_dry 80 = .ok (.getfield 163, 3) := dk_180 0 163 (dk_at dksX1_dry_3 10 rfl rfl)
theorem dX1_dry_83 : decode cX1_dry 83 = .ok (.iload_n 2, 1) := dk_28 (dk_at dksX1_dry_3 13 rfl rfl)
theorem dX1_dry_84 : decode cX1_dry 84 = .ok (.iaload, 1) := dk_46 (dk_at dksX1_dry_3 14 rfl rfl)
theorem dX1_dry_85 : decode cX1_dry 85 = .ok (.iload_n 1, 1) := dk_27 (dk_at dksX1_dry_3 15 rfl rfl)
theorem dX1_dry_86 : decode cX1_dry 86 = .ok (.iadd, 1) := dk_96 (dk_at dksX1_dry_3 16 rfl rfl)
theorem dX1_dry_87 : decode cX1_dry 87 = .ok (.invokestatic 351, 3) := dk_184 1 95 (dk_at dksX1_dry_3 17 rfl rfl)
theorem dX1_dry_90 : decode cX1_dry 90 = .ok (.iastore, 1) := dk_79 (dk_at dksX1_dry_3 20 rfl rfl)
theorem dX1_dry_91 : decode cX1_dry 91 = .ok (.iinc 2 1, 3) := dk_132 2 1 (dk_at dksX1_dry_3 21 rfl rfl)
theorem dX1_dry_94 : decode cX1_dry 94 = .ok (.goto (-53), 3) := dk_167 255 203 (dk_at dksX1_dry_4 0 rfl rfl)
theorem dX1_dry_97 : decode cX1_dry 97 = .ok (.aload_n 0, 1) := dk_42 (dk_at dksX1_dry_4 3 rfl rfl)
theorem dX1_dry_98 : decode cX1_dry 98 = .ok (.invokevirtual 414, 3) := dk_182 1 158 (dk_at dksX1_dry_4 4 rfl rfl)
theorem dX1_dry_101 : decode cX1_dry 101 = .ok (.ireturn, 1) := dk_172 (dk_at dksX1_dry_4 7 rfl rfl)
abbrev cX1_yes : ByteArray := prog_1_method_8_code
def yX1_yes : MethodName := ⟨RX1, "yes", "(I)Z"⟩
def dkwX1_yes_0 : List UInt8 := [42, 182, 0, 83, 42, 27, 181, 0, 80, 27, 154, 0, 7, 4, 167, 0, 4, 3, 172]
abbrev dktX1_yes_0 : List UInt8 := dkwX1_yes_0 ++ []
theorem dksX1_yes_0 : cX1_yes.data.toList.drop 0 = dktX1_yes_0 := by decide +kernel
theorem dX1_yes_0 : decode cX1_yes 0 = .ok (.aload_n 0, 1) := dk_42 (dk_at dksX1_yes_0 0 rfl rfl)
theorem dX1_yes_1 : decode cX1_yes 1 = .ok (.invokevirtual 83, 3) := dk_182 0 83 (dk_at dksX1_yes_0 1 rfl rfl)
theorem dX1_yes_4 : decode cX1_yes 4 = .ok (.aload_n 0, 1) := dk_42 (dk_at dksX1_yes_0 4 rfl rfl)
theorem dX1_yes_5 : decode cX1_yes 5 = .ok (.iload_n 1, 1) := dk_27 (dk_at dksX1_yes_0 5 rfl rfl)
theorem dX1_yes_6 : decode cX1_yes 6 = .ok (.putfield 80, 3) := dk_181 0 80 (dk_at dksX1_yes_0 6 rfl rfl)
theorem dX1_yes_9 : decode cX1_yes 9 = .ok (.iload_n 1, 1) := dk_27 (dk_at dksX1_yes_0 9 rfl rfl)
theorem dX1_yes_10 : decode cX1_yes 10 = .ok (.ifCond .ne 7, 3) := dk_154 0 7 (dk_at dksX1_yes_0 10 rfl rfl)
theorem dX1_yes_13 : decode cX1_yes 13 = .ok (.iconst 1, 1) := dk_4 (dk_at dksX1_yes_0 13 rfl rfl)
theorem dX1_yes_14 : decode cX1_yes 14 = .ok (.goto 4, 3) := dk_167 0 4 (dk_at dksX1_yes_0 14 rfl rfl)
theorem dX1_yes_17 : decode cX1_yes 17 = .ok (.iconst 0, 1) := dk_3 (dk_at dksX1_yes_0 17 rfl rfl)
theorem dX1_yes_18 : decode cX1_yes 18 = .ok (.ireturn, 1) := dk_172 (dk_at dksX1_yes_0 18 rfl rfl)
abbrev cX1_note : ByteArray := prog_1_method_65_code
def yX1_note : MethodName := ⟨RX1, "note", "()V"⟩
def dkwX1_note_0 : List UInt8 := [42, 180, 0, 37, 42, 180, 0, 33, 182, 1, 149, 177]
abbrev dktX1_note_0 : List UInt8 := dkwX1_note_0 ++ []
theorem dksX1_note_0 : cX1_note.data.toList.drop 0 = dktX1_note_0 := by decide +kernel
theorem dX1_note_0 : decode cX1_note 0 = .ok (.aload_n 0, 1) := dk_42 (dk_at dksX1_note_0 0 rfl rfl)
theorem dX1_note_1 : decode cX1_note 1 = .ok (.getfield 37, 3) := dk_180 0 37 (dk_at dksX1_note_0 1 rfl rfl)
theorem dX1_note_4 : decode cX1_note 4 = .ok (.aload_n 0, 1) := dk_42 (dk_at dksX1_note_0 4 rfl rfl)
theorem dX1_note_5 : decode cX1_note 5 = .ok (.getfield 33, 3) := dk_180 0 33 (dk_at dksX1_note_0 5 rfl rfl)
theorem dX1_note_8 : decode cX1_note 8 = .ok (.invokevirtual 405, 3) := dk_182 1 149 (dk_at dksX1_note_0 8 rfl rfl)
theorem dX1_note_11 : decode cX1_note 11 = .ok (.return_, 1) := dk_177 (dk_at dksX1_note_0 11 rfl rfl)
abbrev cX1_done : ByteArray := prog_1_method_66_code
def yX1_done : MethodName := ⟨RX1, "done", "()Z"⟩
def dkwX1_done_3 : List UInt8 := [180, 0, 37, 182, 1, 149, 42, 89, 180, 0, 122, 4, 96, 181, 0, 122, 4, 172]
abbrev dktX1_done_3 : List UInt8 := dkwX1_done_3 ++ []
def dkwX1_done_2 : List UInt8 := [16, 15, 43, 83, 42, 89, 180, 0, 122, 4, 100, 181, 0, 122, 42, 180, 0, 66, 42, 180, 0, 122, 50, 42]
abbrev dktX1_done_2 : List UInt8 := dkwX1_done_2 ++ dktX1_done_3
def dkwX1_done_1 : List UInt8 := [42, 180, 0, 66, 28, 4, 100, 42, 180, 0, 66, 28, 50, 83, 132, 2, 1, 167, 255, 233, 42, 180, 0, 66]
abbrev dktX1_done_1 : List UInt8 := dkwX1_done_1 ++ dktX1_done_2
def dkwX1_done_0 : List UInt8 := [42, 180, 0, 122, 16, 16, 160, 0, 56, 42, 180, 0, 66, 3, 50, 76, 4, 61, 28, 16, 16, 162, 0, 23]
abbrev dktX1_done_0 : List UInt8 := dkwX1_done_0 ++ dktX1_done_1
theorem dksX1_done_0 : cX1_done.data.toList.drop 0 = dktX1_done_0 := by decide +kernel
theorem dksX1_done_1 : cX1_done.data.toList.drop 24 = dktX1_done_1 := dk_seg dksX1_done_0 24 rfl rfl
theorem dksX1_done_2 : cX1_done.data.toList.drop 48 = dktX1_done_2 := dk_seg dksX1_done_1 24 rfl rfl
theorem dksX1_done_3 : cX1_done.data.toList.drop 72 = dktX1_done_3 := dk_seg dksX1_done_2 24 rfl rfl
theorem dX1_done_0 : decode cX1_done 0 = .ok (.aload_n 0, 1) := dk_42 (dk_at dksX1_done_0 0 rfl rfl)
theorem dX1_done_1 : decode cX1_done 1 = .ok (.getfield 122, 3) := dk_180 0 122 (dk_at dksX1_done_0 1 rfl rfl)
theorem dX1_done_4 : decode cX1_done 4 = .ok (.bipush 16, 2) := dk_16 16 (dk_at dksX1_done_0 4 rfl rfl)
theorem dX1_done_6 : decode cX1_done 6 = .ok (.if_icmp .ne 56, 3) := dk_160 0 56 (dk_at dksX1_done_0 6 rfl rfl)
theorem dX1_done_9 : decode cX1_done 9 = .ok (.aload_n 0, 1) := dk_42 (dk_at dksX1_done_0 9 rfl rfl)
theorem dX1_done_10 : decode cX1_done 10 = .ok (.getfield 66, 3) := dk_180 0 66 (dk_at dksX1_done_0 10 rfl rfl)
theorem dX1_done_13 : decode cX1_done 13 = .ok (.iconst 0, 1) := dk_3 (dk_at dksX1_done_0 13 rfl rfl)
theorem dX1_done_14 : decode cX1_done 14 = .ok (.aaload, 1) := dk_50 (dk_at dksX1_done_0 14 rfl rfl)
theorem dX1_done_15 : decode cX1_done 15 = .ok (.astore_n 1, 1) := dk_76 (dk_at dksX1_done_0 15 rfl rfl)
theorem dX1_done_16 : decode cX1_done 16 = .ok (.iconst 1, 1) := dk_4 (dk_at dksX1_done_0 16 rfl rfl)
theorem dX1_done_17 : decode cX1_done 17 = .ok (.istore_n 2, 1) := dk_61 (dk_at dksX1_done_0 17 rfl rfl)
theorem dX1_done_18 : decode cX1_done 18 = .ok (.iload_n 2, 1) := dk_28 (dk_at dksX1_done_0 18 rfl rfl)
theorem dX1_done_19 : decode cX1_done 19 = .ok (.bipush 16, 2) := dk_16 16 (dk_at dksX1_done_0 19 rfl rfl)
theorem dX1_done_21 : decode cX1_done 21 = .ok (.if_icmp .ge 23, 3) := dk_162 0 23 (dk_at dksX1_done_0 21 rfl rfl)
theorem dX1_done_24 : decode cX1_done 24 = .ok (.aload_n 0, 1) := dk_42 (dk_at dksX1_done_1 0 rfl rfl)
theorem dX1_done_25 : decode cX1_done 25 = .ok (.getfield 66, 3) := dk_180 0 66 (dk_at dksX1_done_1 1 rfl rfl)
theorem dX1_done_28 : decode cX1_done 28 = .ok (.iload_n 2, 1) := dk_28 (dk_at dksX1_done_1 4 rfl rfl)
theorem dX1_done_29 : decode cX1_done 29 = .ok (.iconst 1, 1) := dk_4 (dk_at dksX1_done_1 5 rfl rfl)
theorem dX1_done_30 : decode cX1_done 30 = .ok (.isub, 1) := dk_100 (dk_at dksX1_done_1 6 rfl rfl)
theorem dX1_done_31 : decode cX1_done 31 = .ok (.aload_n 0, 1) := dk_42 (dk_at dksX1_done_1 7 rfl rfl)
theorem dX1_done_32 : decode cX1_done 32 = .ok (.getfield 66, 3) := dk_180 0 66 (dk_at dksX1_done_1 8 rfl rfl)
theorem dX1_done_35 : decode cX1_done 35 = .ok (.iload_n 2, 1) := dk_28 (dk_at dksX1_done_1 11 rfl rfl)
theorem dX1_done_36 : decode cX1_done 36 = .ok (.aaload, 1) := dk_50 (dk_at dksX1_done_1 12 rfl rfl)
theorem dX1_done_37 : decode cX1_done 37 = .ok (.aastore, 1) := dk_83 (dk_at dksX1_done_1 13 rfl rfl)
theorem dX1_done_38 : decode cX1_done 38 = .ok (.iinc 2 1, 3) := dk_132 2 1 (dk_at dksX1_done_1 14 rfl rfl)
theorem dX1_done_41 : decode cX1_done 41 = .ok (.goto (-23), 3) := dk_167 255 233 (dk_at dksX1_done_1 17 rfl rfl)
theorem dX1_done_44 : decode cX1_done 44 = .ok (.aload_n 0, 1) := dk_42 (dk_at dksX1_done_1 20 rfl rfl)
theorem dX1_done_45 : decode cX1_done 45 = .ok (.getfield 66, 3) := dk_180 0 66 (dk_at dksX1_done_1 21 rfl rfl)
theorem dX1_done_48 : decode cX1_done 48 = .ok (.bipush 15, 2) := dk_16 15 (dk_at dksX1_done_2 0 rfl rfl)
theorem dX1_done_50 : decode cX1_done 50 = .ok (.aload_n 1, 1) := dk_43 (dk_at dksX1_done_2 2 rfl rfl)
theorem dX1_done_51 : decode cX1_done 51 = .ok (.aastore, 1) := dk_83 (dk_at dksX1_done_2 3 rfl rfl)
theorem dX1_done_52 : decode cX1_done 52 = .ok (.aload_n 0, 1) := dk_42 (dk_at dksX1_done_2 4 rfl rfl)
theorem dX1_done_53 : decode cX1_done 53 = .ok (.dup, 1) := dk_89 (dk_at dksX1_done_2 5 rfl rfl)
theorem dX1_done_54 : decode cX1_done 54 = .ok (.getfield 122, 3) := dk_180 0 122 (dk_at dksX1_done_2 6 rfl rfl)
theorem dX1_done_57 : decode cX1_done 57 = .ok (.iconst 1, 1) := dk_4 (dk_at dksX1_done_2 9 rfl rfl)
theorem dX1_done_58 : decode cX1_done 58 = .ok (.isub, 1) := dk_100 (dk_at dksX1_done_2 10 rfl rfl)
theorem dX1_done_59 : decode cX1_done 59 = .ok (.putfield 122, 3) := dk_181 0 122 (dk_at dksX1_done_2 11 rfl rfl)
theorem dX1_done_62 : decode cX1_done 62 = .ok (.aload_n 0, 1) := dk_42 (dk_at dksX1_done_2 14 rfl rfl)
theorem dX1_done_63 : decode cX1_done 63 = .ok (.getfield 66, 3) := dk_180 0 66 (dk_at dksX1_done_2 15 rfl rfl)
theorem dX1_done_66 : decode cX1_done 66 = .ok (.aload_n 0, 1) := dk_42 (dk_at dksX1_done_2 18 rfl rfl)
theorem dX1_done_67 : decode cX1_done 67 = .ok (.getfield 122, 3) := dk_180 0 122 (dk_at dksX1_done_2 19 rfl rfl)
theorem dX1_done_70 : decode cX1_done 70 = .ok (.aaload, 1) := dk_50 (dk_at dksX1_done_2 22 rfl rfl)
theorem dX1_done_71 : decode cX1_done 71 = .ok (.aload_n 0, 1) := dk_42 (dk_at dksX1_done_2 23 rfl rfl)
theorem dX1_done_72 : decode cX1_done 72 = .ok (.getfield 37, 3) := dk_180 0 37 (dk_at dksX1_done_3 0 rfl rfl)
theorem dX1_done_75 : decode cX1_done 75 = .ok (.invokevirtual 405, 3) := dk_182 1 149 (dk_at dksX1_done_3 3 rfl rfl)
theorem dX1_done_78 : decode cX1_done 78 = .ok (.aload_n 0, 1) := dk_42 (dk_at dksX1_done_3 6 rfl rfl)
theorem dX1_done_79 : decode cX1_done 79 = .ok (.dup, 1) := dk_89 (dk_at dksX1_done_3 7 rfl rfl)
theorem dX1_done_80 : decode cX1_done 80 = .ok (.getfield 122, 3) := dk_180 0 122 (dk_at dksX1_done_3 8 rfl rfl)
theorem dX1_done_83 : decode cX1_done 83 = .ok (.iconst 1, 1) := dk_4 (dk_at dksX1_done_3 11 rfl rfl)
theorem dX1_done_84 : decode cX1_done 84 = .ok (.iadd, 1) := dk_96 (dk_at dksX1_done_3 12 rfl rfl)
theorem dX1_done_85 : decode cX1_done 85 = .ok (.putfield 122, 3) := dk_181 0 122 (dk_at dksX1_done_3 13 rfl rfl)
theorem dX1_done_88 : decode cX1_done 88 = .ok (.iconst 1, 1) := dk_4 (dk_at dksX1_done_3 16 rfl rfl)
theorem dX1_done_89 : decode cX1_done 89 = .ok (.ireturn, 1) := dk_172 (dk_at dksX1_done_3 17 rfl rfl)
abbrev cX1_boil : ByteArray := prog_1_method_68_code
def yX1_boil : MethodName := ⟨RX1, "boil", "(I)Z"⟩
def dkwX1_boil_2 : List UInt8 := [42, 182, 1, 155, 42, 180, 0, 33, 89, 180, 0, 152, 4, 27, 120, 128, 181, 0, 152, 42, 182, 1, 158, 172]
abbrev dktX1_boil_2 : List UInt8 := dkwX1_boil_2 ++ []
def dkwX1_boil_1 : List UInt8 := [180, 0, 152, 128, 27, 184, 0, 155, 153, 0, 7, 8, 167, 0, 4, 3, 182, 1, 152, 154, 0, 5, 3, 172]
abbrev dktX1_boil_1 : List UInt8 := dkwX1_boil_1 ++ dktX1_boil_2
def dkwX1_boil_0 : List UInt8 := [42, 42, 27, 182, 0, 140, 154, 0, 7, 4, 167, 0, 30, 42, 180, 0, 33, 180, 0, 166, 42, 180, 0, 33]
abbrev dktX1_boil_0 : List UInt8 := dkwX1_boil_0 ++ dktX1_boil_1
theorem dksX1_boil_0 : cX1_boil.data.toList.drop 0 = dktX1_boil_0 := by decide +kernel
theorem dksX1_boil_1 : cX1_boil.data.toList.drop 24 = dktX1_boil_1 := dk_seg dksX1_boil_0 24 rfl rfl
theorem dksX1_boil_2 : cX1_boil.data.toList.drop 48 = dktX1_boil_2 := dk_seg dksX1_boil_1 24 rfl rfl
theorem dX1_boil_0 : decode cX1_boil 0 = .ok (.aload_n 0, 1) := dk_42 (dk_at dksX1_boil_0 0 rfl rfl)
theorem dX1_boil_1 : decode cX1_boil 1 = .ok (.aload_n 0, 1) := dk_42 (dk_at dksX1_boil_0 1 rfl rfl)
theorem dX1_boil_2 : decode cX1_boil 2 = .ok (.iload_n 1, 1) := dk_27 (dk_at dksX1_boil_0 2 rfl rfl)
theorem dX1_boil_3 : decode cX1_boil 3 = .ok (.invokevirtual 140, 3) := dk_182 0 140 (dk_at dksX1_boil_0 3 rfl rfl)
theorem dX1_boil_6 : decode cX1_boil 6 = .ok (.ifCond .ne 7, 3) := dk_154 0 7 (dk_at dksX1_boil_0 6 rfl rfl)
theorem dX1_boil_9 : decode cX1_boil 9 = .ok (.iconst 1, 1) := dk_4 (dk_at dksX1_boil_0 9 rfl rfl)
theorem dX1_boil_10 : decode cX1_boil 10 = .ok (.goto 30, 3) := dk_167 0 30 (dk_at dksX1_boil_0 10 rfl rfl)
theorem dX1_boil_13 : decode cX1_boil 13 = .ok (.aload_n 0, 1) := dk_42 (dk_at dksX1_boil_0 13 rfl rfl)
theorem dX1_boil_14 : decode cX1_boil 14 = .ok (.getfield 33, 3) := dk_180 0 33 (dk_at dksX1_boil_0 14 rfl rfl)
theorem dX1_boil_17 : decode cX1_boil 17 = .ok (.getfield 166, 3) := dk_180 0 166 (dk_at dksX1_boil_0 17 rfl rfl)
theorem dX1_boil_20 : decode cX1_boil 20 = .ok (.aload_n 0, 1) := dk_42 (dk_at dksX1_boil_0 20 rfl rfl)
theorem dX1_boil_21 : decode cX1_boil 21 = .ok (.getfield 33, 3) := dk_180 0 33 (dk_at dksX1_boil_0 21 rfl rfl)
theorem dX1_boil_24 : decode cX1_boil 24 = .ok (.getfield 152, 3) := dk_180 0 152 (dk_at dksX1_boil_1 0 rfl rfl)
theorem dX1_boil_27 : decode cX1_boil 27 = .ok (.ior, 1) := dk_128 (dk_at dksX1_boil_1 3 rfl rfl)
theorem dX1_boil_28 : decode cX1_boil 28 = .ok (.iload_n 1, 1) := dk_27 (dk_at dksX1_boil_1 4 rfl rfl)
theorem dX1_boil_29 : decode cX1_boil 29 = .ok (.invokestatic 155, 3) := dk_184 0 155 (dk_at dksX1_boil_1 5 rfl rfl)
theorem dX1_boil_32 : decode cX1_boil 32 = .ok (.ifCond .eq 7, 3) := dk_153 0 7 (dk_at dksX1_boil_1 8 rfl rfl)
theorem dX1_boil_35 : decode cX1_boil 35 = .ok (.iconst 5, 1) := dk_8 (dk_at dksX1_boil_1 11 rfl rfl)
theorem dX1_boil_36 : decode cX1_boil 36 = .ok (.goto 4, 3) := dk_167 0 4 (dk_at dksX1_boil_1 12 rfl rfl)
theorem dX1_boil_39 : decode cX1_boil 39 = .ok (.iconst 0, 1) := dk_3 (dk_at dksX1_boil_1 15 rfl rfl)
theorem dX1_boil_40 : decode cX1_boil 40 = .ok (.invokevirtual 408, 3) := dk_182 1 152 (dk_at dksX1_boil_1 16 rfl rfl)
theorem dX1_boil_43 : decode cX1_boil 43 = .ok (.ifCond .ne 5, 3) := dk_154 0 5 (dk_at dksX1_boil_1 19 rfl rfl)
theorem dX1_boil_46 : decode cX1_boil 46 = .ok (.iconst 0, 1) := dk_3 (dk_at dksX1_boil_1 22 rfl rfl)
theorem dX1_boil_47 : decode cX1_boil 47 = .ok (.ireturn, 1) := dk_172 (dk_at dksX1_boil_1 23 rfl rfl)
theorem dX1_boil_48 : decode cX1_boil 48 = .ok (.aload_n 0, 1) := dk_42 (dk_at dksX1_boil_2 0 rfl rfl)
theorem dX1_boil_49 : decode cX1_boil 49 = .ok (.invokevirtual 411, 3) := dk_182 1 155 (dk_at dksX1_boil_2 1 rfl rfl)
theorem dX1_boil_52 : decode cX1_boil 52 = .ok (.aload_n 0, 1) := dk_42 (dk_at dksX1_boil_2 4 rfl rfl)
theorem dX1_boil_53 : decode cX1_boil 53 = .ok (.getfield 33, 3) := dk_180 0 33 (dk_at dksX1_boil_2 5 rfl rfl)
theorem dX1_boil_56 : decode cX1_boil 56 = .ok (.dup, 1) := dk_89 (dk_at dksX1_boil_2 8 rfl rfl)
theorem dX1_boil_57 : decode cX1_boil 57 = .ok (.getfield 152, 3) := dk_180 0 152 (dk_at dksX1_boil_2 9 rfl rfl)
theorem dX1_boil_60 : decode cX1_boil 60 = .ok (.iconst 1, 1) := dk_4 (dk_at dksX1_boil_2 12 rfl rfl)
theorem dX1_boil_61 : decode cX1_boil 61 = .ok (.iload_n 1, 1) := dk_27 (dk_at dksX1_boil_2 13 rfl rfl)
theorem dX1_boil_62 : decode cX1_boil 62 = .ok (.ishl, 1) := dk_120 (dk_at dksX1_boil_2 14 rfl rfl)
theorem dX1_boil_63 : decode cX1_boil 63 = .ok (.ior, 1) := dk_128 (dk_at dksX1_boil_2 15 rfl rfl)
theorem dX1_boil_64 : decode cX1_boil 64 = .ok (.putfield 152, 3) := dk_181 0 152 (dk_at dksX1_boil_2 16 rfl rfl)
theorem dX1_boil_67 : decode cX1_boil 67 = .ok (.aload_n 0, 1) := dk_42 (dk_at dksX1_boil_2 19 rfl rfl)
theorem dX1_boil_68 : decode cX1_boil 68 = .ok (.invokevirtual 414, 3) := dk_182 1 158 (dk_at dksX1_boil_2 20 rfl rfl)
theorem dX1_boil_71 : decode cX1_boil 71 = .ok (.ireturn, 1) := dk_172 (dk_at dksX1_boil_2 23 rfl rfl)
abbrev cX1_pull : ByteArray := prog_1_method_69_code
def yX1_pull : MethodName := ⟨RX1, "pull", "(IIIIII)I"⟩
def dkwX1_pull_6 : List UInt8 := [167, 0, 5, 21, 4, 92, 46, 4, 96, 79, 42, 182, 1, 158, 87, 21, 8, 172]
abbrev dktX1_pull_6 : List UInt8 := dkwX1_pull_6 ++ []
def dkwX1_pull_5 : List UInt8 := [120, 128, 181, 0, 166, 21, 8, 5, 162, 0, 26, 42, 180, 0, 33, 180, 0, 198, 21, 8, 154, 0, 7, 28]
abbrev dktX1_pull_5 : List UInt8 := dkwX1_pull_5 ++ dktX1_pull_6
def dkwX1_pull_4 : List UInt8 := [180, 0, 46, 182, 0, 237, 54, 8, 21, 8, 6, 159, 0, 18, 42, 180, 0, 33, 89, 180, 0, 166, 4, 27]
abbrev dktX1_pull_4 : List UInt8 := dkwX1_pull_4 ++ dktX1_pull_5
def dkwX1_pull_3 : List UInt8 := [27, 28, 29, 21, 4, 21, 5, 21, 6, 182, 0, 230, 87, 42, 42, 180, 0, 33, 182, 1, 141, 42]
abbrev dktX1_pull_3 : List UInt8 := dkwX1_pull_3 ++ dktX1_pull_4
def dkwX1_pull_2 : List UInt8 := [180, 0, 33, 180, 0, 166, 27, 184, 0, 155, 153, 0, 9, 42, 8, 182, 0, 97, 172, 42, 182, 1, 155, 42]
abbrev dktX1_pull_2 : List UInt8 := dkwX1_pull_2 ++ dktX1_pull_3
def dkwX1_pull_1 : List UInt8 := [42, 21, 7, 182, 0, 97, 172, 42, 180, 0, 108, 180, 0, 143, 27, 50, 182, 1, 162, 153, 0, 17, 42]
abbrev dktX1_pull_1 : List UInt8 := dkwX1_pull_1 ++ dktX1_pull_2
def dkwX1_pull_0 : List UInt8 := [42, 182, 0, 83, 42, 27, 28, 29, 21, 4, 21, 5, 21, 6, 182, 0, 226, 54, 7, 21, 7, 153, 0, 10]
abbrev dktX1_pull_0 : List UInt8 := dkwX1_pull_0 ++ dktX1_pull_1
theorem dksX1_pull_0 : cX1_pull.data.toList.drop 0 = dktX1_pull_0 := by decide +kernel
theorem dksX1_pull_1 : cX1_pull.data.toList.drop 24 = dktX1_pull_1 := dk_seg dksX1_pull_0 24 rfl rfl
theorem dksX1_pull_2 : cX1_pull.data.toList.drop 47 = dktX1_pull_2 := dk_seg dksX1_pull_1 23 rfl rfl
theorem dksX1_pull_3 : cX1_pull.data.toList.drop 71 = dktX1_pull_3 := dk_seg dksX1_pull_2 24 rfl rfl
theorem dksX1_pull_4 : cX1_pull.data.toList.drop 93 = dktX1_pull_4 := dk_seg dksX1_pull_3 22 rfl rfl
theorem dksX1_pull_5 : cX1_pull.data.toList.drop 117 = dktX1_pull_5 := dk_seg dksX1_pull_4 24 rfl rfl
theorem dksX1_pull_6 : cX1_pull.data.toList.drop 141 = dktX1_pull_6 := dk_seg dksX1_pull_5 24 rfl rfl
theorem dX1_pull_0 : decode cX1_pull 0 = .ok (.aload_n 0, 1) := dk_42 (dk_at dksX1_pull_0 0 rfl rfl)
theorem dX1_pull_1 : decode cX1_pull 1 = .ok (.invokevirtual 83, 3) := dk_182 0 83 (dk_at dksX1_pull_0 1 rfl rfl)
theorem dX1_pull_4 : decode cX1_pull 4 = .ok (.aload_n 0, 1) := dk_42 (dk_at dksX1_pull_0 4 rfl rfl)
theorem dX1_pull_5 : decode cX1_pull 5 = .ok (.iload_n 1, 1) := dk_27 (dk_at dksX1_pull_0 5 rfl rfl)
theorem dX1_pull_6 : decode cX1_pull 6 = .ok (.iload_n 2, 1) := dk_28 (dk_at dksX1_pull_0 6 rfl rfl)
theorem dX1_pull_7 : decode cX1_pull 7 = .ok (.iload_n 3, 1) := dk_29 (dk_at dksX1_pull_0 7 rfl rfl)
theorem dX1_pull_8 : decode cX1_pull 8 = .ok (.iload 4, 2) := dk_21 4 (dk_at dksX1_pull_0 8 rfl rfl)
theorem dX1_pull_10 : decode cX1_pull 10 = .ok (.iload 5, 2) := dk_21 5 (dk_at dksX1_pull_0 10 rfl rfl)
theorem dX1_pull_12 : decode cX1_pull 12 = .ok (.iload 6, 2) := dk_21 6 (dk_at dksX1_pull_0 12 rfl rfl)
theorem dX1_pull_14 : decode cX1_pull 14 = .ok (.invokevirtual 226, 3) := dk_182 0 226 (dk_at dksX1_pull_0 14 rfl rfl)
theorem dX1_pull_17 : decode cX1_pull 17 = .ok (.istore 7, 2) := dk_54 7 (dk_at dksX1_pull_0 17 rfl rfl)
theorem dX1_pull_19 : decode cX1_pull 19 = .ok (.iload 7, 2) := dk_21 7 (dk_at dksX1_pull_0 19 rfl rfl)
theorem dX1_pull_21 : decode cX1_pull 21 = .ok (.ifCond .eq 10, 3) := dk_153 0 10 (dk_at dksX1_pull_0 21 rfl rfl)
theorem dX1_pull_24 : decode cX1_pull 24 = .ok (.aload_n 0, 1) := dk_42 (dk_at dksX1_pull_1 0 rfl rfl)
theorem dX1_pull_25 : decode cX1_pull 25 = .ok (.iload 7, 2) := dk_21 7 (dk_at dksX1_pull_1 1 rfl rfl)
theorem dX1_pull_27 : decode cX1_pull 27 = .ok (.invokevirtual 97, 3) := dk_182 0 97 (dk_at dksX1_pull_1 3 rfl rfl)
theorem dX1_pull_30 : decode cX1_pull 30 = .ok (.ireturn, 1) := dk_172 (dk_at dksX1_pull_1 6 rfl rfl)
theorem dX1_pull_31 : decode cX1_pull 31 = .ok (.aload_n 0, 1) := dk_42 (dk_at dksX1_pull_1 7 rfl rfl)
theorem dX1_pull_32 : decode cX1_pull 32 = .ok (.getfield 108, 3) := dk_180 0 108 (dk_at dksX1_pull_1 8 rfl rfl)
theorem dX1_pull_35 : decode cX1_pull 35 = .ok (.getfield 143, 3) := dk_180 0 143 (dk_at dksX1_pull_1 11 rfl rfl)
theorem dX1_pull_38 : decode cX1_pull 38 = .ok (.iload_n 1, 1) := dk_27 (dk_at dksX1_pull_1 14 rfl rfl)
theorem dX1_pull_39 : decode cX1_pull 39 = .ok (.aaload, 1) := dk_50 (dk_at dksX1_pull_1 15 rfl rfl)
theorem dX1_pull_40 : decode cX1_pull 40 = .ok (.invokevirtual 418, 3) := dk_182 1 162 (dk_at dksX1_pull_1 16 rfl rfl)
theorem dX1_pull_43 : decode cX1_pull 43 = .ok (.ifCond .eq 17, 3) := dk_153 0 17 (dk_at dksX1_pull_1 19 rfl rfl)
theorem dX1_pull_46 : decode cX1_pull 46 = .ok (.aload_n 0, 1) := dk_42 (dk_at dksX1_pull_1 22 rfl rfl)
theorem dX1_pull_47 : decode cX1_pull 47 = .ok (.getfield 33, 3) := dk_180 0 33 (dk_at dksX1_pull_2 0 rfl rfl)
theorem dX1_pull_50 : decode cX1_pull 50 = .ok (.getfield 166, 3) := dk_180 0 166 (dk_at dksX1_pull_2 3 rfl rfl)
theorem dX1_pull_53 : decode cX1_pull 53 = .ok (.iload_n 1, 1) := dk_27 (dk_at dksX1_pull_2 6 rfl rfl)
theorem dX1_pull_54 : decode cX1_pull 54 = .ok (.invokestatic 155, 3) := dk_184 0 155 (dk_at dksX1_pull_2 7 rfl rfl)
theorem dX1_pull_57 : decode cX1_pull 57 = .ok (.ifCond .eq 9, 3) := dk_153 0 9 (dk_at dksX1_pull_2 10 rfl rfl)
theorem dX1_pull_60 : decode cX1_pull 60 = .ok (.aload_n 0, 1) := dk_42 (dk_at dksX1_pull_2 13 rfl rfl)
theorem dX1_pull_61 : decode cX1_pull 61 = .ok (.iconst 5, 1) := dk_8 (dk_at dksX1_pull_2 14 rfl rfl)
theorem dX1_pull_62 : decode cX1_pull 62 = .ok (.invokevirtual 97, 3) := dk_182 0 97 (dk_at dksX1_pull_2 15 rfl rfl)
theorem dX1_pull_65 : decode cX1_pull 65 = .ok (.ireturn, 1) := dk_172 (dk_at dksX1_pull_2 18 rfl rfl)
theorem dX1_pull_66 : decode cX1_pull 66 = .ok (.aload_n 0, 1) := dk_42 (dk_at dksX1_pull_2 19 rfl rfl)
theorem dX1_pull_67 : decode cX1_pull 67 = .ok (.invokevirtual 411, 3) := dk_182 1 155 (dk_at dksX1_pull_2 20 rfl rfl)
theorem dX1_pull_70 : decode cX1_pull 70 = .ok (.aload_n 0, 1) := dk_42 (dk_at dksX1_pull_2 23 rfl rfl)
theorem dX1_pull_71 : decode cX1_pull 71 = .ok (.iload_n 1, 1) := dk_27 (dk_at dksX1_pull_3 0 rfl rfl)
theorem dX1_pull_72 : decode cX1_pull 72 = .ok (.iload_n 2, 1) := dk_28 (dk_at dksX1_pull_3 1 rfl rfl)
theorem dX1_pull_73 : decode cX1_pull 73 = .ok (.iload_n 3, 1) := dk_29 (dk_at dksX1_pull_3 2 rfl rfl)
theorem dX1_pull_74 : decode cX1_pull 74 = .ok (.iload 4, 2) := dk_21 4 (dk_at dksX1_pull_3 3 rfl rfl)
theorem dX1_pull_76 : decode cX1_pull 76 = .ok (.iload 5, 2) := dk_21 5 (dk_at dksX1_pull_3 5 rfl rfl)
theorem dX1_pull_78 : decode cX1_pull 78 = .ok (.iload 6, 2) := dk_21 6 (dk_at dksX1_pull_3 7 rfl rfl)
theorem dX1_pull_80 : decode cX1_pull 80 = .ok (.invokevirtual 230, 3) := dk_182 0 230 (dk_at dksX1_pull_3 9 rfl rfl)
theorem dX1_pull_83 : decode cX1_pull 83 = .ok (.pop, 1) := dk_87 (dk_at dksX1_pull_3 12 rfl rfl)
theorem dX1_pull_84 : decode cX1_pull 84 = .ok (.aload_n 0, 1) := dk_42 (dk_at dksX1_pull_3 13 rfl rfl)
theorem dX1_pull_85 : decode cX1_pull 85 = .ok (.aload_n 0, 1) := dk_42 (dk_at dksX1_pull_3 14 rfl rfl)
theorem dX1_pull_86 : decode cX1_pull 86 = .ok (.getfield 33, 3) := dk_180 0 33 (dk_at dksX1_pull_3 15 rfl rfl)
theorem dX1_pull_89 : decode cX1_pull 89 = .ok (.invokevirtual 397, 3) := dk_182 1 141 (dk_at dksX1_pull_3 18 rfl rfl)
theorem dX1_pull_92 : decode cX1_pull 92 = .ok (.aload_n 0, 1) := dk_42 (dk_at dksX1_pull_3 21 rfl rfl)
theorem dX1_pull_93 : decode cX1_pull 93 = .ok (.getfield 46, 3) := dk_180 0 46 (dk_at dksX1_pull_4 0 rfl rfl)
theorem dX1_pull_96 : decode cX1_pull 96 = .ok (.invokevirtual 237, 3) := dk_182 0 237 (dk_at dksX1_pull_4 3 rfl rfl)
theorem dX1_pull_99 : decode cX1_pull 99 = .ok (.istore 8, 2) := dk_54 8 (dk_at dksX1_pull_4 6 rfl rfl)
theorem dX1_pull_101 : decode cX1_pull 101 = .ok (.iload 8, 2) := dk_21 8 (dk_at dksX1_pull_4 8 rfl rfl)
theorem dX1_pull_103 : decode cX1_pull 103 = .ok (.iconst 3, 1) := dk_6 (dk_at dksX1_pull_4 10 rfl rfl)
theorem dX1_pull_104 : decode cX1_pull 104 = .ok (.if_icmp .eq 18, 3) := dk_159 0 18 (dk_at dksX1_pull_4 11 rfl rfl)
theorem dX1_pull_107 : decode cX1_pull 107 = .ok (.aload_n 0, 1) := dk_42 (dk_at dksX1_pull_4 14 rfl rfl)
theorem dX1_pull_108 : decode cX1_pull 108 = .ok (.getfield 33, 3) := dk_180 0 33 (dk_at dksX1_pull_4 15 rfl rfl)
theorem dX1_pull_111 : decode cX1_pull 111 = .ok (.dup, 1) := dk_89 (dk_at dksX1_pull_4 18 rfl rfl)
theorem dX1_pull_112 : decode cX1_pull 112 = .ok (.getfield 166, 3) := dk_180 0 166 (dk_at dksX1_pull_4 19 rfl rfl)
theorem dX1_pull_115 : decode cX1_pull 115 = .ok (.iconst 1, 1) := dk_4 (dk_at dksX1_pull_4 22 rfl rfl)
theorem dX1_pull_116 : decode cX1_pull 116 = .ok (.iload_n 1, 1) := dk_27 (dk_at dksX1_pull_4 23 rfl rfl)
theorem dX1_pull_117 : decode cX1_pull 117 = .ok (.ishl, 1) := dk_120 (dk_at dksX1_pull_5 0 rfl rfl)
theorem dX1_pull_118 : decode cX1_pull 118 = .ok (.ior, 1) := dk_128 (dk_at dksX1_pull_5 1 rfl rfl)
theorem dX1_pull_119 : decode cX1_pull 119 = .ok (.putfield 166, 3) := dk_181 0 166 (dk_at dksX1_pull_5 2 rfl rfl)
theorem dX1_pull_122 : decode cX1_pull 122 = .ok (.iload 8, 2) := dk_21 8 (dk_at dksX1_pull_5 5 rfl rfl)
theorem dX1_pull_124 : decode cX1_pull 124 = .ok (.iconst 2, 1) := dk_5 (dk_at dksX1_pull_5 7 rfl rfl)
theorem dX1_pull_125 : decode cX1_pull 125 = .ok (.if_icmp .ge 26, 3) := dk_162 0 26 (dk_at dksX1_pull_5 8 rfl rfl)
theorem dX1_pull_128 : decode cX1_pull 128 = .ok (.aload_n 0, 1) := dk_42 (dk_at dksX1_pull_5 11 rfl rfl)
theorem dX1_pull_129 : decode cX1_pull 129 = .ok (.getfield 33, 3) := dk_180 0 33 (dk_at dksX1_pull_5 12 rfl rfl)
theorem dX1_pull_132 : decode cX1_pull 132 = .ok (.getfield 198, 3) := dk_180 0 198 (dk_at dksX1_pull_5 15 rfl rfl)
theorem dX1_pull_135 : decode cX1_pull 135 = .ok (.iload 8, 2) := dk_21 8 (dk_at dksX1_pull_5 18 rfl rfl)
theorem dX1_pull_137 : decode cX1_pull 137 = .ok (.ifCond .ne 7, 3) := dk_154 0 7 (dk_at dksX1_pull_5 20 rfl rfl)
theorem dX1_pull_140 : decode cX1_pull 140 = .ok (.iload_n 2, 1) := dk_28 (dk_at dksX1_pull_5 23 rfl rfl)
theorem dX1_pull_141 : decode cX1_pull 141 = .ok (.goto 5, 3) := dk_167 0 5 (dk_at dksX1_pull_6 0 rfl rfl)
theorem dX1_pull_144 : decode cX1_pull 144 = .ok (.iload 4, 2) := dk_21 4 (dk_at dksX1_pull_6 3 rfl rfl)
theorem dX1_pull_146 : decode cX1_pull 146 = .ok (.dup2, 1) := dk_92 (dk_at dksX1_pull_6 5 rfl rfl)
theorem dX1_pull_147 : decode cX1_pull 147 = .ok (.iaload, 1) := dk_46 (dk_at dksX1_pull_6 6 rfl rfl)
theorem dX1_pull_148 : decode cX1_pull 148 = .ok (.iconst 1, 1) := dk_4 (dk_at dksX1_pull_6 7 rfl rfl)
theorem dX1_pull_149 : decode cX1_pull 149 = .ok (.iadd, 1) := dk_96 (dk_at dksX1_pull_6 8 rfl rfl)
theorem dX1_pull_150 : decode cX1_pull 150 = .ok (.iastore, 1) := dk_79 (dk_at dksX1_pull_6 9 rfl rfl)
theorem dX1_pull_151 : decode cX1_pull 151 = .ok (.aload_n 0, 1) := dk_42 (dk_at dksX1_pull_6 10 rfl rfl)
theorem dX1_pull_152 : decode cX1_pull 152 = .ok (.invokevirtual 414, 3) := dk_182 1 158 (dk_at dksX1_pull_6 11 rfl rfl)
theorem dX1_pull_155 : decode cX1_pull 155 = .ok (.pop, 1) := dk_87 (dk_at dksX1_pull_6 14 rfl rfl)
theorem dX1_pull_156 : decode cX1_pull 156 = .ok (.iload 8, 2) := dk_21 8 (dk_at dksX1_pull_6 15 rfl rfl)
theorem dX1_pull_158 : decode cX1_pull 158 = .ok (.ireturn, 1) := dk_172 (dk_at dksX1_pull_6 17 rfl rfl)
abbrev cX1_seed : ByteArray := prog_1_method_70_code
def yX1_seed : MethodName := ⟨RX1, "seed", "(I)Z"⟩
def dkwX1_seed_1 : List UInt8 := [167, 0, 4, 5, 182, 1, 152, 154, 0, 5, 3, 172, 42, 180, 0, 33, 27, 181, 1, 138, 4, 172]
abbrev dktX1_seed_1 : List UInt8 := dkwX1_seed_1 ++ []
def dkwX1_seed_0 : List UInt8 := [42, 42, 180, 0, 108, 199, 0, 7, 4, 167, 0, 19, 27, 3, 19, 1, 145, 184, 0, 93, 153, 0, 7, 3]
abbrev dktX1_seed_0 : List UInt8 := dkwX1_seed_0 ++ dktX1_seed_1
theorem dksX1_seed_0 : cX1_seed.data.toList.drop 0 = dktX1_seed_0 := by decide +kernel
theorem dksX1_seed_1 : cX1_seed.data.toList.drop 24 = dktX1_seed_1 := dk_seg dksX1_seed_0 24 rfl rfl
theorem dX1_seed_0 : decode cX1_seed 0 = .ok (.aload_n 0, 1) := dk_42 (dk_at dksX1_seed_0 0 rfl rfl)
theorem dX1_seed_1 : decode cX1_seed 1 = .ok (.aload_n 0, 1) := dk_42 (dk_at dksX1_seed_0 1 rfl rfl)
theorem dX1_seed_2 : decode cX1_seed 2 = .ok (.getfield 108, 3) := dk_180 0 108 (dk_at dksX1_seed_0 2 rfl rfl)
theorem dX1_seed_5 : decode cX1_seed 5 = .ok (.ifnonnull 7, 3) := dk_199 0 7 (dk_at dksX1_seed_0 5 rfl rfl)
theorem dX1_seed_8 : decode cX1_seed 8 = .ok (.iconst 1, 1) := dk_4 (dk_at dksX1_seed_0 8 rfl rfl)
theorem dX1_seed_9 : decode cX1_seed 9 = .ok (.goto 19, 3) := dk_167 0 19 (dk_at dksX1_seed_0 9 rfl rfl)
theorem dX1_seed_12 : decode cX1_seed 12 = .ok (.iload_n 1, 1) := dk_27 (dk_at dksX1_seed_0 12 rfl rfl)
theorem dX1_seed_13 : decode cX1_seed 13 = .ok (.iconst 0, 1) := dk_3 (dk_at dksX1_seed_0 13 rfl rfl)
theorem dX1_seed_14 : decode cX1_seed 14 = .ok (.ldc_w 401, 3) := dk_19 1 145 (dk_at dksX1_seed_0 14 rfl rfl)
theorem dX1_seed_17 : decode cX1_seed 17 = .ok (.invokestatic 93, 3) := dk_184 0 93 (dk_at dksX1_seed_0 17 rfl rfl)
theorem dX1_seed_20 : decode cX1_seed 20 = .ok (.ifCond .eq 7, 3) := dk_153 0 7 (dk_at dksX1_seed_0 20 rfl rfl)
theorem dX1_seed_23 : decode cX1_seed 23 = .ok (.iconst 0, 1) := dk_3 (dk_at dksX1_seed_0 23 rfl rfl)
theorem dX1_seed_24 : decode cX1_seed 24 = .ok (.goto 4, 3) := dk_167 0 4 (dk_at dksX1_seed_1 0 rfl rfl)
theorem dX1_seed_27 : decode cX1_seed 27 = .ok (.iconst 2, 1) := dk_5 (dk_at dksX1_seed_1 3 rfl rfl)
theorem dX1_seed_28 : decode cX1_seed 28 = .ok (.invokevirtual 408, 3) := dk_182 1 152 (dk_at dksX1_seed_1 4 rfl rfl)
theorem dX1_seed_31 : decode cX1_seed 31 = .ok (.ifCond .ne 5, 3) := dk_154 0 5 (dk_at dksX1_seed_1 7 rfl rfl)
theorem dX1_seed_34 : decode cX1_seed 34 = .ok (.iconst 0, 1) := dk_3 (dk_at dksX1_seed_1 10 rfl rfl)
theorem dX1_seed_35 : decode cX1_seed 35 = .ok (.ireturn, 1) := dk_172 (dk_at dksX1_seed_1 11 rfl rfl)
theorem dX1_seed_36 : decode cX1_seed 36 = .ok (.aload_n 0, 1) := dk_42 (dk_at dksX1_seed_1 12 rfl rfl)
theorem dX1_seed_37 : decode cX1_seed 37 = .ok (.getfield 33, 3) := dk_180 0 33 (dk_at dksX1_seed_1 13 rfl rfl)
theorem dX1_seed_40 : decode cX1_seed 40 = .ok (.iload_n 1, 1) := dk_27 (dk_at dksX1_seed_1 16 rfl rfl)
theorem dX1_seed_41 : decode cX1_seed 41 = .ok (.putfield 394, 3) := dk_181 1 138 (dk_at dksX1_seed_1 17 rfl rfl)
theorem dX1_seed_44 : decode cX1_seed 44 = .ok (.iconst 1, 1) := dk_4 (dk_at dksX1_seed_1 20 rfl rfl)
theorem dX1_seed_45 : decode cX1_seed 45 = .ok (.ireturn, 1) := dk_172 (dk_at dksX1_seed_1 21 rfl rfl)
abbrev cX1_undo : ByteArray := prog_1_method_71_code
def yX1_undo : MethodName := ⟨RX1, "undo", "()Z"⟩
def dkwX1_undo_2 : List UInt8 := [4, 172]
abbrev dktX1_undo_2 : List UInt8 := dkwX1_undo_2 ++ []
def dkwX1_undo_1 : List UInt8 := [180, 0, 122, 4, 100, 181, 0, 122, 42, 180, 0, 33, 42, 180, 0, 66, 42, 180, 0, 122, 50, 182, 1, 149]
abbrev dktX1_undo_1 : List UInt8 := dkwX1_undo_1 ++ dktX1_undo_2
def dkwX1_undo_0 : List UInt8 := [42, 42, 180, 0, 122, 154, 0, 8, 16, 6, 167, 0, 4, 3, 182, 1, 152, 154, 0, 5, 3, 172, 42, 89]
abbrev dktX1_undo_0 : List UInt8 := dkwX1_undo_0 ++ dktX1_undo_1
theorem dksX1_undo_0 : cX1_undo.data.toList.drop 0 = dktX1_undo_0 := by decide +kernel
theorem dksX1_undo_1 : cX1_undo.data.toList.drop 24 = dktX1_undo_1 := dk_seg dksX1_undo_0 24 rfl rfl
theorem dksX1_undo_2 : cX1_undo.data.toList.drop 48 = dktX1_undo_2 := dk_seg dksX1_undo_1 24 rfl rfl
theorem dX1_undo_0 : decode cX1_undo 0 = .ok (.aload_n 0, 1) := dk_42 (dk_at dksX1_undo_0 0 rfl rfl)
theorem dX1_undo_1 : decode cX1_undo 1 = .ok (.aload_n 0, 1) := dk_42 (dk_at dksX1_undo_0 1 rfl rfl)
theorem dX1_undo_2 : decode cX1_undo 2 = .ok (.getfield 122, 3) := dk_180 0 122 (dk_at dksX1_undo_0 2 rfl rfl)
theorem dX1_undo_5 : decode cX1_undo 5 = .ok (.ifCond .ne 8, 3) := dk_154 0 8 (dk_at dksX1_undo_0 5 rfl rfl)
theorem dX1_undo_8 : decode cX1_undo 8 = .ok (.bipush 6, 2) := dk_16 6 (dk_at dksX1_undo_0 8 rfl rfl)
theorem dX1_undo_10 : decode cX1_undo 10 = .ok (.goto 4, 3) := dk_167 0 4 (dk_at dksX1_undo_0 10 rfl rfl)
theorem dX1_undo_13 : decode cX1_undo 13 = .ok (.iconst 0, 1) := dk_3 (dk_at dksX1_undo_0 13 rfl rfl)
theorem dX1_undo_14 : decode cX1_undo 14 = .ok (.invokevirtual 408, 3) := dk_182 1 152 (dk_at dksX1_undo_0 14 rfl rfl)
theorem dX1_undo_17 : decode cX1_undo 17 = .ok (.ifCond .ne 5, 3) := dk_154 0 5 (dk_at dksX1_undo_0 17 rfl rfl)
theorem dX1_undo_20 : decode cX1_undo 20 = .ok (.iconst 0, 1) := dk_3 (dk_at dksX1_undo_0 20 rfl rfl)
theorem dX1_undo_21 : decode cX1_undo 21 = .ok (.ireturn, 1) := dk_172 (dk_at dksX1_undo_0 21 rfl rfl)
theorem dX1_undo_22 : decode cX1_undo 22 = .ok (.aload_n 0, 1) := dk_42 (dk_at dksX1_undo_0 22 rfl rfl)
theorem dX1_undo_23 : decode cX1_undo 23 = .ok (.dup, 1) := dk_89 (dk_at dksX1_undo_0 23 rfl rfl)
theorem dX1_undo_24 : decode cX1_undo 24 = .ok (.getfield 122, 3) := dk_180 0 122 (dk_at dksX1_undo_1 0 rfl rfl)
theorem dX1_undo_27 : decode cX1_undo 27 = .ok (.iconst 1, 1) := dk_4 (dk_at dksX1_undo_1 3 rfl rfl)
theorem dX1_undo_28 : decode cX1_undo 28 = .ok (.isub, 1) := dk_100 (dk_at dksX1_undo_1 4 rfl rfl)
theorem dX1_undo_29 : decode cX1_undo 29 = .ok (.putfield 122, 3) := dk_181 0 122 (dk_at dksX1_undo_1 5 rfl rfl)
theorem dX1_undo_32 : decode cX1_undo 32 = .ok (.aload_n 0, 1) := dk_42 (dk_at dksX1_undo_1 8 rfl rfl)
theorem dX1_undo_33 : decode cX1_undo 33 = .ok (.getfield 33, 3) := dk_180 0 33 (dk_at dksX1_undo_1 9 rfl rfl)
theorem dX1_undo_36 : decode cX1_undo 36 = .ok (.aload_n 0, 1) := dk_42 (dk_at dksX1_undo_1 12 rfl rfl)
theorem dX1_undo_37 : decode cX1_undo 37 = .ok (.getfield 66, 3) := dk_180 0 66 (dk_at dksX1_undo_1 13 rfl rfl)
theorem dX1_undo_40 : decode cX1_undo 40 = .ok (.aload_n 0, 1) := dk_42 (dk_at dksX1_undo_1 16 rfl rfl)
theorem dX1_undo_41 : decode cX1_undo 41 = .ok (.getfield 122, 3) := dk_180 0 122 (dk_at dksX1_undo_1 17 rfl rfl)
theorem dX1_undo_44 : decode cX1_undo 44 = .ok (.aaload, 1) := dk_50 (dk_at dksX1_undo_1 20 rfl rfl)
theorem dX1_undo_45 : decode cX1_undo 45 = .ok (.invokevirtual 405, 3) := dk_182 1 149 (dk_at dksX1_undo_1 21 rfl rfl)
theorem dX1_undo_48 : decode cX1_undo 48 = .ok (.iconst 1, 1) := dk_4 (dk_at dksX1_undo_2 0 rfl rfl)
theorem dX1_undo_49 : decode cX1_undo 49 = .ok (.ireturn, 1) := dk_172 (dk_at dksX1_undo_2 1 rfl rfl)
abbrev cX1_mark : ByteArray := prog_1_method_72_code
def yX1_mark : MethodName := ⟨RX1, "mark", "()I"⟩
def dkwX1_mark_2 : List UInt8 := [182, 1, 149, 42, 89, 180, 0, 125, 4, 96, 181, 0, 125, 42, 180, 0, 125, 4, 100, 172]
abbrev dktX1_mark_2 : List UInt8 := dkwX1_mark_2 ++ []
def dkwX1_mark_1 : List UInt8 := [160, 0, 9, 42, 6, 182, 0, 97, 172, 42, 180, 0, 70, 42, 180, 0, 125, 50, 42, 180, 0, 33]
abbrev dktX1_mark_1 : List UInt8 := dkwX1_mark_1 ++ dktX1_mark_2
def dkwX1_mark_0 : List UInt8 := [42, 182, 0, 83, 42, 180, 0, 108, 199, 0, 9, 42, 4, 182, 0, 97, 172, 42, 180, 0, 125, 6]
abbrev dktX1_mark_0 : List UInt8 := dkwX1_mark_0 ++ dktX1_mark_1
theorem dksX1_mark_0 : cX1_mark.data.toList.drop 0 = dktX1_mark_0 := by decide +kernel
theorem dksX1_mark_1 : cX1_mark.data.toList.drop 22 = dktX1_mark_1 := dk_seg dksX1_mark_0 22 rfl rfl
theorem dksX1_mark_2 : cX1_mark.data.toList.drop 44 = dktX1_mark_2 := dk_seg dksX1_mark_1 22 rfl rfl
theorem dX1_mark_0 : decode cX1_mark 0 = .ok (.aload_n 0, 1) := dk_42 (dk_at dksX1_mark_0 0 rfl rfl)
theorem dX1_mark_1 : decode cX1_mark 1 = .ok (.invokevirtual 83, 3) := dk_182 0 83 (dk_at dksX1_mark_0 1 rfl rfl)
theorem dX1_mark_4 : decode cX1_mark 4 = .ok (.aload_n 0, 1) := dk_42 (dk_at dksX1_mark_0 4 rfl rfl)
theorem dX1_mark_5 : decode cX1_mark 5 = .ok (.getfield 108, 3) := dk_180 0 108 (dk_at dksX1_mark_0 5 rfl rfl)
theorem dX1_mark_8 : decode cX1_mark 8 = .ok (.ifnonnull 9, 3) := dk_199 0 9 (dk_at dksX1_mark_0 8 rfl rfl)
theorem dX1_mark_11 : decode cX1_mark 11 = .ok (.aload_n 0, 1) := dk_42 (dk_at dksX1_mark_0 11 rfl rfl)
theorem dX1_mark_12 : decode cX1_mark 12 = .ok (.iconst 1, 1) := dk_4 (dk_at dksX1_mark_0 12 rfl rfl)
theorem dX1_mark_13 : decode cX1_mark 13 = .ok (.invokevirtual 97, 3) := dk_182 0 97 (dk_at dksX1_mark_0 13 rfl rfl)
theorem dX1_mark_16 : decode cX1_mark 16 = .ok (.ireturn, 1) := dk_172 (dk_at dksX1_mark_0 16 rfl rfl)
theorem dX1_mark_17 : decode cX1_mark 17 = .ok (.aload_n 0, 1) := dk_42 (dk_at dksX1_mark_0 17 rfl rfl)
theorem dX1_mark_18 : decode cX1_mark 18 = .ok (.getfield 125, 3) := dk_180 0 125 (dk_at dksX1_mark_0 18 rfl rfl)
theorem dX1_mark_21 : decode cX1_mark 21 = .ok (.iconst 3, 1) := dk_6 (dk_at dksX1_mark_0 21 rfl rfl)
theorem dX1_mark_22 : decode cX1_mark 22 = .ok (.if_icmp .ne 9, 3) := dk_160 0 9 (dk_at dksX1_mark_1 0 rfl rfl)
theorem dX1_mark_25 : decode cX1_mark 25 = .ok (.aload_n 0, 1) := dk_42 (dk_at dksX1_mark_1 3 rfl rfl)
theorem dX1_mark_26 : decode cX1_mark 26 = .ok (.iconst 3, 1) := dk_6 (dk_at dksX1_mark_1 4 rfl rfl)
theorem dX1_mark_27 : decode cX1_mark 27 = .ok (.invokevirtual 97, 3) := dk_182 0 97 (dk_at dksX1_mark_1 5 rfl rfl)
theorem dX1_mark_30 : decode cX1_mark 30 = .ok (.ireturn, 1) := dk_172 (dk_at dksX1_mark_1 8 rfl rfl)
theorem dX1_mark_31 : decode cX1_mark 31 = .ok (.aload_n 0, 1) := dk_42 (dk_at dksX1_mark_1 9 rfl rfl)
theorem dX1_mark_32 : decode cX1_mark 32 = .ok (.getfield 70, 3) := dk_180 0 70 (dk_at dksX1_mark_1 10 rfl rfl)
theorem dX1_mark_35 : decode cX1_mark 35 = .ok (.aload_n 0, 1) := dk_42 (dk_at dksX1_mark_1 13 rfl rfl)
theorem dX1_mark_36 : decode cX1_mark 36 = .ok (.getfield 125, 3) := dk_180 0 125 (dk_at dksX1_mark_1 14 rfl rfl)
theorem dX1_mark_39 : decode cX1_mark 39 = .ok (.aaload, 1) := dk_50 (dk_at dksX1_mark_1 17 rfl rfl)
theorem dX1_mark_40 : decode cX1_mark 40 = .ok (.aload_n 0, 1) := dk_42 (dk_at dksX1_mark_1 18 rfl rfl)
theorem dX1_mark_41 : decode cX1_mark 41 = .ok (.getfield 33, 3) := dk_180 0 33 (dk_at dksX1_mark_1 19 rfl rfl)
theorem dX1_mark_44 : decode cX1_mark 44 = .ok (.invokevirtual 405, 3) := dk_182 1 149 (dk_at dksX1_mark_2 0 rfl rfl)
theorem dX1_mark_47 : decode cX1_mark 47 = .ok (.aload_n 0, 1) := dk_42 (dk_at dksX1_mark_2 3 rfl rfl)
theorem dX1_mark_48 : decode cX1_mark 48 = .ok (.dup, 1) := dk_89 (dk_at dksX1_mark_2 4 rfl rfl)
theorem dX1_mark_49 : decode cX1_mark 49 = .ok (.getfield 125, 3) := dk_180 0 125 (dk_at dksX1_mark_2 5 rfl rfl)
theorem dX1_mark_52 : decode cX1_mark 52 = .ok (.iconst 1, 1) := dk_4 (dk_at dksX1_mark_2 8 rfl rfl)
theorem dX1_mark_53 : decode cX1_mark 53 = .ok (.iadd, 1) := dk_96 (dk_at dksX1_mark_2 9 rfl rfl)
theorem dX1_mark_54 : decode cX1_mark 54 = .ok (.putfield 125, 3) := dk_181 0 125 (dk_at dksX1_mark_2 10 rfl rfl)
theorem dX1_mark_57 : decode cX1_mark 57 = .ok (.aload_n 0, 1) := dk_42 (dk_at dksX1_mark_2 13 rfl rfl)
theorem dX1_mark_58 : decode cX1_mark 58 = .ok (.getfield 125, 3) := dk_180 0 125 (dk_at dksX1_mark_2 14 rfl rfl)
theorem dX1_mark_61 : decode cX1_mark 61 = .ok (.iconst 1, 1) := dk_4 (dk_at dksX1_mark_2 17 rfl rfl)
theorem dX1_mark_62 : decode cX1_mark 62 = .ok (.isub, 1) := dk_100 (dk_at dksX1_mark_2 18 rfl rfl)
theorem dX1_mark_63 : decode cX1_mark 63 = .ok (.ireturn, 1) := dk_172 (dk_at dksX1_mark_2 19 rfl rfl)
abbrev cX1_back : ByteArray := prog_1_method_73_code
def yX1_back : MethodName := ⟨RX1, "back", "(I)Z"⟩
def dkwX1_back_2 : List UInt8 := [172]
abbrev dktX1_back_2 : List UInt8 := dkwX1_back_2 ++ []
def dkwX1_back_1 : List UInt8 := [154, 0, 5, 3, 172, 42, 180, 0, 33, 42, 180, 0, 70, 27, 50, 182, 1, 149, 42, 3, 181, 0, 122, 4]
abbrev dktX1_back_1 : List UInt8 := dkwX1_back_1 ++ dktX1_back_2
def dkwX1_back_0 : List UInt8 := [42, 27, 3, 42, 180, 0, 125, 4, 100, 184, 0, 93, 153, 0, 7, 3, 167, 0, 4, 4, 182, 1, 152]
abbrev dktX1_back_0 : List UInt8 := dkwX1_back_0 ++ dktX1_back_1
theorem dksX1_back_0 : cX1_back.data.toList.drop 0 = dktX1_back_0 := by decide +kernel
theorem dksX1_back_1 : cX1_back.data.toList.drop 23 = dktX1_back_1 := dk_seg dksX1_back_0 23 rfl rfl
theorem dksX1_back_2 : cX1_back.data.toList.drop 47 = dktX1_back_2 := dk_seg dksX1_back_1 24 rfl rfl
theorem dX1_back_0 : decode cX1_back 0 = .ok (.aload_n 0, 1) := dk_42 (dk_at dksX1_back_0 0 rfl rfl)
theorem dX1_back_1 : decode cX1_back 1 = .ok (.iload_n 1, 1) := dk_27 (dk_at dksX1_back_0 1 rfl rfl)
theorem dX1_back_2 : decode cX1_back 2 = .ok (.iconst 0, 1) := dk_3 (dk_at dksX1_back_0 2 rfl rfl)
theorem dX1_back_3 : decode cX1_back 3 = .ok (.aload_n 0, 1) := dk_42 (dk_at dksX1_back_0 3 rfl rfl)
theorem dX1_back_4 : decode cX1_back 4 = .ok (.getfield 125, 3) := dk_180 0 125 (dk_at dksX1_back_0 4 rfl rfl)
theorem dX1_back_7 : decode cX1_back 7 = .ok (.iconst 1, 1) := dk_4 (dk_at dksX1_back_0 7 rfl rfl)
theorem dX1_back_8 : decode cX1_back 8 = .ok (.isub, 1) := dk_100 (dk_at dksX1_back_0 8 rfl rfl)
theorem dX1_back_9 : decode cX1_back 9 = .ok (.invokestatic 93, 3) := dk_184 0 93 (dk_at dksX1_back_0 9 rfl rfl)
theorem dX1_back_12 : decode cX1_back 12 = .ok (.ifCond .eq 7, 3) := dk_153 0 7 (dk_at dksX1_back_0 12 rfl rfl)
theorem dX1_back_15 : decode cX1_back 15 = .ok (.iconst 0, 1) := dk_3 (dk_at dksX1_back_0 15 rfl rfl)
theorem dX1_back_16 : decode cX1_back 16 = .ok (.goto 4, 3) := dk_167 0 4 (dk_at dksX1_back_0 16 rfl rfl)
theorem dX1_back_19 : decode cX1_back 19 = .ok (.iconst 1, 1) := dk_4 (dk_at dksX1_back_0 19 rfl rfl)
theorem dX1_back_20 : decode cX1_back 20 = .ok (.invokevirtual 408, 3) := dk_182 1 152 (dk_at dksX1_back_0 20 rfl rfl)
theorem dX1_back_23 : decode cX1_back 23 = .ok (.ifCond .ne 5, 3) := dk_154 0 5 (dk_at dksX1_back_1 0 rfl rfl)
theorem dX1_back_26 : decode cX1_back 26 = .ok (.iconst 0, 1) := dk_3 (dk_at dksX1_back_1 3 rfl rfl)
theorem dX1_back_27 : decode cX1_back 27 = .ok (.ireturn, 1) := dk_172 (dk_at dksX1_back_1 4 rfl rfl)
theorem dX1_back_28 : decode cX1_back 28 = .ok (.aload_n 0, 1) := dk_42 (dk_at dksX1_back_1 5 rfl rfl)
theorem dX1_back_29 : decode cX1_back 29 = .ok (.getfield 33, 3) := dk_180 0 33 (dk_at dksX1_back_1 6 rfl rfl)
theorem dX1_back_32 : decode cX1_back 32 = .ok (.aload_n 0, 1) := dk_42 (dk_at dksX1_back_1 9 rfl rfl)
theorem dX1_back_33 : decode cX1_back 33 = .ok (.getfield 70, 3) := dk_180 0 70 (dk_at dksX1_back_1 10 rfl rfl)
theorem dX1_back_36 : decode cX1_back 36 = .ok (.iload_n 1, 1) := dk_27 (dk_at dksX1_back_1 13 rfl rfl)
theorem dX1_back_37 : decode cX1_back 37 = .ok (.aaload, 1) := dk_50 (dk_at dksX1_back_1 14 rfl rfl)
theorem dX1_back_38 : decode cX1_back 38 = .ok (.invokevirtual 405, 3) := dk_182 1 149 (dk_at dksX1_back_1 15 rfl rfl)
theorem dX1_back_41 : decode cX1_back 41 = .ok (.aload_n 0, 1) := dk_42 (dk_at dksX1_back_1 18 rfl rfl)
theorem dX1_back_42 : decode cX1_back 42 = .ok (.iconst 0, 1) := dk_3 (dk_at dksX1_back_1 19 rfl rfl)
theorem dX1_back_43 : decode cX1_back 43 = .ok (.putfield 122, 3) := dk_181 0 122 (dk_at dksX1_back_1 20 rfl rfl)
theorem dX1_back_46 : decode cX1_back 46 = .ok (.iconst 1, 1) := dk_4 (dk_at dksX1_back_1 23 rfl rfl)
theorem dX1_back_47 : decode cX1_back 47 = .ok (.ireturn, 1) := dk_172 (dk_at dksX1_back_2 0 rfl rfl)
abbrev cX1_size : ByteArray := prog_1_method_75_code
def yX1_size : MethodName := ⟨RX1, "size", "(I)I"⟩
def dkwX1_size_7 : List UInt8 := [180, 0, 125, 172, 2, 172]
abbrev dktX1_size_7 : List UInt8 := dkwX1_size_7 ++ []
def dkwX1_size_6 : List UInt8 := [42, 180, 0, 108, 180, 1, 104, 172, 42, 180, 0, 33, 180, 1, 138, 172, 42, 180, 0, 122, 172, 42]
abbrev dktX1_size_6 : List UInt8 := dkwX1_size_6 ++ dktX1_size_7
def dkwX1_size_5 : List UInt8 := [42, 180, 0, 108, 180, 0, 133, 172, 42, 180, 0, 108, 180, 1, 178, 172, 42, 180, 0, 108, 180, 1, 70, 172]
abbrev dktX1_size_5 : List UInt8 := dkwX1_size_5 ++ dktX1_size_6
def dkwX1_size_4 : List UInt8 := [42, 180, 0, 108, 180, 1, 177, 172, 42, 180, 0, 108, 180, 1, 129, 172, 42, 180, 0, 108, 180, 0, 128, 172]
abbrev dktX1_size_4 : List UInt8 := dkwX1_size_4 ++ dktX1_size_5
def dkwX1_size_3 : List UInt8 := [42, 180, 0, 108, 180, 1, 168, 172, 42, 180, 0, 108, 180, 1, 171, 172, 42, 180, 0, 108, 180, 1, 174, 172]
abbrev dktX1_size_3 : List UInt8 := dkwX1_size_3 ++ dktX1_size_4
def dkwX1_size_2 : List UInt8 := [170, 0, 0, 0, 163, 0, 0, 0, 0, 0, 0, 0, 12, 0, 0, 0, 65, 0, 0, 0, 73, 0, 0, 0, 81, 0, 0, 0, 89, 0, 0, 0, 97, 0, 0, 0, 105, 0, 0, 0, 113, 0, 0, 0, 121, 0, 0, 0, 129, 0, 0, 0, 137, 0, 0, 0, 145, 0, 0, 0, 153, 0, 0, 0, 158]
abbrev dktX1_size_2 : List UInt8 := dkwX1_size_2 ++ dktX1_size_3
def dkwX1_size_1 : List UInt8 := [184, 0, 93, 153, 0, 7, 3, 167, 0, 4, 2, 172, 27]
abbrev dktX1_size_1 : List UInt8 := dkwX1_size_1 ++ dktX1_size_2
def dkwX1_size_0 : List UInt8 := [27, 16, 13, 160, 0, 8, 42, 180, 0, 86, 172, 42, 180, 0, 108, 199, 0, 19, 27, 3, 16, 12]
abbrev dktX1_size_0 : List UInt8 := dkwX1_size_0 ++ dktX1_size_1
theorem dksX1_size_0 : cX1_size.data.toList.drop 0 = dktX1_size_0 := by decide +kernel
theorem dksX1_size_1 : cX1_size.data.toList.drop 22 = dktX1_size_1 := dk_seg dksX1_size_0 22 rfl rfl
theorem dksX1_size_2 : cX1_size.data.toList.drop 35 = dktX1_size_2 := dk_seg dksX1_size_1 13 rfl rfl
theorem dksX1_size_3 : cX1_size.data.toList.drop 100 = dktX1_size_3 := dk_seg dksX1_size_2 65 rfl rfl
theorem dksX1_size_4 : cX1_size.data.toList.drop 124 = dktX1_size_4 := dk_seg dksX1_size_3 24 rfl rfl
theorem dksX1_size_5 : cX1_size.data.toList.drop 148 = dktX1_size_5 := dk_seg dksX1_size_4 24 rfl rfl
theorem dksX1_size_6 : cX1_size.data.toList.drop 172 = dktX1_size_6 := dk_seg dksX1_size_5 24 rfl rfl
theorem dksX1_size_7 : cX1_size.data.toList.drop 194 = dktX1_size_7 := dk_seg dksX1_size_6 22 rfl rfl
theorem dX1_size_0 : decode cX1_size 0 = .ok (.iload_n 1, 1) := dk_27 (dk_at dksX1_size_0 0 rfl rfl)
theorem dX1_size_1 : decode cX1_size 1 = .ok (.bipush 13, 2) := dk_16 13 (dk_at dksX1_size_0 1 rfl rfl)
theorem dX1_size_3 : decode cX1_size 3 = .ok (.if_icmp .ne 8, 3) := dk_160 0 8 (dk_at dksX1_size_0 3 rfl rfl)
theorem dX1_size_6 : decode cX1_size 6 = .ok (.aload_n 0, 1) := dk_42 (dk_at dksX1_size_0 6 rfl rfl)
theorem dX1_size_7 : decode cX1_size 7 = .ok (.getfield 86, 3) := dk_180 0 86 (dk_at dksX1_size_0 7 rfl rfl)
theorem dX1_size_10 : decode cX1_size 10 = .ok (.ireturn, 1) := dk_172 (dk_at dksX1_size_0 10 rfl rfl)
theorem dX1_size_11 : decode cX1_size 11 = .ok (.aload_n 0, 1) := dk_42 (dk_at dksX1_size_0 11 rfl rfl)
theorem dX1_size_12 : decode cX1_size 12 = .ok (.getfield 108, 3) := dk_180 0 108 (dk_at dksX1_size_0 12 rfl rfl)
theorem dX1_size_15 : decode cX1_size 15 = .ok (.ifnonnull 19, 3) := dk_199 0 19 (dk_at dksX1_size_0 15 rfl rfl)
theorem dX1_size_18 : decode cX1_size 18 = .ok (.iload_n 1, 1) := dk_27 (dk_at dksX1_size_0 18 rfl rfl)
theorem dX1_size_19 : decode cX1_size 19 = .ok (.iconst 0, 1) := dk_3 (dk_at dksX1_size_0 19 rfl rfl)
theorem dX1_size_20 : decode cX1_size 20 = .ok (.bipush 12, 2) := dk_16 12 (dk_at dksX1_size_0 20 rfl rfl)
theorem dX1_size_22 : decode cX1_size 22 = .ok (.invokestatic 93, 3) := dk_184 0 93 (dk_at dksX1_size_1 0 rfl rfl)
theorem dX1_size_25 : decode cX1_size 25 = .ok (.ifCond .eq 7, 3) := dk_153 0 7 (dk_at dksX1_size_1 3 rfl rfl)
theorem dX1_size_28 : decode cX1_size 28 = .ok (.iconst 0, 1) := dk_3 (dk_at dksX1_size_1 6 rfl rfl)
theorem dX1_size_29 : decode cX1_size 29 = .ok (.goto 4, 3) := dk_167 0 4 (dk_at dksX1_size_1 7 rfl rfl)
theorem dX1_size_32 : decode cX1_size 32 = .ok (.iconst (-1), 1) := dk_2 (dk_at dksX1_size_1 10 rfl rfl)
theorem dX1_size_33 : decode cX1_size 33 = .ok (.ireturn, 1) := dk_172 (dk_at dksX1_size_1 11 rfl rfl)
theorem dX1_size_34 : decode cX1_size 34 = .ok (.iload_n 1, 1) := dk_27 (dk_at dksX1_size_1 12 rfl rfl)
theorem dX1_size_35 : decode cX1_size 35 = .ok (.tableswitch 163 0 12 #[65, 73, 81, 89, 97, 105, 113, 121, 129, 137, 145, 153, 158], 65) := by decide +kernel
theorem dX1_size_100 : decode cX1_size 100 = .ok (.aload_n 0, 1) := dk_42 (dk_at dksX1_size_3 0 rfl rfl)
theorem dX1_size_101 : decode cX1_size 101 = .ok (.getfield 108, 3) := dk_180 0 108 (dk_at dksX1_size_3 1 rfl rfl)
theorem dX1_size_104 : decode cX1_size 104 = .ok (.getfield 424, 3) := dk_180 1 168 (dk_at dksX1_size_3 4 rfl rfl)
theorem dX1_size_107 : decode cX1_size 107 = .ok (.ireturn, 1) := dk_172 (dk_at dksX1_size_3 7 rfl rfl)
theorem dX1_size_108 : decode cX1_size 108 = .ok (.aload_n 0, 1) := dk_42 (dk_at dksX1_size_3 8 rfl rfl)
theorem dX1_size_109 : decode cX1_size 109 = .ok (.getfield 108, 3) := dk_180 0 108 (dk_at dksX1_size_3 9 rfl rfl)
theorem dX1_size_112 : decode cX1_size 112 = .ok (.getfield 427, 3) := dk_180 1 171 (dk_at dksX1_size_3 12 rfl rfl)
theorem dX1_size_115 : decode cX1_size 115 = .ok (.ireturn, 1) := dk_172 (dk_at dksX1_size_3 15 rfl rfl)
theorem dX1_size_116 : decode cX1_size 116 = .ok (.aload_n 0, 1) := dk_42 (dk_at dksX1_size_3 16 rfl rfl)
theorem dX1_size_117 : decode cX1_size 117 = .ok (.getfield 108, 3) := dk_180 0 108 (dk_at dksX1_size_3 17 rfl rfl)
theorem dX1_size_120 : decode cX1_size 120 = .ok (.getfield 430, 3) := dk_180 1 174 (dk_at dksX1_size_3 20 rfl rfl)
theorem dX1_size_123 : decode cX1_size 123 = .ok (.ireturn, 1) := dk_172 (dk_at dksX1_size_3 23 rfl rfl)
theorem dX1_size_124 : decode cX1_size 124 = .ok (.aload_n 0, 1) := dk_42 (dk_at dksX1_size_4 0 rfl rfl)
theorem dX1_size_125 : decode cX1_size 125 = .ok (.getfield 108, 3) := dk_180 0 108 (dk_at dksX1_size_4 1 rfl rfl)
theorem dX1_size_128 : decode cX1_size 128 = .ok (.getfield 433, 3) := dk_180 1 177 (dk_at dksX1_size_4 4 rfl rfl)
theorem dX1_size_131 : decode cX1_size 131 = .ok (.ireturn, 1) := dk_172 (dk_at dksX1_size_4 7 rfl rfl)
theorem dX1_size_132 : decode cX1_size 132 = .ok (.aload_n 0, 1) := dk_42 (dk_at dksX1_size_4 8 rfl rfl)
theorem dX1_size_133 : decode cX1_size 133 = .ok (.getfield 108, 3) := dk_180 0 108 (dk_at dksX1_size_4 9 rfl rfl)
theorem dX1_size_136 : decode cX1_size 136 = .ok (.getfield 385, 3) := dk_180 1 129 (dk_at dksX1_size_4 12 rfl rfl)
theorem dX1_size_139 : decode cX1_size 139 = .ok (.ireturn, 1) := dk_172 (dk_at dksX1_size_4 15 rfl rfl)
theorem dX1_size_140 : decode cX1_size 140 = .ok (.aload_n 0, 1) := dk_42 (dk_at dksX1_size_4 16 rfl rfl)
theorem dX1_size_141 : decode cX1_size 141 = .ok (.getfield 108, 3) := dk_180 0 108 (dk_at dksX1_size_4 17 rfl rfl)
theorem dX1_size_144 : decode cX1_size 144 = .ok (.getfield 128, 3) := dk_180 0 128 (dk_at dksX1_size_4 20 rfl rfl)
theorem dX1_size_147 : decode cX1_size 147 = .ok (.ireturn, 1) := dk_172 (dk_at dksX1_size_4 23 rfl rfl)
theorem dX1_size_148 : decode cX1_size 148 = .ok (.aload_n 0, 1) := dk_42 (dk_at dksX1_size_5 0 rfl rfl)
theorem dX1_size_149 : decode cX1_size 149 = .ok (.getfield 108, 3) := dk_180 0 108 (dk_at dksX1_size_5 1 rfl rfl)
theorem dX1_size_152 : decode cX1_size 152 = .ok (.getfield 133, 3) := dk_180 0 133 (dk_at dksX1_size_5 4 rfl rfl)
theorem dX1_size_155 : decode cX1_size 155 = .ok (.ireturn, 1) := dk_172 (dk_at dksX1_size_5 7 rfl rfl)
theorem dX1_size_156 : decode cX1_size 156 = .ok (.aload_n 0, 1) := dk_42 (dk_at dksX1_size_5 8 rfl rfl)
theorem dX1_size_157 : decode cX1_size 157 = .ok (.getfield 108, 3) := dk_180 0 108 (dk_at dksX1_size_5 9 rfl rfl)
theorem dX1_size_160 : decode cX1_size 160 = .ok (.getfield 434, 3) := dk_180 1 178 (dk_at dksX1_size_5 12 rfl rfl)
theorem dX1_size_163 : decode cX1_size 163 = .ok (.ireturn, 1) := dk_172 (dk_at dksX1_size_5 15 rfl rfl)
theorem dX1_size_164 : decode cX1_size 164 = .ok (.aload_n 0, 1) := dk_42 (dk_at dksX1_size_5 16 rfl rfl)
theorem dX1_size_165 : decode cX1_size 165 = .ok (.getfield 108, 3) := dk_180 0 108 (dk_at dksX1_size_5 17 rfl rfl)
theorem dX1_size_168 : decode cX1_size 168 = .ok (.getfield 326, 3) := dk_180 1 70 (dk_at dksX1_size_5 20 rfl rfl)
theorem dX1_size_171 : decode cX1_size 171 = .ok (.ireturn, 1) := dk_172 (dk_at dksX1_size_5 23 rfl rfl)
theorem dX1_size_172 : decode cX1_size 172 = .ok (.aload_n 0, 1) := dk_42 (dk_at dksX1_size_6 0 rfl rfl)
theorem dX1_size_173 : decode cX1_size 173 = .ok (.getfield 108, 3) := dk_180 0 108 (dk_at dksX1_size_6 1 rfl rfl)
theorem dX1_size_176 : decode cX1_size 176 = .ok (.getfield 360, 3) := dk_180 1 104 (dk_at dksX1_size_6 4 rfl rfl)
theorem dX1_size_179 : decode cX1_size 179 = .ok (.ireturn, 1) := dk_172 (dk_at dksX1_size_6 7 rfl rfl)
theorem dX1_size_180 : decode cX1_size 180 = .ok (.aload_n 0, 1) := dk_42 (dk_at dksX1_size_6 8 rfl rfl)
theorem dX1_size_181 : decode cX1_size 181 = .ok (.getfield 33, 3) := dk_180 0 33 (dk_at dksX1_size_6 9 rfl rfl)
theorem dX1_size_184 : decode cX1_size 184 = .ok (.getfield 394, 3) := dk_180 1 138 (dk_at dksX1_size_6 12 rfl rfl)
theorem dX1_size_187 : decode cX1_size 187 = .ok (.ireturn, 1) := dk_172 (dk_at dksX1_size_6 15 rfl rfl)
theorem dX1_size_188 : decode cX1_size 188 = .ok (.aload_n 0, 1) := dk_42 (dk_at dksX1_size_6 16 rfl rfl)
theorem dX1_size_189 : decode cX1_size 189 = .ok (.getfield 122, 3) := dk_180 0 122 (dk_at dksX1_size_6 17 rfl rfl)
theorem dX1_size_192 : decode cX1_size 192 = .ok (.ireturn, 1) := dk_172 (dk_at dksX1_size_6 20 rfl rfl)
theorem dX1_size_193 : decode cX1_size 193 = .ok (.aload_n 0, 1) := dk_42 (dk_at dksX1_size_6 21 rfl rfl)
theorem dX1_size_194 : decode cX1_size 194 = .ok (.getfield 125, 3) := dk_180 0 125 (dk_at dksX1_size_7 0 rfl rfl)
theorem dX1_size_197 : decode cX1_size 197 = .ok (.ireturn, 1) := dk_172 (dk_at dksX1_size_7 3 rfl rfl)
theorem dX1_size_198 : decode cX1_size 198 = .ok (.iconst (-1), 1) := dk_2 (dk_at dksX1_size_7 4 rfl rfl)
theorem dX1_size_199 : decode cX1_size 199 = .ok (.ireturn, 1) := dk_172 (dk_at dksX1_size_7 5 rfl rfl)
abbrev cX1_trouble : ByteArray := prog_1_method_76_code
def yX1_trouble : MethodName := ⟨RX1, "trouble", "()I"⟩
theorem dX1_trouble_0 : decode cX1_trouble 0 = .ok (.aload_n 0, 1) := by decide +kernel
theorem dX1_trouble_1 : decode cX1_trouble 1 = .ok (.getfield 80, 3) := by decide +kernel
theorem dX1_trouble_4 : decode cX1_trouble 4 = .ok (.ireturn, 1) := by decide +kernel
abbrev cX1_led : ByteArray := prog_1_method_74_code
def yX1_led : MethodName := ⟨RX1, "led", "(I)I"⟩
def dkwX1_led_2 : List UInt8 := [132, 2, 1, 132, 3, 1, 167, 255, 208, 187, 1, 165, 89, 183, 1, 167, 191]
abbrev dktX1_led_2 : List UInt8 := dkwX1_led_2 ++ []
def dkwX1_led_1 : List UInt8 := [180, 0, 33, 180, 0, 166, 29, 184, 0, 155, 153, 0, 6, 167, 0, 13, 28, 27, 160, 0, 5, 29, 172]
abbrev dktX1_led_1 : List UInt8 := dkwX1_led_1 ++ dktX1_led_2
def dkwX1_led_0 : List UInt8 := [3, 61, 3, 62, 42, 180, 0, 108, 198, 0, 47, 29, 42, 180, 0, 108, 180, 0, 128, 162, 0, 36, 42]
abbrev dktX1_led_0 : List UInt8 := dkwX1_led_0 ++ dktX1_led_1
theorem dksX1_led_0 : cX1_led.data.toList.drop 0 = dktX1_led_0 := by decide +kernel
theorem dksX1_led_1 : cX1_led.data.toList.drop 23 = dktX1_led_1 := dk_seg dksX1_led_0 23 rfl rfl
theorem dksX1_led_2 : cX1_led.data.toList.drop 46 = dktX1_led_2 := dk_seg dksX1_led_1 23 rfl rfl
theorem dX1_led_0 : decode cX1_led 0 = .ok (.iconst 0, 1) := dk_3 (dk_at dksX1_led_0 0 rfl rfl)
theorem dX1_led_1 : decode cX1_led 1 = .ok (.istore_n 2, 1) := dk_61 (dk_at dksX1_led_0 1 rfl rfl)
theorem dX1_led_2 : decode cX1_led 2 = .ok (.iconst 0, 1) := dk_3 (dk_at dksX1_led_0 2 rfl rfl)
theorem dX1_led_3 : decode cX1_led 3 = .ok (.istore_n 3, 1) := dk_62 (dk_at dksX1_led_0 3 rfl rfl)
theorem dX1_led_4 : decode cX1_led 4 = .ok (.aload_n 0, 1) := dk_42 (dk_at dksX1_led_0 4 rfl rfl)
theorem dX1_led_5 : decode cX1_led 5 = .ok (.getfield 108, 3) := dk_180 0 108 (dk_at dksX1_led_0 5 rfl rfl)
theorem dX1_led_8 : decode cX1_led 8 = .ok (.ifnull 47, 3) := dk_198 0 47 (dk_at dksX1_led_0 8 rfl rfl)
theorem dX1_led_11 : decode cX1_led 11 = .ok (.iload_n 3, 1) := dk_29 (dk_at dksX1_led_0 11 rfl rfl)
theorem dX1_led_12 : decode cX1_led 12 = .ok (.aload_n 0, 1) := dk_42 (dk_at dksX1_led_0 12 rfl rfl)
theorem dX1_led_13 : decode cX1_led 13 = .ok (.getfield 108, 3) := dk_180 0 108 (dk_at dksX1_led_0 13 rfl rfl)
theorem dX1_led_16 : decode cX1_led 16 = .ok (.getfield 128, 3) := dk_180 0 128 (dk_at dksX1_led_0 16 rfl rfl)
theorem dX1_led_19 : decode cX1_led 19 = .ok (.if_icmp .ge 36, 3) := dk_162 0 36 (dk_at dksX1_led_0 19 rfl rfl)
theorem dX1_led_22 : decode cX1_led 22 = .ok (.aload_n 0, 1) := dk_42 (dk_at dksX1_led_0 22 rfl rfl)
theorem dX1_led_23 : decode cX1_led 23 = .ok (.getfield 33, 3) := dk_180 0 33 (dk_at dksX1_led_1 0 rfl rfl)
theorem dX1_led_26 : decode cX1_led 26 = .ok (.getfield 166, 3) := dk_180 0 166 (dk_at dksX1_led_1 3 rfl rfl)
theorem dX1_led_29 : decode cX1_led 29 = .ok (.iload_n 3, 1) := dk_29 (dk_at dksX1_led_1 6 rfl rfl)
theorem dX1_led_30 : decode cX1_led 30 = .ok (.invokestatic 155, 3) := dk_184 0 155 (dk_at dksX1_led_1 7 rfl rfl)
theorem dX1_led_33 : decode cX1_led 33 = .ok (.ifCond .eq 6, 3) := dk_153 0 6 (dk_at dksX1_led_1 10 rfl rfl)
theorem dX1_led_36 : decode cX1_led 36 = .ok (.goto 13, 3) := dk_167 0 13 (dk_at dksX1_led_1 13 rfl rfl)
theorem dX1_led_39 : decode cX1_led 39 = .ok (.iload_n 2, 1) := dk_28 (dk_at dksX1_led_1 16 rfl rfl)
theorem dX1_led_40 : decode cX1_led 40 = .ok (.iload_n 1, 1) := dk_27 (dk_at dksX1_led_1 17 rfl rfl)
theorem dX1_led_41 : decode cX1_led 41 = .ok (.if_icmp .ne 5, 3) := dk_160 0 5 (dk_at dksX1_led_1 18 rfl rfl)
theorem dX1_led_44 : decode cX1_led 44 = .ok (.iload_n 3, 1) := dk_29 (dk_at dksX1_led_1 21 rfl rfl)
theorem dX1_led_45 : decode cX1_led 45 = .ok (.ireturn, 1) := dk_172 (dk_at dksX1_led_1 22 rfl rfl)
theorem dX1_led_46 : decode cX1_led 46 = .ok (.iinc 2 1, 3) := dk_132 2 1 (dk_at dksX1_led_2 0 rfl rfl)
theorem dX1_led_49 : decode cX1_led 49 = .ok (.iinc 3 1, 3) := dk_132 3 1 (dk_at dksX1_led_2 3 rfl rfl)
theorem dX1_led_52 : decode cX1_led 52 = .ok (.goto (-48), 3) := dk_167 255 208 (dk_at dksX1_led_2 6 rfl rfl)
theorem dX1_led_55 : decode cX1_led 55 = .ok (.new 421, 3) := dk_187 1 165 (dk_at dksX1_led_2 9 rfl rfl)
theorem dX1_led_58 : decode cX1_led 58 = .ok (.dup, 1) := dk_89 (dk_at dksX1_led_2 12 rfl rfl)
theorem dX1_led_59 : decode cX1_led 59 = .ok (.invokespecial 423, 3) := dk_183 1 167 (dk_at dksX1_led_2 13 rfl rfl)
theorem dX1_led_62 : decode cX1_led 62 = .ok (.athrow, 1) := dk_191 (dk_at dksX1_led_2 16 rfl rfl)
theorem q136 : (Jvm.Cond.initialized "LongerHalf") ∈ lw_all := lw_g (lw_at lw_m1 1 rfl) rfl
theorem q169 : (Jvm.Cond.instantiable "LongerHalf" (21 : Nat)) ∈ lw_all := lw_g (lw_at lw_m1 34 rfl) rfl
theorem q171 : (Jvm.Cond.instanceMethod ({ cls := "LongerHalf", name := "<init>", desc := "()V" } : Jvm.MethodName)) ∈ lw_all := lw_g (lw_at lw_m1 36 rfl) rfl
theorem q172 : (Jvm.Cond.code ({ cls := "LongerHalf", name := "<init>", desc := "()V" } : Jvm.MethodName) prog_1_method_5_code (2 : Nat) (Option.none : Option Jvm.ClassFile.FieldType)) ∈ lw_all := lw_g (lw_at lw_m1 37 rfl) rfl
theorem q173 : (Jvm.Cond.methodLink "LongerHalf" (7 : Nat) ({ cls := "java/lang/Object", name := "<init>", desc := "()V" } : Jvm.MethodName)) ∈ lw_all := lw_g (lw_at lw_m1 38 rfl) rfl
theorem q176 : (Jvm.Cond.classLink "LongerHalf" (17 : Nat) "LongerHalf$Reader") ∈ lw_all := lw_g (lw_at lw_m1 41 rfl) rfl
theorem q178 : (Jvm.Cond.methodLink "LongerHalf" (19 : Nat) ({ cls := "LongerHalf$Reader", name := "<init>", desc := "([B)V" } : Jvm.MethodName)) ∈ lw_all := lw_g (lw_at lw_m1 43 rfl) rfl
theorem q235 : (Jvm.Cond.fieldLink "LongerHalf" (114 : Nat) "LongerHalf$Refused" "fault" "I") ∈ lw_all := lw_g (lw_at lw_m1 100 rfl) rfl
theorem q237 : (Jvm.Cond.fieldLink "LongerHalf" (115 : Nat) "LongerHalf$Refused" "place" "I") ∈ lw_all := lw_g (lw_at lw_m1 102 rfl) rfl
theorem q288 : (Jvm.Cond.classLink "LongerHalf" (30 : Nat) "LongerHalf$Drawer") ∈ lw_all := lw_g (lw_at lw_m1 153 rfl) rfl
theorem q290 : (Jvm.Cond.methodLinkNest "LongerHalf" (32 : Nat) ({ cls := "LongerHalf$Drawer", name := "<init>", desc := "()V" } : Jvm.MethodName) "LongerHalf") ∈ lw_tbl := lw_at lw_m1 155 rfl
theorem q295 : (Jvm.Cond.fieldLink "LongerHalf" (163 : Nat) "LongerHalf$Drawer" "dry" "[I") ∈ lw_all := lw_g (lw_at lw_m1 160 rfl) rfl
theorem q297 : (Jvm.Cond.fieldLink "LongerHalf" (198 : Nat) "LongerHalf$Drawer" "wins" "[I") ∈ lw_all := lw_g (lw_at lw_m1 162 rfl) rfl
theorem q299 : (Jvm.Cond.fieldLink "LongerHalf" (152 : Nat) "LongerHalf$Drawer" "boiled" "I") ∈ lw_all := lw_g (lw_at lw_m1 164 rfl) rfl
theorem q301 : (Jvm.Cond.fieldLink "LongerHalf" (166 : Nat) "LongerHalf$Drawer" "gone" "I") ∈ lw_all := lw_g (lw_at lw_m1 166 rfl) rfl
theorem q303 : (Jvm.Cond.fieldLink "LongerHalf" (394 : Nat) "LongerHalf$Drawer" "seed" "I") ∈ lw_all := lw_g (lw_at lw_m1 168 rfl) rfl
theorem q316 : (Jvm.Cond.classLink "LongerHalf" (43 : Nat) "LongerHalf$Pull") ∈ lw_all := lw_g (lw_at lw_m1 181 rfl) rfl
theorem q318 : (Jvm.Cond.methodLinkNest "LongerHalf" (45 : Nat) ({ cls := "LongerHalf$Pull", name := "<init>", desc := "()V" } : Jvm.MethodName) "LongerHalf") ∈ lw_tbl := lw_at lw_m1 183 rfl
theorem q328 : (Jvm.Cond.fieldLinkNest "LongerHalf" (387 : Nat) "LongerHalf$Pull" "bone" "LLongerHalf$Bone;" "LongerHalf") ∈ lw_tbl := lw_at lw_m1 193 rfl
theorem q335 : (Jvm.Cond.fieldLink "LongerHalf" (240 : Nat) "LongerHalf$Pull" "arm" "I") ∈ lw_all := lw_g (lw_at lw_m1 200 rfl) rfl
theorem q337 : (Jvm.Cond.fieldLink "LongerHalf" (243 : Nat) "LongerHalf$Pull" "place" "I") ∈ lw_all := lw_g (lw_at lw_m1 202 rfl) rfl
theorem q361 : (Jvm.Cond.classLink "LongerHalf" (50 : Nat) "LongerHalf$Game") ∈ lw_all := lw_g (lw_at lw_m1 226 rfl) rfl
theorem q363 : (Jvm.Cond.methodLink "LongerHalf" (52 : Nat) ({ cls := "LongerHalf$Game", name := "<init>", desc := "(LLongerHalf$Pull;)V" } : Jvm.MethodName)) ∈ lw_all := lw_g (lw_at lw_m1 228 rfl) rfl
theorem q374 : (Jvm.Cond.fieldLink "LongerHalf" (278 : Nat) "LongerHalf$Game" "rests" "I") ∈ lw_all := lw_g (lw_at lw_m1 239 rfl) rfl
theorem q376 : (Jvm.Cond.fieldLink "LongerHalf" (281 : Nat) "LongerHalf$Game" "first" "I") ∈ lw_all := lw_g (lw_at lw_m2 1 rfl) rfl
theorem q395 : (Jvm.Cond.classLink "LongerHalf" (59 : Nat) "LongerHalf$Turns") ∈ lw_all := lw_g (lw_at lw_m2 20 rfl) rfl
theorem q397 : (Jvm.Cond.methodLinkNest "LongerHalf" (61 : Nat) ({ cls := "LongerHalf$Turns", name := "<init>", desc := "()V" } : Jvm.MethodName) "LongerHalf") ∈ lw_tbl := lw_at lw_m2 22 rfl
theorem q418 : (Jvm.Cond.fieldLink "LongerHalf" (13 : Nat) "LongerHalf" "tape" "[B") ∈ lw_all := lw_g (lw_at lw_m2 43 rfl) rfl
theorem q419 : (Jvm.Cond.fieldLink "LongerHalf" (86 : Nat) "LongerHalf" "taped" "I") ∈ lw_all := lw_g (lw_at lw_m2 44 rfl) rfl
theorem q420 : (Jvm.Cond.fieldLink "LongerHalf" (22 : Nat) "LongerHalf" "reader" "LLongerHalf$Reader;") ∈ lw_all := lw_g (lw_at lw_m2 45 rfl) rfl
theorem q421 : (Jvm.Cond.fieldLink "LongerHalf" (108 : Nat) "LongerHalf" "kitchen" "LLongerHalf$Kitchen;") ∈ lw_all := lw_g (lw_at lw_m2 46 rfl) rfl
theorem q422 : (Jvm.Cond.fieldLink "LongerHalf" (80 : Nat) "LongerHalf" "trouble" "I") ∈ lw_all := lw_g (lw_at lw_m2 47 rfl) rfl
theorem q423 : (Jvm.Cond.fieldLink "LongerHalf" (101 : Nat) "LongerHalf" "fault" "I") ∈ lw_all := lw_g (lw_at lw_m2 48 rfl) rfl
theorem q424 : (Jvm.Cond.fieldLink "LongerHalf" (26 : Nat) "LongerHalf" "where" "I") ∈ lw_all := lw_g (lw_at lw_m2 49 rfl) rfl
theorem q425 : (Jvm.Cond.fieldLink "LongerHalf" (125 : Nat) "LongerHalf" "markMany" "I") ∈ lw_all := lw_g (lw_at lw_m2 50 rfl) rfl
theorem q426 : (Jvm.Cond.fieldLink "LongerHalf" (122 : Nat) "LongerHalf" "undoMany" "I") ∈ lw_all := lw_g (lw_at lw_m2 51 rfl) rfl
theorem q427 : (Jvm.Cond.fieldLink "LongerHalf" (33 : Nat) "LongerHalf" "drawer" "LLongerHalf$Drawer;") ∈ lw_all := lw_g (lw_at lw_m2 52 rfl) rfl
theorem q428 : (Jvm.Cond.fieldLink "LongerHalf" (37 : Nat) "LongerHalf" "was" "LLongerHalf$Drawer;") ∈ lw_all := lw_g (lw_at lw_m2 53 rfl) rfl
theorem q429 : (Jvm.Cond.fieldLink "LongerHalf" (40 : Nat) "LongerHalf" "trial" "LLongerHalf$Drawer;") ∈ lw_all := lw_g (lw_at lw_m2 54 rfl) rfl
theorem q430 : (Jvm.Cond.fieldLink "LongerHalf" (46 : Nat) "LongerHalf" "pull" "LLongerHalf$Pull;") ∈ lw_all := lw_g (lw_at lw_m2 55 rfl) rfl
theorem q431 : (Jvm.Cond.fieldLink "LongerHalf" (55 : Nat) "LongerHalf" "game" "LLongerHalf$Game;") ∈ lw_all := lw_g (lw_at lw_m2 56 rfl) rfl
theorem q432 : (Jvm.Cond.fieldLink "LongerHalf" (62 : Nat) "LongerHalf" "turns" "LLongerHalf$Turns;") ∈ lw_all := lw_g (lw_at lw_m2 57 rfl) rfl
theorem q433 : (Jvm.Cond.fieldLink "LongerHalf" (66 : Nat) "LongerHalf" "undone" "[LLongerHalf$Drawer;") ∈ lw_all := lw_g (lw_at lw_m2 58 rfl) rfl
theorem q434 : (Jvm.Cond.fieldLink "LongerHalf" (70 : Nat) "LongerHalf" "marks" "[LLongerHalf$Drawer;") ∈ lw_all := lw_g (lw_at lw_m2 59 rfl) rfl
theorem q435 : (Jvm.Cond.fieldLink "LongerHalf" (363 : Nat) "LongerHalf" "knobMany" "I") ∈ lw_all := lw_g (lw_at lw_m2 60 rfl) rfl
theorem q436 : (Jvm.Cond.fieldLink "LongerHalf" (366 : Nat) "LongerHalf" "knobOwners" "I") ∈ lw_all := lw_g (lw_at lw_m2 61 rfl) rfl
theorem q437 : (Jvm.Cond.fieldLink "LongerHalf" (73 : Nat) "LongerHalf" "yearWins" "[I") ∈ lw_all := lw_g (lw_at lw_m2 62 rfl) rfl
theorem q438 : (Jvm.Cond.fieldLink "LongerHalf" (77 : Nat) "LongerHalf" "yearSpoilt" "[I") ∈ lw_all := lw_g (lw_at lw_m2 63 rfl) rfl
theorem q439 : (Jvm.Cond.laysFinal "LongerHalf" "LongerHalf" "tape" "[B") ∈ lw_all := lw_g (lw_at lw_m2 64 rfl) rfl
theorem q440 : (Jvm.Cond.soleField "LongerHalf" "tape") ∈ lw_all := lw_g (lw_at lw_m2 65 rfl) rfl
theorem q441 : (Jvm.Cond.lays "LongerHalf" "LongerHalf" "taped" "I") ∈ lw_all := lw_g (lw_at lw_m2 66 rfl) rfl
theorem q442 : (Jvm.Cond.soleField "LongerHalf" "taped") ∈ lw_all := lw_g (lw_at lw_m2 67 rfl) rfl
theorem q443 : (Jvm.Cond.laysFinal "LongerHalf" "LongerHalf" "reader" "LLongerHalf$Reader;") ∈ lw_all := lw_g (lw_at lw_m2 68 rfl) rfl
theorem q444 : (Jvm.Cond.soleField "LongerHalf" "reader") ∈ lw_all := lw_g (lw_at lw_m2 69 rfl) rfl
theorem q445 : (Jvm.Cond.lays "LongerHalf" "LongerHalf" "kitchen" "LLongerHalf$Kitchen;") ∈ lw_all := lw_g (lw_at lw_m2 70 rfl) rfl
theorem q446 : (Jvm.Cond.soleField "LongerHalf" "kitchen") ∈ lw_all := lw_g (lw_at lw_m2 71 rfl) rfl
theorem q447 : (Jvm.Cond.lays "LongerHalf" "LongerHalf" "trouble" "I") ∈ lw_all := lw_g (lw_at lw_m2 72 rfl) rfl
theorem q448 : (Jvm.Cond.soleField "LongerHalf" "trouble") ∈ lw_all := lw_g (lw_at lw_m2 73 rfl) rfl
theorem q449 : (Jvm.Cond.lays "LongerHalf" "LongerHalf" "fault" "I") ∈ lw_all := lw_g (lw_at lw_m2 74 rfl) rfl
theorem q450 : (Jvm.Cond.soleField "LongerHalf" "fault") ∈ lw_all := lw_g (lw_at lw_m2 75 rfl) rfl
theorem q451 : (Jvm.Cond.lays "LongerHalf" "LongerHalf" "where" "I") ∈ lw_all := lw_g (lw_at lw_m2 76 rfl) rfl
theorem q452 : (Jvm.Cond.soleField "LongerHalf" "where") ∈ lw_all := lw_g (lw_at lw_m2 77 rfl) rfl
theorem q453 : (Jvm.Cond.lays "LongerHalf" "LongerHalf" "markMany" "I") ∈ lw_all := lw_g (lw_at lw_m2 78 rfl) rfl
theorem q454 : (Jvm.Cond.soleField "LongerHalf" "markMany") ∈ lw_all := lw_g (lw_at lw_m2 79 rfl) rfl
theorem q455 : (Jvm.Cond.lays "LongerHalf" "LongerHalf" "undoMany" "I") ∈ lw_all := lw_g (lw_at lw_m2 80 rfl) rfl
theorem q456 : (Jvm.Cond.soleField "LongerHalf" "undoMany") ∈ lw_all := lw_g (lw_at lw_m2 81 rfl) rfl
theorem q457 : (Jvm.Cond.laysFinal "LongerHalf" "LongerHalf" "drawer" "LLongerHalf$Drawer;") ∈ lw_all := lw_g (lw_at lw_m2 82 rfl) rfl
theorem q458 : (Jvm.Cond.soleField "LongerHalf" "drawer") ∈ lw_all := lw_g (lw_at lw_m2 83 rfl) rfl
theorem q459 : (Jvm.Cond.laysFinal "LongerHalf" "LongerHalf" "was" "LLongerHalf$Drawer;") ∈ lw_all := lw_g (lw_at lw_m2 84 rfl) rfl
theorem q460 : (Jvm.Cond.soleField "LongerHalf" "was") ∈ lw_all := lw_g (lw_at lw_m2 85 rfl) rfl
theorem q461 : (Jvm.Cond.laysFinal "LongerHalf" "LongerHalf" "trial" "LLongerHalf$Drawer;") ∈ lw_all := lw_g (lw_at lw_m2 86 rfl) rfl
theorem q462 : (Jvm.Cond.soleField "LongerHalf" "trial") ∈ lw_all := lw_g (lw_at lw_m2 87 rfl) rfl
theorem q463 : (Jvm.Cond.laysFinal "LongerHalf" "LongerHalf" "pull" "LLongerHalf$Pull;") ∈ lw_all := lw_g (lw_at lw_m2 88 rfl) rfl
theorem q464 : (Jvm.Cond.soleField "LongerHalf" "pull") ∈ lw_all := lw_g (lw_at lw_m2 89 rfl) rfl
theorem q465 : (Jvm.Cond.laysFinal "LongerHalf" "LongerHalf" "game" "LLongerHalf$Game;") ∈ lw_all := lw_g (lw_at lw_m2 90 rfl) rfl
theorem q466 : (Jvm.Cond.soleField "LongerHalf" "game") ∈ lw_all := lw_g (lw_at lw_m2 91 rfl) rfl
theorem q467 : (Jvm.Cond.laysFinal "LongerHalf" "LongerHalf" "turns" "LLongerHalf$Turns;") ∈ lw_all := lw_g (lw_at lw_m2 92 rfl) rfl
theorem q468 : (Jvm.Cond.soleField "LongerHalf" "turns") ∈ lw_all := lw_g (lw_at lw_m2 93 rfl) rfl
theorem q469 : (Jvm.Cond.laysFinal "LongerHalf" "LongerHalf" "undone" "[LLongerHalf$Drawer;") ∈ lw_all := lw_g (lw_at lw_m2 94 rfl) rfl
theorem q470 : (Jvm.Cond.soleField "LongerHalf" "undone") ∈ lw_all := lw_g (lw_at lw_m2 95 rfl) rfl
theorem q471 : (Jvm.Cond.laysFinal "LongerHalf" "LongerHalf" "marks" "[LLongerHalf$Drawer;") ∈ lw_all := lw_g (lw_at lw_m2 96 rfl) rfl
theorem q472 : (Jvm.Cond.soleField "LongerHalf" "marks") ∈ lw_all := lw_g (lw_at lw_m2 97 rfl) rfl
theorem q473 : (Jvm.Cond.lays "LongerHalf" "LongerHalf" "knobMany" "I") ∈ lw_all := lw_g (lw_at lw_m2 98 rfl) rfl
theorem q474 : (Jvm.Cond.soleField "LongerHalf" "knobMany") ∈ lw_all := lw_g (lw_at lw_m2 99 rfl) rfl
theorem q475 : (Jvm.Cond.lays "LongerHalf" "LongerHalf" "knobOwners" "I") ∈ lw_all := lw_g (lw_at lw_m2 100 rfl) rfl
theorem q476 : (Jvm.Cond.soleField "LongerHalf" "knobOwners") ∈ lw_all := lw_g (lw_at lw_m2 101 rfl) rfl
theorem q477 : (Jvm.Cond.laysFinal "LongerHalf" "LongerHalf" "yearWins" "[I") ∈ lw_all := lw_g (lw_at lw_m2 102 rfl) rfl
theorem q478 : (Jvm.Cond.soleField "LongerHalf" "yearWins") ∈ lw_all := lw_g (lw_at lw_m2 103 rfl) rfl
theorem q479 : (Jvm.Cond.laysFinal "LongerHalf" "LongerHalf" "yearSpoilt" "[I") ∈ lw_all := lw_g (lw_at lw_m2 104 rfl) rfl
theorem q480 : (Jvm.Cond.soleField "LongerHalf" "yearSpoilt") ∈ lw_all := lw_g (lw_at lw_m2 105 rfl) rfl
theorem q481 : (Jvm.Cond.superclass "LongerHalf" "java/lang/Object") ∈ lw_all := lw_g (lw_at lw_m2 106 rfl) rfl
theorem q483 : (Jvm.Cond.instanceMethod ({ cls := "LongerHalf", name := "feed", desc := "(IIIII)I" } : Jvm.MethodName)) ∈ lw_all := lw_g (lw_at lw_m2 108 rfl) rfl
theorem q484 : (Jvm.Cond.selects "LongerHalf" ({ cls := "LongerHalf", name := "feed", desc := "(IIIII)I" } : Jvm.MethodName) ({ cls := "LongerHalf", name := "feed", desc := "(IIIII)I" } : Jvm.MethodName)) ∈ lw_all := lw_g (lw_at lw_m2 109 rfl) rfl
theorem q485 : (Jvm.Cond.code ({ cls := "LongerHalf", name := "feed", desc := "(IIIII)I" } : Jvm.MethodName) prog_1_method_9_code (6 : Nat) (Option.some Jvm.ClassFile.FieldType.int)) ∈ lw_all := lw_g (lw_at lw_m2 110 rfl) rfl
theorem q486 : (Jvm.Cond.methodLink "LongerHalf" (89 : Nat) ({ cls := "LongerHalf", name := "bytes", desc := "(I)V" } : Jvm.MethodName)) ∈ lw_all := lw_g (lw_at lw_m2 111 rfl) rfl
theorem q487 : (Jvm.Cond.privateMethod ({ cls := "LongerHalf", name := "bytes", desc := "(I)V" } : Jvm.MethodName)) ∈ lw_tbl := lw_at lw_m2 112 rfl
theorem q488 : (Jvm.Cond.instanceMethod ({ cls := "LongerHalf", name := "bytes", desc := "(I)V" } : Jvm.MethodName)) ∈ lw_all := lw_g (lw_at lw_m2 113 rfl) rfl
theorem q489 : (Jvm.Cond.code ({ cls := "LongerHalf", name := "bytes", desc := "(I)V" } : Jvm.MethodName) prog_1_method_10_code (3 : Nat) (Option.none : Option Jvm.ClassFile.FieldType)) ∈ lw_all := lw_g (lw_at lw_m2 114 rfl) rfl
theorem q491 : (Jvm.Cond.instanceMethod ({ cls := "LongerHalf", name := "kitchen", desc := "(I)I" } : Jvm.MethodName)) ∈ lw_all := lw_g (lw_at lw_m2 116 rfl) rfl
theorem q492 : (Jvm.Cond.selects "LongerHalf" ({ cls := "LongerHalf", name := "kitchen", desc := "(I)I" } : Jvm.MethodName) ({ cls := "LongerHalf", name := "kitchen", desc := "(I)I" } : Jvm.MethodName)) ∈ lw_all := lw_g (lw_at lw_m2 117 rfl) rfl
theorem q493 : (Jvm.Cond.codeWith ({ cls := "LongerHalf", name := "kitchen", desc := "(I)I" } : Jvm.MethodName) prog_1_method_11_code (3 : Nat) (Option.some Jvm.ClassFile.FieldType.int) [((32 : Nat), (44 : Nat), (47 : Nat), (112 : Nat))]) ∈ lw_all := lw_g (lw_at lw_m2 118 rfl) rfl
theorem q494 : (Jvm.Cond.classLink "LongerHalf" (112 : Nat) "LongerHalf$Refused") ∈ lw_all := lw_g (lw_at lw_m2 119 rfl) rfl
theorem q495 : (Jvm.Cond.methodLink "LongerHalf" (83 : Nat) ({ cls := "LongerHalf", name := "anew", desc := "()V" } : Jvm.MethodName)) ∈ lw_all := lw_g (lw_at lw_m2 120 rfl) rfl
theorem q496 : (Jvm.Cond.privateMethod ({ cls := "LongerHalf", name := "anew", desc := "()V" } : Jvm.MethodName)) ∈ lw_tbl := lw_at lw_m2 121 rfl
theorem q497 : (Jvm.Cond.instanceMethod ({ cls := "LongerHalf", name := "anew", desc := "()V" } : Jvm.MethodName)) ∈ lw_all := lw_g (lw_at lw_m2 122 rfl) rfl
theorem q498 : (Jvm.Cond.code ({ cls := "LongerHalf", name := "anew", desc := "()V" } : Jvm.MethodName) prog_1_method_6_code (1 : Nat) (Option.none : Option Jvm.ClassFile.FieldType)) ∈ lw_all := lw_g (lw_at lw_m2 123 rfl) rfl
theorem q499 : (Jvm.Cond.methodLink "LongerHalf" (93 : Nat) ({ cls := "LongerHalf", name := "in", desc := "(III)Z" } : Jvm.MethodName)) ∈ lw_all := lw_g (lw_at lw_m2 124 rfl) rfl
theorem q500 : (Jvm.Cond.static ({ cls := "LongerHalf", name := "in", desc := "(III)Z" } : Jvm.MethodName)) ∈ lw_all := lw_g (lw_at lw_m2 125 rfl) rfl
theorem q501 : (Jvm.Cond.code ({ cls := "LongerHalf", name := "in", desc := "(III)Z" } : Jvm.MethodName) prog_1_method_1_code (3 : Nat) (Option.some Jvm.ClassFile.FieldType.boolean)) ∈ lw_all := lw_g (lw_at lw_m2 126 rfl) rfl
theorem q502 : (Jvm.Cond.methodLink "LongerHalf" (97 : Nat) ({ cls := "LongerHalf", name := "no", desc := "(I)I" } : Jvm.MethodName)) ∈ lw_all := lw_g (lw_at lw_m2 127 rfl) rfl
theorem q503 : (Jvm.Cond.privateMethod ({ cls := "LongerHalf", name := "no", desc := "(I)I" } : Jvm.MethodName)) ∈ lw_tbl := lw_at lw_m2 128 rfl
theorem q504 : (Jvm.Cond.instanceMethod ({ cls := "LongerHalf", name := "no", desc := "(I)I" } : Jvm.MethodName)) ∈ lw_all := lw_g (lw_at lw_m2 129 rfl) rfl
theorem q505 : (Jvm.Cond.code ({ cls := "LongerHalf", name := "no", desc := "(I)I" } : Jvm.MethodName) prog_1_method_7_code (2 : Nat) (Option.some Jvm.ClassFile.FieldType.int)) ∈ lw_all := lw_g (lw_at lw_m2 130 rfl) rfl
theorem q506 : (Jvm.Cond.methodLink "LongerHalf" (104 : Nat) ({ cls := "LongerHalf$Reader", name := "read", desc := "(I)LLongerHalf$Kitchen;" } : Jvm.MethodName)) ∈ lw_all := lw_g (lw_at lw_m2 131 rfl) rfl
theorem q521 : (Jvm.Cond.fieldLink "LongerHalf" (143 : Nat) "LongerHalf$Kitchen" "bones" "[LLongerHalf$Bone;") ∈ lw_all := lw_g (lw_at lw_m2 146 rfl) rfl
theorem q524 : (Jvm.Cond.fieldLink "LongerHalf" (176 : Nat) "LongerHalf$Kitchen" "people" "[LLongerHalf$Person;") ∈ lw_all := lw_g (lw_at lw_m2 149 rfl) rfl
theorem q528 : (Jvm.Cond.fieldLink "LongerHalf" (373 : Nat) "LongerHalf$Kitchen" "pieceArm" "[I") ∈ lw_all := lw_g (lw_at lw_m2 153 rfl) rfl
theorem q531 : (Jvm.Cond.fieldLink "LongerHalf" (376 : Nat) "LongerHalf$Kitchen" "piecePlace" "[I") ∈ lw_all := lw_g (lw_at lw_m2 156 rfl) rfl
theorem q534 : (Jvm.Cond.fieldLink "LongerHalf" (424 : Nat) "LongerHalf$Kitchen" "bends" "I") ∈ lw_all := lw_g (lw_at lw_m2 159 rfl) rfl
theorem q537 : (Jvm.Cond.fieldLink "LongerHalf" (427 : Nat) "LongerHalf$Kitchen" "tough" "I") ∈ lw_all := lw_g (lw_at lw_m2 162 rfl) rfl
theorem q540 : (Jvm.Cond.fieldLink "LongerHalf" (430 : Nat) "LongerHalf$Kitchen" "jerk" "I") ∈ lw_all := lw_g (lw_at lw_m2 165 rfl) rfl
theorem q543 : (Jvm.Cond.fieldLink "LongerHalf" (433 : Nat) "LongerHalf$Kitchen" "thumb" "I") ∈ lw_all := lw_g (lw_at lw_m2 168 rfl) rfl
theorem q546 : (Jvm.Cond.fieldLink "LongerHalf" (385 : Nat) "LongerHalf$Kitchen" "flaw" "I") ∈ lw_all := lw_g (lw_at lw_m2 171 rfl) rfl
theorem q549 : (Jvm.Cond.fieldLink "LongerHalf" (128 : Nat) "LongerHalf$Kitchen" "boneMany" "I") ∈ lw_all := lw_g (lw_at lw_m2 174 rfl) rfl
theorem q552 : (Jvm.Cond.fieldLink "LongerHalf" (133 : Nat) "LongerHalf$Kitchen" "personMany" "I") ∈ lw_all := lw_g (lw_at lw_m2 177 rfl) rfl
theorem q555 : (Jvm.Cond.fieldLink "LongerHalf" (434 : Nat) "LongerHalf$Kitchen" "forMany" "I") ∈ lw_all := lw_g (lw_at lw_m2 180 rfl) rfl
theorem q557 : (Jvm.Cond.fieldLink "LongerHalf" (326 : Nat) "LongerHalf$Kitchen" "wonMany" "I") ∈ lw_all := lw_g (lw_at lw_m2 182 rfl) rfl
theorem q559 : (Jvm.Cond.fieldLink "LongerHalf" (329 : Nat) "LongerHalf$Kitchen" "leftMany" "I") ∈ lw_all := lw_g (lw_at lw_m2 184 rfl) rfl
theorem q561 : (Jvm.Cond.fieldLink "LongerHalf" (360 : Nat) "LongerHalf$Kitchen" "pieceMany" "I") ∈ lw_all := lw_g (lw_at lw_m2 186 rfl) rfl
theorem q924 : (Jvm.Cond.fieldLink "LongerHalf" (348 : Nat) "LongerHalf$Person" "others" "[I") ∈ lw_all := lw_g (lw_at lw_m4 69 rfl) rfl
theorem q926 : (Jvm.Cond.fieldLink "LongerHalf" (183 : Nat) "LongerHalf$Person" "force" "I") ∈ lw_all := lw_g (lw_at lw_m4 71 rfl) rfl
theorem q929 : (Jvm.Cond.fieldLink "LongerHalf" (186 : Nat) "LongerHalf$Person" "hold" "I") ∈ lw_all := lw_g (lw_at lw_m4 74 rfl) rfl
theorem q931 : (Jvm.Cond.fieldLink "LongerHalf" (189 : Nat) "LongerHalf$Person" "wish" "I") ∈ lw_all := lw_g (lw_at lw_m4 76 rfl) rfl
theorem q933 : (Jvm.Cond.fieldLink "LongerHalf" (192 : Nat) "LongerHalf$Person" "plays" "I") ∈ lw_all := lw_g (lw_at lw_m4 78 rfl) rfl
theorem q935 : (Jvm.Cond.fieldLink "LongerHalf" (195 : Nat) "LongerHalf$Person" "won" "I") ∈ lw_all := lw_g (lw_at lw_m4 80 rfl) rfl
theorem q939 : (Jvm.Cond.fieldLink "LongerHalf" (335 : Nat) "LongerHalf$Person" "doubt" "I") ∈ lw_all := lw_g (lw_at lw_m4 84 rfl) rfl
theorem q941 : (Jvm.Cond.fieldLink "LongerHalf" (338 : Nat) "LongerHalf$Person" "thumb" "I") ∈ lw_all := lw_g (lw_at lw_m4 86 rfl) rfl
theorem q943 : (Jvm.Cond.fieldLink "LongerHalf" (345 : Nat) "LongerHalf$Person" "fair" "I") ∈ lw_all := lw_g (lw_at lw_m4 88 rfl) rfl
theorem q1045 : (Jvm.Cond.static ({ cls := "LongerHalf", name := "has", desc := "(II)Z" } : Jvm.MethodName)) ∈ lw_all := lw_g (lw_at lw_m4 190 rfl) rfl
theorem q1046 : (Jvm.Cond.code ({ cls := "LongerHalf", name := "has", desc := "(II)Z" } : Jvm.MethodName) prog_1_method_2_code (2 : Nat) (Option.some Jvm.ClassFile.FieldType.boolean)) ∈ lw_all := lw_g (lw_at lw_m4 191 rfl) rfl
theorem q1064 : (Jvm.Cond.methodLink "LongerHalf" (118 : Nat) ({ cls := "LongerHalf$Drawer", name := "begin", desc := "(LLongerHalf$Kitchen;)V" } : Jvm.MethodName)) ∈ lw_all := lw_g (lw_at lw_m4 209 rfl) rfl
theorem q1078 : (Jvm.Cond.instanceMethod ({ cls := "LongerHalf", name := "fault", desc := "()I" } : Jvm.MethodName)) ∈ lw_all := lw_g (lw_at lw_m4 223 rfl) rfl
theorem q1079 : (Jvm.Cond.selects "LongerHalf" ({ cls := "LongerHalf", name := "fault", desc := "()I" } : Jvm.MethodName) ({ cls := "LongerHalf", name := "fault", desc := "()I" } : Jvm.MethodName)) ∈ lw_all := lw_g (lw_at lw_m4 224 rfl) rfl
theorem q1080 : (Jvm.Cond.code ({ cls := "LongerHalf", name := "fault", desc := "()I" } : Jvm.MethodName) prog_1_method_12_code (1 : Nat) (Option.some Jvm.ClassFile.FieldType.int)) ∈ lw_all := lw_g (lw_at lw_m4 225 rfl) rfl
theorem q1082 : (Jvm.Cond.instanceMethod ({ cls := "LongerHalf", name := "where", desc := "()I" } : Jvm.MethodName)) ∈ lw_all := lw_g (lw_at lw_m4 227 rfl) rfl
theorem q1083 : (Jvm.Cond.selects "LongerHalf" ({ cls := "LongerHalf", name := "where", desc := "()I" } : Jvm.MethodName) ({ cls := "LongerHalf", name := "where", desc := "()I" } : Jvm.MethodName)) ∈ lw_all := lw_g (lw_at lw_m4 228 rfl) rfl
theorem q1084 : (Jvm.Cond.code ({ cls := "LongerHalf", name := "where", desc := "()I" } : Jvm.MethodName) prog_1_method_13_code (1 : Nat) (Option.some Jvm.ClassFile.FieldType.int)) ∈ lw_all := lw_g (lw_at lw_m4 229 rfl) rfl
theorem q1086 : (Jvm.Cond.instanceMethod ({ cls := "LongerHalf", name := "bone", desc := "(II)I" } : Jvm.MethodName)) ∈ lw_all := lw_g (lw_at lw_m4 231 rfl) rfl
theorem q1087 : (Jvm.Cond.selects "LongerHalf" ({ cls := "LongerHalf", name := "bone", desc := "(II)I" } : Jvm.MethodName) ({ cls := "LongerHalf", name := "bone", desc := "(II)I" } : Jvm.MethodName)) ∈ lw_all := lw_g (lw_at lw_m4 232 rfl) rfl
theorem q1088 : (Jvm.Cond.code ({ cls := "LongerHalf", name := "bone", desc := "(II)I" } : Jvm.MethodName) prog_1_method_18_code (4 : Nat) (Option.some Jvm.ClassFile.FieldType.int)) ∈ lw_all := lw_g (lw_at lw_m4 233 rfl) rfl
theorem q1089 : (Jvm.Cond.methodLink "LongerHalf" (140 : Nat) ({ cls := "LongerHalf", name := "isBone", desc := "(I)Z" } : Jvm.MethodName)) ∈ lw_all := lw_g (lw_at lw_m4 234 rfl) rfl
theorem q1090 : (Jvm.Cond.privateMethod ({ cls := "LongerHalf", name := "isBone", desc := "(I)Z" } : Jvm.MethodName)) ∈ lw_tbl := lw_at lw_m4 235 rfl
theorem q1091 : (Jvm.Cond.instanceMethod ({ cls := "LongerHalf", name := "isBone", desc := "(I)Z" } : Jvm.MethodName)) ∈ lw_all := lw_g (lw_at lw_m4 236 rfl) rfl
theorem q1092 : (Jvm.Cond.code ({ cls := "LongerHalf", name := "isBone", desc := "(I)Z" } : Jvm.MethodName) prog_1_method_14_code (2 : Nat) (Option.some Jvm.ClassFile.FieldType.boolean)) ∈ lw_all := lw_g (lw_at lw_m4 237 rfl) rfl
theorem q1093 : (Jvm.Cond.methodLink "LongerHalf" (155 : Nat) ({ cls := "LongerHalf", name := "has", desc := "(II)Z" } : Jvm.MethodName)) ∈ lw_all := lw_g (lw_at lw_m4 238 rfl) rfl
theorem q1094 : (Jvm.Cond.methodLink "LongerHalf" (159 : Nat) ({ cls := "LongerHalf$Bone", name := "kind", desc := "()I" } : Jvm.MethodName)) ∈ lw_all := lw_g (lw_at lw_m4 239 rfl) rfl
theorem q1106 : (Jvm.Cond.methodLink "LongerHalf" (147 : Nat) ({ cls := "LongerHalf$Bone", name := "size", desc := "(I)I" } : Jvm.MethodName)) ∈ lw_all := lw_g (lw_at lw_m5 11 rfl) rfl
theorem q1108 : (Jvm.Cond.instanceMethod ({ cls := "LongerHalf", name := "thick", desc := "(III)I" } : Jvm.MethodName)) ∈ lw_all := lw_g (lw_at lw_m5 13 rfl) rfl
theorem q1109 : (Jvm.Cond.selects "LongerHalf" ({ cls := "LongerHalf", name := "thick", desc := "(III)I" } : Jvm.MethodName) ({ cls := "LongerHalf", name := "thick", desc := "(III)I" } : Jvm.MethodName)) ∈ lw_all := lw_g (lw_at lw_m5 14 rfl) rfl
theorem q1110 : (Jvm.Cond.code ({ cls := "LongerHalf", name := "thick", desc := "(III)I" } : Jvm.MethodName) prog_1_method_19_code (4 : Nat) (Option.some Jvm.ClassFile.FieldType.int)) ∈ lw_all := lw_g (lw_at lw_m5 15 rfl) rfl
theorem q1111 : (Jvm.Cond.methodLink "LongerHalf" (169 : Nat) ({ cls := "LongerHalf", name := "isPlace", desc := "(III)Z" } : Jvm.MethodName)) ∈ lw_all := lw_g (lw_at lw_m5 16 rfl) rfl
theorem q1112 : (Jvm.Cond.privateMethod ({ cls := "LongerHalf", name := "isPlace", desc := "(III)Z" } : Jvm.MethodName)) ∈ lw_tbl := lw_at lw_m5 17 rfl
theorem q1113 : (Jvm.Cond.instanceMethod ({ cls := "LongerHalf", name := "isPlace", desc := "(III)Z" } : Jvm.MethodName)) ∈ lw_all := lw_g (lw_at lw_m5 18 rfl) rfl
theorem q1114 : (Jvm.Cond.code ({ cls := "LongerHalf", name := "isPlace", desc := "(III)Z" } : Jvm.MethodName) prog_1_method_17_code (4 : Nat) (Option.some Jvm.ClassFile.FieldType.boolean)) ∈ lw_all := lw_g (lw_at lw_m5 19 rfl) rfl
theorem q1115 : (Jvm.Cond.methodLink "LongerHalf" (172 : Nat) ({ cls := "LongerHalf$Bone", name := "thick", desc := "(II)I" } : Jvm.MethodName)) ∈ lw_all := lw_g (lw_at lw_m5 20 rfl) rfl
theorem q1123 : (Jvm.Cond.instanceMethod ({ cls := "LongerHalf", name := "person", desc := "(II)I" } : Jvm.MethodName)) ∈ lw_all := lw_g (lw_at lw_m5 28 rfl) rfl
theorem q1124 : (Jvm.Cond.selects "LongerHalf" ({ cls := "LongerHalf", name := "person", desc := "(II)I" } : Jvm.MethodName) ({ cls := "LongerHalf", name := "person", desc := "(II)I" } : Jvm.MethodName)) ∈ lw_all := lw_g (lw_at lw_m5 29 rfl) rfl
theorem q1125 : (Jvm.Cond.code ({ cls := "LongerHalf", name := "person", desc := "(II)I" } : Jvm.MethodName) prog_1_method_20_code (4 : Nat) (Option.some Jvm.ClassFile.FieldType.int)) ∈ lw_all := lw_g (lw_at lw_m5 30 rfl) rfl
theorem q1126 : (Jvm.Cond.methodLink "LongerHalf" (136 : Nat) ({ cls := "LongerHalf", name := "isPerson", desc := "(I)Z" } : Jvm.MethodName)) ∈ lw_all := lw_g (lw_at lw_m5 31 rfl) rfl
theorem q1127 : (Jvm.Cond.privateMethod ({ cls := "LongerHalf", name := "isPerson", desc := "(I)Z" } : Jvm.MethodName)) ∈ lw_tbl := lw_at lw_m5 32 rfl
theorem q1128 : (Jvm.Cond.instanceMethod ({ cls := "LongerHalf", name := "isPerson", desc := "(I)Z" } : Jvm.MethodName)) ∈ lw_all := lw_g (lw_at lw_m5 33 rfl) rfl
theorem q1129 : (Jvm.Cond.code ({ cls := "LongerHalf", name := "isPerson", desc := "(I)Z" } : Jvm.MethodName) prog_1_method_15_code (2 : Nat) (Option.some Jvm.ClassFile.FieldType.boolean)) ∈ lw_all := lw_g (lw_at lw_m5 34 rfl) rfl
theorem q1130 : (Jvm.Cond.methodLink "LongerHalf" (180 : Nat) ({ cls := "LongerHalf$Person", name := "kind", desc := "()I" } : Jvm.MethodName)) ∈ lw_all := lw_g (lw_at lw_m5 35 rfl) rfl
theorem q1146 : (Jvm.Cond.instanceMethod ({ cls := "LongerHalf", name := "strength", desc := "(IIII)I" } : Jvm.MethodName)) ∈ lw_all := lw_g (lw_at lw_m5 51 rfl) rfl
theorem q1147 : (Jvm.Cond.selects "LongerHalf" ({ cls := "LongerHalf", name := "strength", desc := "(IIII)I" } : Jvm.MethodName) ({ cls := "LongerHalf", name := "strength", desc := "(IIII)I" } : Jvm.MethodName)) ∈ lw_all := lw_g (lw_at lw_m5 52 rfl) rfl
theorem q1148 : (Jvm.Cond.code ({ cls := "LongerHalf", name := "strength", desc := "(IIII)I" } : Jvm.MethodName) prog_1_method_23_code (5 : Nat) (Option.some Jvm.ClassFile.FieldType.int)) ∈ lw_all := lw_g (lw_at lw_m5 53 rfl) rfl
theorem q1149 : (Jvm.Cond.methodLink "LongerHalf" (209 : Nat) ({ cls := "LongerHalf", name := "lay", desc := "(I)LLongerHalf$Pull;" } : Jvm.MethodName)) ∈ lw_all := lw_g (lw_at lw_m5 54 rfl) rfl
theorem q1150 : (Jvm.Cond.privateMethod ({ cls := "LongerHalf", name := "lay", desc := "(I)LLongerHalf$Pull;" } : Jvm.MethodName)) ∈ lw_tbl := lw_at lw_m5 55 rfl
theorem q1151 : (Jvm.Cond.instanceMethod ({ cls := "LongerHalf", name := "lay", desc := "(I)LLongerHalf$Pull;" } : Jvm.MethodName)) ∈ lw_all := lw_g (lw_at lw_m5 56 rfl) rfl
theorem q1152 : (Jvm.Cond.code ({ cls := "LongerHalf", name := "lay", desc := "(I)LLongerHalf$Pull;" } : Jvm.MethodName) prog_1_method_21_code (2 : Nat) (Option.some (Jvm.ClassFile.FieldType.object "LongerHalf$Pull"))) ∈ lw_all := lw_g (lw_at lw_m5 57 rfl) rfl
theorem q1153 : (Jvm.Cond.methodLink "LongerHalf" (201 : Nat) ({ cls := "LongerHalf", name := "layDried", desc := "(II)LLongerHalf$Pull;" } : Jvm.MethodName)) ∈ lw_all := lw_g (lw_at lw_m5 58 rfl) rfl
theorem q1154 : (Jvm.Cond.privateMethod ({ cls := "LongerHalf", name := "layDried", desc := "(II)LLongerHalf$Pull;" } : Jvm.MethodName)) ∈ lw_tbl := lw_at lw_m5 59 rfl
theorem q1155 : (Jvm.Cond.instanceMethod ({ cls := "LongerHalf", name := "layDried", desc := "(II)LLongerHalf$Pull;" } : Jvm.MethodName)) ∈ lw_all := lw_g (lw_at lw_m5 60 rfl) rfl
theorem q1156 : (Jvm.Cond.code ({ cls := "LongerHalf", name := "layDried", desc := "(II)LLongerHalf$Pull;" } : Jvm.MethodName) prog_1_method_22_code (3 : Nat) (Option.some (Jvm.ClassFile.FieldType.object "LongerHalf$Pull"))) ∈ lw_all := lw_g (lw_at lw_m5 61 rfl) rfl
theorem q1157 : (Jvm.Cond.methodLink "LongerHalf" (205 : Nat) ({ cls := "LongerHalf$Pull", name := "lay", desc := "(LLongerHalf$Kitchen;LLongerHalf$Bone;IZ)V" } : Jvm.MethodName)) ∈ lw_all := lw_g (lw_at lw_m5 62 rfl) rfl
theorem q1161 : (Jvm.Cond.methodLink "LongerHalf" (212 : Nat) ({ cls := "LongerHalf$Pull", name := "strength", desc := "(IILLongerHalf$Person;)I" } : Jvm.MethodName)) ∈ lw_all := lw_g (lw_at lw_m5 66 rfl) rfl
theorem q1177 : (Jvm.Cond.instanceMethod ({ cls := "LongerHalf", name := "strain", desc := "(IIIIIIII)I" } : Jvm.MethodName)) ∈ lw_all := lw_g (lw_at lw_m5 82 rfl) rfl
theorem q1178 : (Jvm.Cond.selects "LongerHalf" ({ cls := "LongerHalf", name := "strain", desc := "(IIIIIIII)I" } : Jvm.MethodName) ({ cls := "LongerHalf", name := "strain", desc := "(IIIIIIII)I" } : Jvm.MethodName)) ∈ lw_all := lw_g (lw_at lw_m5 83 rfl) rfl
theorem q1179 : (Jvm.Cond.code ({ cls := "LongerHalf", name := "strain", desc := "(IIIIIIII)I" } : Jvm.MethodName) prog_1_method_27_code (10 : Nat) (Option.some Jvm.ClassFile.FieldType.int)) ∈ lw_all := lw_g (lw_at lw_m5 84 rfl) rfl
theorem q1180 : (Jvm.Cond.methodLink "LongerHalf" (226 : Nat) ({ cls := "LongerHalf", name := "pullWhy", desc := "(IIIIII)I" } : Jvm.MethodName)) ∈ lw_all := lw_g (lw_at lw_m5 85 rfl) rfl
theorem q1181 : (Jvm.Cond.privateMethod ({ cls := "LongerHalf", name := "pullWhy", desc := "(IIIIII)I" } : Jvm.MethodName)) ∈ lw_tbl := lw_at lw_m5 86 rfl
theorem q1182 : (Jvm.Cond.instanceMethod ({ cls := "LongerHalf", name := "pullWhy", desc := "(IIIIII)I" } : Jvm.MethodName)) ∈ lw_all := lw_g (lw_at lw_m5 87 rfl) rfl
theorem q1183 : (Jvm.Cond.code ({ cls := "LongerHalf", name := "pullWhy", desc := "(IIIIII)I" } : Jvm.MethodName) prog_1_method_25_code (7 : Nat) (Option.some Jvm.ClassFile.FieldType.int)) ∈ lw_all := lw_g (lw_at lw_m5 88 rfl) rfl
theorem q1184 : (Jvm.Cond.methodLink "LongerHalf" (216 : Nat) ({ cls := "LongerHalf", name := "isPair", desc := "(II)Z" } : Jvm.MethodName)) ∈ lw_all := lw_g (lw_at lw_m5 89 rfl) rfl
theorem q1185 : (Jvm.Cond.privateMethod ({ cls := "LongerHalf", name := "isPair", desc := "(II)Z" } : Jvm.MethodName)) ∈ lw_tbl := lw_at lw_m5 90 rfl
theorem q1186 : (Jvm.Cond.instanceMethod ({ cls := "LongerHalf", name := "isPair", desc := "(II)Z" } : Jvm.MethodName)) ∈ lw_all := lw_g (lw_at lw_m5 91 rfl) rfl
theorem q1187 : (Jvm.Cond.code ({ cls := "LongerHalf", name := "isPair", desc := "(II)Z" } : Jvm.MethodName) prog_1_method_16_code (3 : Nat) (Option.some Jvm.ClassFile.FieldType.boolean)) ∈ lw_all := lw_g (lw_at lw_m5 92 rfl) rfl
theorem q1188 : (Jvm.Cond.methodLink "LongerHalf" (219 : Nat) ({ cls := "LongerHalf", name := "holdWhy", desc := "(IIII)I" } : Jvm.MethodName)) ∈ lw_all := lw_g (lw_at lw_m5 93 rfl) rfl
theorem q1189 : (Jvm.Cond.privateMethod ({ cls := "LongerHalf", name := "holdWhy", desc := "(IIII)I" } : Jvm.MethodName)) ∈ lw_tbl := lw_at lw_m5 94 rfl
theorem q1190 : (Jvm.Cond.instanceMethod ({ cls := "LongerHalf", name := "holdWhy", desc := "(IIII)I" } : Jvm.MethodName)) ∈ lw_all := lw_g (lw_at lw_m5 95 rfl) rfl
theorem q1191 : (Jvm.Cond.code ({ cls := "LongerHalf", name := "holdWhy", desc := "(IIII)I" } : Jvm.MethodName) prog_1_method_24_code (5 : Nat) (Option.some Jvm.ClassFile.FieldType.int)) ∈ lw_all := lw_g (lw_at lw_m5 96 rfl) rfl
theorem q1192 : (Jvm.Cond.methodLink "LongerHalf" (230 : Nat) ({ cls := "LongerHalf", name := "layPull", desc := "(IIIIII)LLongerHalf$Pull;" } : Jvm.MethodName)) ∈ lw_all := lw_g (lw_at lw_m5 97 rfl) rfl
theorem q1193 : (Jvm.Cond.privateMethod ({ cls := "LongerHalf", name := "layPull", desc := "(IIIIII)LLongerHalf$Pull;" } : Jvm.MethodName)) ∈ lw_tbl := lw_at lw_m5 98 rfl
theorem q1194 : (Jvm.Cond.instanceMethod ({ cls := "LongerHalf", name := "layPull", desc := "(IIIIII)LLongerHalf$Pull;" } : Jvm.MethodName)) ∈ lw_all := lw_g (lw_at lw_m5 99 rfl) rfl
theorem q1195 : (Jvm.Cond.code ({ cls := "LongerHalf", name := "layPull", desc := "(IIIIII)LLongerHalf$Pull;" } : Jvm.MethodName) prog_1_method_26_code (7 : Nat) (Option.some (Jvm.ClassFile.FieldType.object "LongerHalf$Pull"))) ∈ lw_all := lw_g (lw_at lw_m5 100 rfl) rfl
theorem q1196 : (Jvm.Cond.methodLink "LongerHalf" (223 : Nat) ({ cls := "LongerHalf$Pull", name := "hold", desc := "(LLongerHalf$Person;ILLongerHalf$Person;II)V" } : Jvm.MethodName)) ∈ lw_all := lw_g (lw_at lw_m5 101 rfl) rfl
theorem q1200 : (Jvm.Cond.methodLink "LongerHalf" (234 : Nat) ({ cls := "LongerHalf$Pull", name := "strain", desc := "(II)I" } : Jvm.MethodName)) ∈ lw_all := lw_g (lw_at lw_m5 105 rfl) rfl
theorem q1219 : (Jvm.Cond.instanceMethod ({ cls := "LongerHalf", name := "pulled", desc := "(IIIIII)I" } : Jvm.MethodName)) ∈ lw_all := lw_g (lw_at lw_m5 124 rfl) rfl
theorem q1220 : (Jvm.Cond.selects "LongerHalf" ({ cls := "LongerHalf", name := "pulled", desc := "(IIIIII)I" } : Jvm.MethodName) ({ cls := "LongerHalf", name := "pulled", desc := "(IIIIII)I" } : Jvm.MethodName)) ∈ lw_all := lw_g (lw_at lw_m5 125 rfl) rfl
theorem q1221 : (Jvm.Cond.code ({ cls := "LongerHalf", name := "pulled", desc := "(IIIIII)I" } : Jvm.MethodName) prog_1_method_28_code (8 : Nat) (Option.some Jvm.ClassFile.FieldType.int)) ∈ lw_all := lw_g (lw_at lw_m5 126 rfl) rfl
theorem q1222 : (Jvm.Cond.methodLink "LongerHalf" (237 : Nat) ({ cls := "LongerHalf$Pull", name := "comes", desc := "()I" } : Jvm.MethodName)) ∈ lw_all := lw_g (lw_at lw_m5 127 rfl) rfl
theorem q1241 : (Jvm.Cond.instanceMethod ({ cls := "LongerHalf", name := "breaksAt", desc := "(IIIIII)I" } : Jvm.MethodName)) ∈ lw_all := lw_g (lw_at lw_m5 146 rfl) rfl
theorem q1242 : (Jvm.Cond.selects "LongerHalf" ({ cls := "LongerHalf", name := "breaksAt", desc := "(IIIIII)I" } : Jvm.MethodName) ({ cls := "LongerHalf", name := "breaksAt", desc := "(IIIIII)I" } : Jvm.MethodName)) ∈ lw_all := lw_g (lw_at lw_m5 147 rfl) rfl
theorem q1243 : (Jvm.Cond.code ({ cls := "LongerHalf", name := "breaksAt", desc := "(IIIIII)I" } : Jvm.MethodName) prog_1_method_29_code (8 : Nat) (Option.some Jvm.ClassFile.FieldType.int)) ∈ lw_all := lw_g (lw_at lw_m5 148 rfl) rfl
theorem q1245 : (Jvm.Cond.instanceMethod ({ cls := "LongerHalf", name := "flawed", desc := "(IIIIIIII)I" } : Jvm.MethodName)) ∈ lw_all := lw_g (lw_at lw_m5 150 rfl) rfl
theorem q1246 : (Jvm.Cond.selects "LongerHalf" ({ cls := "LongerHalf", name := "flawed", desc := "(IIIIIIII)I" } : Jvm.MethodName) ({ cls := "LongerHalf", name := "flawed", desc := "(IIIIIIII)I" } : Jvm.MethodName)) ∈ lw_all := lw_g (lw_at lw_m5 151 rfl) rfl
theorem q1247 : (Jvm.Cond.code ({ cls := "LongerHalf", name := "flawed", desc := "(IIIIIIII)I" } : Jvm.MethodName) prog_1_method_30_code (10 : Nat) (Option.some Jvm.ClassFile.FieldType.int)) ∈ lw_all := lw_g (lw_at lw_m5 152 rfl) rfl
theorem q1248 : (Jvm.Cond.methodLink "LongerHalf" (244 : Nat) ({ cls := "LongerHalf$Pull", name := "flaw", desc := "(II)V" } : Jvm.MethodName)) ∈ lw_all := lw_g (lw_at lw_m5 153 rfl) rfl
theorem q1253 : (Jvm.Cond.instanceMethod ({ cls := "LongerHalf", name := "odds", desc := "(IIIIIIIZ)J" } : Jvm.MethodName)) ∈ lw_all := lw_g (lw_at lw_m5 158 rfl) rfl
theorem q1254 : (Jvm.Cond.selects "LongerHalf" ({ cls := "LongerHalf", name := "odds", desc := "(IIIIIIIZ)J" } : Jvm.MethodName) ({ cls := "LongerHalf", name := "odds", desc := "(IIIIIIIZ)J" } : Jvm.MethodName)) ∈ lw_all := lw_g (lw_at lw_m5 159 rfl) rfl
theorem q1255 : (Jvm.Cond.code ({ cls := "LongerHalf", name := "odds", desc := "(IIIIIIIZ)J" } : Jvm.MethodName) prog_1_method_31_code (10 : Nat) (Option.some Jvm.ClassFile.FieldType.long)) ∈ lw_all := lw_g (lw_at lw_m5 160 rfl) rfl
theorem q1256 : (Jvm.Cond.methodLink "LongerHalf" (248 : Nat) ({ cls := "LongerHalf$Pull", name := "odds", desc := "(I)J" } : Jvm.MethodName)) ∈ lw_all := lw_g (lw_at lw_m5 161 rfl) rfl
theorem q1269 : (Jvm.Cond.methodLink "LongerHalf" (252 : Nat) ({ cls := "LongerHalf$Pull", name := "all", desc := "()J" } : Jvm.MethodName)) ∈ lw_all := lw_g (lw_at lw_m5 174 rfl) rfl
theorem q1274 : (Jvm.Cond.methodLink "LongerHalf" (256 : Nat) ({ cls := "LongerHalf", name := "lowest", desc := "(JJZ)J" } : Jvm.MethodName)) ∈ lw_all := lw_g (lw_at lw_m5 179 rfl) rfl
theorem q1275 : (Jvm.Cond.static ({ cls := "LongerHalf", name := "lowest", desc := "(JJZ)J" } : Jvm.MethodName)) ∈ lw_all := lw_g (lw_at lw_m5 180 rfl) rfl
theorem q1276 : (Jvm.Cond.code ({ cls := "LongerHalf", name := "lowest", desc := "(JJZ)J" } : Jvm.MethodName) prog_1_method_4_code (5 : Nat) (Option.some Jvm.ClassFile.FieldType.long)) ∈ lw_all := lw_g (lw_at lw_m5 181 rfl) rfl
theorem q1277 : (Jvm.Cond.methodLink "LongerHalf" (1 : Nat) ({ cls := "LongerHalf", name := "dividing", desc := "(JJ)J" } : Jvm.MethodName)) ∈ lw_all := lw_g (lw_at lw_m5 182 rfl) rfl
theorem q1278 : (Jvm.Cond.static ({ cls := "LongerHalf", name := "dividing", desc := "(JJ)J" } : Jvm.MethodName)) ∈ lw_all := lw_g (lw_at lw_m5 183 rfl) rfl
theorem q1279 : (Jvm.Cond.code ({ cls := "LongerHalf", name := "dividing", desc := "(JJ)J" } : Jvm.MethodName) prog_1_method_3_code (4 : Nat) (Option.some Jvm.ClassFile.FieldType.long)) ∈ lw_all := lw_g (lw_at lw_m5 184 rfl) rfl
theorem q1281 : (Jvm.Cond.instanceMethod ({ cls := "LongerHalf", name := "best", desc := "(IIII)I" } : Jvm.MethodName)) ∈ lw_all := lw_g (lw_at lw_m5 186 rfl) rfl
theorem q1282 : (Jvm.Cond.selects "LongerHalf" ({ cls := "LongerHalf", name := "best", desc := "(IIII)I" } : Jvm.MethodName) ({ cls := "LongerHalf", name := "best", desc := "(IIII)I" } : Jvm.MethodName)) ∈ lw_all := lw_g (lw_at lw_m5 187 rfl) rfl
theorem q1283 : (Jvm.Cond.code ({ cls := "LongerHalf", name := "best", desc := "(IIII)I" } : Jvm.MethodName) prog_1_method_32_code (11 : Nat) (Option.some Jvm.ClassFile.FieldType.int)) ∈ lw_all := lw_g (lw_at lw_m5 188 rfl) rfl
theorem q1284 : (Jvm.Cond.constantLong "LongerHalf" (260 : Nat) (-1 : Int64)) ∈ lw_all := lw_g (lw_at lw_m5 189 rfl) rfl
theorem q1285 : (Jvm.Cond.methodLinkNest "LongerHalf" (262 : Nat) ({ cls := "LongerHalf$Game", name := "can", desc := "(LLongerHalf$Person;I)Z" } : Jvm.MethodName) "LongerHalf") ∈ lw_tbl := lw_at lw_m5 190 rfl
theorem q1289 : (Jvm.Cond.methodLink "LongerHalf" (266 : Nat) ({ cls := "LongerHalf$Game", name := "told", desc := "(I)I" } : Jvm.MethodName)) ∈ lw_all := lw_g (lw_at lw_m5 194 rfl) rfl
theorem q1293 : (Jvm.Cond.instanceMethod ({ cls := "LongerHalf", name := "rests", desc := "(III)I" } : Jvm.MethodName)) ∈ lw_all := lw_g (lw_at lw_m5 198 rfl) rfl
theorem q1294 : (Jvm.Cond.selects "LongerHalf" ({ cls := "LongerHalf", name := "rests", desc := "(III)I" } : Jvm.MethodName) ({ cls := "LongerHalf", name := "rests", desc := "(III)I" } : Jvm.MethodName)) ∈ lw_all := lw_g (lw_at lw_m5 199 rfl) rfl
theorem q1295 : (Jvm.Cond.code ({ cls := "LongerHalf", name := "rests", desc := "(III)I" } : Jvm.MethodName) prog_1_method_34_code (4 : Nat) (Option.some Jvm.ClassFile.FieldType.int)) ∈ lw_all := lw_g (lw_at lw_m5 200 rfl) rfl
theorem q1296 : (Jvm.Cond.methodLink "LongerHalf" (272 : Nat) ({ cls := "LongerHalf", name := "layGame", desc := "(III)Z" } : Jvm.MethodName)) ∈ lw_all := lw_g (lw_at lw_m5 201 rfl) rfl
theorem q1297 : (Jvm.Cond.privateMethod ({ cls := "LongerHalf", name := "layGame", desc := "(III)Z" } : Jvm.MethodName)) ∈ lw_tbl := lw_at lw_m5 202 rfl
theorem q1298 : (Jvm.Cond.instanceMethod ({ cls := "LongerHalf", name := "layGame", desc := "(III)Z" } : Jvm.MethodName)) ∈ lw_all := lw_g (lw_at lw_m5 203 rfl) rfl
theorem q1299 : (Jvm.Cond.code ({ cls := "LongerHalf", name := "layGame", desc := "(III)Z" } : Jvm.MethodName) prog_1_method_33_code (4 : Nat) (Option.some Jvm.ClassFile.FieldType.boolean)) ∈ lw_all := lw_g (lw_at lw_m5 204 rfl) rfl
theorem q1300 : (Jvm.Cond.methodLink "LongerHalf" (269 : Nat) ({ cls := "LongerHalf$Game", name := "lay", desc := "(LLongerHalf$Bone;LLongerHalf$Person;LLongerHalf$Person;)V" } : Jvm.MethodName)) ∈ lw_all := lw_g (lw_at lw_m5 205 rfl) rfl
theorem q1307 : (Jvm.Cond.methodLink "LongerHalf" (275 : Nat) ({ cls := "LongerHalf$Game", name := "seekRests", desc := "()V" } : Jvm.MethodName)) ∈ lw_all := lw_g (lw_at lw_m5 212 rfl) rfl
theorem q1318 : (Jvm.Cond.instanceMethod ({ cls := "LongerHalf", name := "rest", desc := "(III)I" } : Jvm.MethodName)) ∈ lw_all := lw_g (lw_at lw_m5 223 rfl) rfl
theorem q1319 : (Jvm.Cond.selects "LongerHalf" ({ cls := "LongerHalf", name := "rest", desc := "(III)I" } : Jvm.MethodName) ({ cls := "LongerHalf", name := "rest", desc := "(III)I" } : Jvm.MethodName)) ∈ lw_all := lw_g (lw_at lw_m5 224 rfl) rfl
theorem q1320 : (Jvm.Cond.code ({ cls := "LongerHalf", name := "rest", desc := "(III)I" } : Jvm.MethodName) prog_1_method_35_code (4 : Nat) (Option.some Jvm.ClassFile.FieldType.int)) ∈ lw_all := lw_g (lw_at lw_m5 225 rfl) rfl
theorem q1322 : (Jvm.Cond.instanceMethod ({ cls := "LongerHalf", name := "sure", desc := "(IIIZ)J" } : Jvm.MethodName)) ∈ lw_all := lw_g (lw_at lw_m5 227 rfl) rfl
theorem q1323 : (Jvm.Cond.selects "LongerHalf" ({ cls := "LongerHalf", name := "sure", desc := "(IIIZ)J" } : Jvm.MethodName) ({ cls := "LongerHalf", name := "sure", desc := "(IIIZ)J" } : Jvm.MethodName)) ∈ lw_all := lw_g (lw_at lw_m5 228 rfl) rfl
theorem q1324 : (Jvm.Cond.code ({ cls := "LongerHalf", name := "sure", desc := "(IIIZ)J" } : Jvm.MethodName) prog_1_method_36_code (5 : Nat) (Option.some Jvm.ClassFile.FieldType.long)) ∈ lw_all := lw_g (lw_at lw_m5 229 rfl) rfl
theorem q1325 : (Jvm.Cond.methodLink "LongerHalf" (284 : Nat) ({ cls := "LongerHalf$Game", name := "sure", desc := "()J" } : Jvm.MethodName)) ∈ lw_all := lw_g (lw_at lw_m5 230 rfl) rfl
theorem q1338 : (Jvm.Cond.instanceMethod ({ cls := "LongerHalf", name := "curve", desc := "(IIIIZ)J" } : Jvm.MethodName)) ∈ lw_all := lw_g (lw_at lw_m6 3 rfl) rfl
theorem q1339 : (Jvm.Cond.selects "LongerHalf" ({ cls := "LongerHalf", name := "curve", desc := "(IIIIZ)J" } : Jvm.MethodName) ({ cls := "LongerHalf", name := "curve", desc := "(IIIIZ)J" } : Jvm.MethodName)) ∈ lw_all := lw_g (lw_at lw_m6 4 rfl) rfl
theorem q1340 : (Jvm.Cond.code ({ cls := "LongerHalf", name := "curve", desc := "(IIIIZ)J" } : Jvm.MethodName) prog_1_method_38_code (6 : Nat) (Option.some Jvm.ClassFile.FieldType.long)) ∈ lw_all := lw_g (lw_at lw_m6 5 rfl) rfl
theorem q1341 : (Jvm.Cond.methodLink "LongerHalf" (291 : Nat) ({ cls := "LongerHalf", name := "curveOf", desc := "(IIII)J" } : Jvm.MethodName)) ∈ lw_all := lw_g (lw_at lw_m6 6 rfl) rfl
theorem q1342 : (Jvm.Cond.privateMethod ({ cls := "LongerHalf", name := "curveOf", desc := "(IIII)J" } : Jvm.MethodName)) ∈ lw_tbl := lw_at lw_m6 7 rfl
theorem q1343 : (Jvm.Cond.instanceMethod ({ cls := "LongerHalf", name := "curveOf", desc := "(IIII)J" } : Jvm.MethodName)) ∈ lw_all := lw_g (lw_at lw_m6 8 rfl) rfl
theorem q1344 : (Jvm.Cond.code ({ cls := "LongerHalf", name := "curveOf", desc := "(IIII)J" } : Jvm.MethodName) prog_1_method_37_code (5 : Nat) (Option.some Jvm.ClassFile.FieldType.long)) ∈ lw_all := lw_g (lw_at lw_m6 9 rfl) rfl
theorem q1345 : (Jvm.Cond.methodLink "LongerHalf" (287 : Nat) ({ cls := "LongerHalf$Pull", name := "asTold", desc := "(LLongerHalf$Person;LLongerHalf$Person;)V" } : Jvm.MethodName)) ∈ lw_all := lw_g (lw_at lw_m6 10 rfl) rfl
theorem q1363 : (Jvm.Cond.instanceMethod ({ cls := "LongerHalf", name := "bestDay", desc := "(III)I" } : Jvm.MethodName)) ∈ lw_all := lw_g (lw_at lw_m6 28 rfl) rfl
theorem q1364 : (Jvm.Cond.selects "LongerHalf" ({ cls := "LongerHalf", name := "bestDay", desc := "(III)I" } : Jvm.MethodName) ({ cls := "LongerHalf", name := "bestDay", desc := "(III)I" } : Jvm.MethodName)) ∈ lw_all := lw_g (lw_at lw_m6 29 rfl) rfl
theorem q1365 : (Jvm.Cond.code ({ cls := "LongerHalf", name := "bestDay", desc := "(III)I" } : Jvm.MethodName) prog_1_method_39_code (6 : Nat) (Option.some Jvm.ClassFile.FieldType.int)) ∈ lw_all := lw_g (lw_at lw_m6 30 rfl) rfl
theorem q1367 : (Jvm.Cond.instanceMethod ({ cls := "LongerHalf", name := "lawOdds", desc := "(IIIIZ)J" } : Jvm.MethodName)) ∈ lw_all := lw_g (lw_at lw_m6 32 rfl) rfl
theorem q1368 : (Jvm.Cond.selects "LongerHalf" ({ cls := "LongerHalf", name := "lawOdds", desc := "(IIIIZ)J" } : Jvm.MethodName) ({ cls := "LongerHalf", name := "lawOdds", desc := "(IIIIZ)J" } : Jvm.MethodName)) ∈ lw_all := lw_g (lw_at lw_m6 33 rfl) rfl
theorem q1369 : (Jvm.Cond.code ({ cls := "LongerHalf", name := "lawOdds", desc := "(IIIIZ)J" } : Jvm.MethodName) prog_1_method_42_code (6 : Nat) (Option.some Jvm.ClassFile.FieldType.long)) ∈ lw_all := lw_g (lw_at lw_m6 34 rfl) rfl
theorem q1370 : (Jvm.Cond.methodLink "LongerHalf" (304 : Nat) ({ cls := "LongerHalf", name := "byLaw", desc := "(IIII)J" } : Jvm.MethodName)) ∈ lw_all := lw_g (lw_at lw_m6 35 rfl) rfl
theorem q1371 : (Jvm.Cond.privateMethod ({ cls := "LongerHalf", name := "byLaw", desc := "(IIII)J" } : Jvm.MethodName)) ∈ lw_tbl := lw_at lw_m6 36 rfl
theorem q1372 : (Jvm.Cond.instanceMethod ({ cls := "LongerHalf", name := "byLaw", desc := "(IIII)J" } : Jvm.MethodName)) ∈ lw_all := lw_g (lw_at lw_m6 37 rfl) rfl
theorem q1373 : (Jvm.Cond.code ({ cls := "LongerHalf", name := "byLaw", desc := "(IIII)J" } : Jvm.MethodName) prog_1_method_41_code (9 : Nat) (Option.some Jvm.ClassFile.FieldType.long)) ∈ lw_all := lw_g (lw_at lw_m6 38 rfl) rfl
theorem q1374 : (Jvm.Cond.methodLink "LongerHalf" (295 : Nat) ({ cls := "LongerHalf", name := "oddsOn", desc := "(IIII)J" } : Jvm.MethodName)) ∈ lw_all := lw_g (lw_at lw_m6 39 rfl) rfl
theorem q1375 : (Jvm.Cond.privateMethod ({ cls := "LongerHalf", name := "oddsOn", desc := "(IIII)J" } : Jvm.MethodName)) ∈ lw_tbl := lw_at lw_m6 40 rfl
theorem q1376 : (Jvm.Cond.instanceMethod ({ cls := "LongerHalf", name := "oddsOn", desc := "(IIII)J" } : Jvm.MethodName)) ∈ lw_all := lw_g (lw_at lw_m6 41 rfl) rfl
theorem q1377 : (Jvm.Cond.code ({ cls := "LongerHalf", name := "oddsOn", desc := "(IIII)J" } : Jvm.MethodName) prog_1_method_40_code (7 : Nat) (Option.some Jvm.ClassFile.FieldType.long)) ∈ lw_all := lw_g (lw_at lw_m6 42 rfl) rfl
theorem q1378 : (Jvm.Cond.constantLong "LongerHalf" (298 : Nat) (2 : Int64)) ∈ lw_all := lw_g (lw_at lw_m6 43 rfl) rfl
theorem q1379 : (Jvm.Cond.methodLink "LongerHalf" (300 : Nat) ({ cls := "LongerHalf$Person", name := "chooses", desc := "(LLongerHalf$Bone;JJ)I" } : Jvm.MethodName)) ∈ lw_all := lw_g (lw_at lw_m6 44 rfl) rfl
theorem q1398 : (Jvm.Cond.instanceMethod ({ cls := "LongerHalf", name := "fairest", desc := "(III)I" } : Jvm.MethodName)) ∈ lw_all := lw_g (lw_at lw_m6 63 rfl) rfl
theorem q1399 : (Jvm.Cond.selects "LongerHalf" ({ cls := "LongerHalf", name := "fairest", desc := "(III)I" } : Jvm.MethodName) ({ cls := "LongerHalf", name := "fairest", desc := "(III)I" } : Jvm.MethodName)) ∈ lw_all := lw_g (lw_at lw_m6 64 rfl) rfl
theorem q1400 : (Jvm.Cond.code ({ cls := "LongerHalf", name := "fairest", desc := "(III)I" } : Jvm.MethodName) prog_1_method_43_code (8 : Nat) (Option.some Jvm.ClassFile.FieldType.int)) ∈ lw_all := lw_g (lw_at lw_m6 65 rfl) rfl
theorem q1401 : (Jvm.Cond.methodLink "LongerHalf" (307 : Nat) ({ cls := "java/lang/Math", name := "abs", desc := "(J)J" } : Jvm.MethodName)) ∈ lw_all := lw_g (lw_at lw_m6 66 rfl) rfl
theorem q1405 : (Jvm.Cond.instanceMethod ({ cls := "LongerHalf", name := "turnsOf", desc := "(I)I" } : Jvm.MethodName)) ∈ lw_all := lw_g (lw_at lw_m6 70 rfl) rfl
theorem q1406 : (Jvm.Cond.selects "LongerHalf" ({ cls := "LongerHalf", name := "turnsOf", desc := "(I)I" } : Jvm.MethodName) ({ cls := "LongerHalf", name := "turnsOf", desc := "(I)I" } : Jvm.MethodName)) ∈ lw_all := lw_g (lw_at lw_m6 71 rfl) rfl
theorem q1407 : (Jvm.Cond.code ({ cls := "LongerHalf", name := "turnsOf", desc := "(I)I" } : Jvm.MethodName) prog_1_method_45_code (3 : Nat) (Option.some Jvm.ClassFile.FieldType.int)) ∈ lw_all := lw_g (lw_at lw_m6 72 rfl) rfl
theorem q1408 : (Jvm.Cond.methodLink "LongerHalf" (313 : Nat) ({ cls := "LongerHalf", name := "weekWhy", desc := "(I)I" } : Jvm.MethodName)) ∈ lw_all := lw_g (lw_at lw_m6 73 rfl) rfl
theorem q1409 : (Jvm.Cond.privateMethod ({ cls := "LongerHalf", name := "weekWhy", desc := "(I)I" } : Jvm.MethodName)) ∈ lw_tbl := lw_at lw_m6 74 rfl
theorem q1410 : (Jvm.Cond.instanceMethod ({ cls := "LongerHalf", name := "weekWhy", desc := "(I)I" } : Jvm.MethodName)) ∈ lw_all := lw_g (lw_at lw_m6 75 rfl) rfl
theorem q1411 : (Jvm.Cond.code ({ cls := "LongerHalf", name := "weekWhy", desc := "(I)I" } : Jvm.MethodName) prog_1_method_44_code (2 : Nat) (Option.some Jvm.ClassFile.FieldType.int)) ∈ lw_all := lw_g (lw_at lw_m6 76 rfl) rfl
theorem q1412 : (Jvm.Cond.methodLink "LongerHalf" (316 : Nat) ({ cls := "LongerHalf$Turns", name := "find", desc := "(II)Z" } : Jvm.MethodName)) ∈ lw_all := lw_g (lw_at lw_m6 77 rfl) rfl
theorem q1429 : (Jvm.Cond.instanceMethod ({ cls := "LongerHalf", name := "turnAt", desc := "(II)I" } : Jvm.MethodName)) ∈ lw_all := lw_g (lw_at lw_m6 94 rfl) rfl
theorem q1430 : (Jvm.Cond.selects "LongerHalf" ({ cls := "LongerHalf", name := "turnAt", desc := "(II)I" } : Jvm.MethodName) ({ cls := "LongerHalf", name := "turnAt", desc := "(II)I" } : Jvm.MethodName)) ∈ lw_all := lw_g (lw_at lw_m6 95 rfl) rfl
theorem q1431 : (Jvm.Cond.code ({ cls := "LongerHalf", name := "turnAt", desc := "(II)I" } : Jvm.MethodName) prog_1_method_46_code (4 : Nat) (Option.some Jvm.ClassFile.FieldType.int)) ∈ lw_all := lw_g (lw_at lw_m6 96 rfl) rfl
theorem q1432 : (Jvm.Cond.methodLink "LongerHalf" (319 : Nat) ({ cls := "LongerHalf$Turns", name := "at", desc := "(I)I" } : Jvm.MethodName)) ∈ lw_all := lw_g (lw_at lw_m6 97 rfl) rfl
theorem q1437 : (Jvm.Cond.instanceMethod ({ cls := "LongerHalf", name := "hand", desc := "(IZ)J" } : Jvm.MethodName)) ∈ lw_all := lw_g (lw_at lw_m6 102 rfl) rfl
theorem q1438 : (Jvm.Cond.selects "LongerHalf" ({ cls := "LongerHalf", name := "hand", desc := "(IZ)J" } : Jvm.MethodName) ({ cls := "LongerHalf", name := "hand", desc := "(IZ)J" } : Jvm.MethodName)) ∈ lw_all := lw_g (lw_at lw_m6 103 rfl) rfl
theorem q1439 : (Jvm.Cond.code ({ cls := "LongerHalf", name := "hand", desc := "(IZ)J" } : Jvm.MethodName) prog_1_method_48_code (4 : Nat) (Option.some Jvm.ClassFile.FieldType.long)) ∈ lw_all := lw_g (lw_at lw_m6 104 rfl) rfl
theorem q1440 : (Jvm.Cond.methodLink "LongerHalf" (322 : Nat) ({ cls := "LongerHalf", name := "tail", desc := "(II)J" } : Jvm.MethodName)) ∈ lw_all := lw_g (lw_at lw_m6 105 rfl) rfl
theorem q1441 : (Jvm.Cond.static ({ cls := "LongerHalf", name := "tail", desc := "(II)J" } : Jvm.MethodName)) ∈ lw_all := lw_g (lw_at lw_m6 106 rfl) rfl
theorem q1442 : (Jvm.Cond.code ({ cls := "LongerHalf", name := "tail", desc := "(II)J" } : Jvm.MethodName) prog_1_method_47_code (7 : Nat) (Option.some Jvm.ClassFile.FieldType.long)) ∈ lw_all := lw_g (lw_at lw_m6 107 rfl) rfl
theorem q1444 : (Jvm.Cond.instanceMethod ({ cls := "LongerHalf", name := "side", desc := "(Z)J" } : Jvm.MethodName)) ∈ lw_all := lw_g (lw_at lw_m6 109 rfl) rfl
theorem q1445 : (Jvm.Cond.selects "LongerHalf" ({ cls := "LongerHalf", name := "side", desc := "(Z)J" } : Jvm.MethodName) ({ cls := "LongerHalf", name := "side", desc := "(Z)J" } : Jvm.MethodName)) ∈ lw_all := lw_g (lw_at lw_m6 110 rfl) rfl
theorem q1446 : (Jvm.Cond.code ({ cls := "LongerHalf", name := "side", desc := "(Z)J" } : Jvm.MethodName) prog_1_method_49_code (2 : Nat) (Option.some Jvm.ClassFile.FieldType.long)) ∈ lw_all := lw_g (lw_at lw_m6 111 rfl) rfl
theorem q1448 : (Jvm.Cond.instanceMethod ({ cls := "LongerHalf", name := "known", desc := "()I" } : Jvm.MethodName)) ∈ lw_all := lw_g (lw_at lw_m6 113 rfl) rfl
theorem q1449 : (Jvm.Cond.selects "LongerHalf" ({ cls := "LongerHalf", name := "known", desc := "()I" } : Jvm.MethodName) ({ cls := "LongerHalf", name := "known", desc := "()I" } : Jvm.MethodName)) ∈ lw_all := lw_g (lw_at lw_m6 114 rfl) rfl
theorem q1450 : (Jvm.Cond.code ({ cls := "LongerHalf", name := "known", desc := "()I" } : Jvm.MethodName) prog_1_method_50_code (3 : Nat) (Option.some Jvm.ClassFile.FieldType.int)) ∈ lw_all := lw_g (lw_at lw_m6 115 rfl) rfl
theorem q1451 : (Jvm.Cond.constantLong "LongerHalf" (332 : Nat) (20 : Int64)) ∈ lw_all := lw_g (lw_at lw_m6 116 rfl) rfl
theorem q1453 : (Jvm.Cond.instanceMethod ({ cls := "LongerHalf", name := "hens", desc := "(I)I" } : Jvm.MethodName)) ∈ lw_all := lw_g (lw_at lw_m6 118 rfl) rfl
theorem q1454 : (Jvm.Cond.selects "LongerHalf" ({ cls := "LongerHalf", name := "hens", desc := "(I)I" } : Jvm.MethodName) ({ cls := "LongerHalf", name := "hens", desc := "(I)I" } : Jvm.MethodName)) ∈ lw_all := lw_g (lw_at lw_m6 119 rfl) rfl
theorem q1455 : (Jvm.Cond.code ({ cls := "LongerHalf", name := "hens", desc := "(I)I" } : Jvm.MethodName) prog_1_method_51_code (3 : Nat) (Option.some Jvm.ClassFile.FieldType.int)) ∈ lw_all := lw_g (lw_at lw_m6 120 rfl) rfl
theorem q1456 : (Jvm.Cond.constant "LongerHalf" (334 : Nat) (1000000 : Int32)) ∈ lw_all := lw_g (lw_at lw_m6 121 rfl) rfl
theorem q1458 : (Jvm.Cond.instanceMethod ({ cls := "LongerHalf", name := "thumbs", desc := "(IZ)J" } : Jvm.MethodName)) ∈ lw_all := lw_g (lw_at lw_m6 123 rfl) rfl
theorem q1459 : (Jvm.Cond.selects "LongerHalf" ({ cls := "LongerHalf", name := "thumbs", desc := "(IZ)J" } : Jvm.MethodName) ({ cls := "LongerHalf", name := "thumbs", desc := "(IZ)J" } : Jvm.MethodName)) ∈ lw_all := lw_g (lw_at lw_m6 124 rfl) rfl
theorem q1460 : (Jvm.Cond.code ({ cls := "LongerHalf", name := "thumbs", desc := "(IZ)J" } : Jvm.MethodName) prog_1_method_53_code (8 : Nat) (Option.some Jvm.ClassFile.FieldType.long)) ∈ lw_all := lw_g (lw_at lw_m6 125 rfl) rfl
theorem q1461 : (Jvm.Cond.methodLink "LongerHalf" (341 : Nat) ({ cls := "LongerHalf", name := "likely", desc := "(III)J" } : Jvm.MethodName)) ∈ lw_all := lw_g (lw_at lw_m6 126 rfl) rfl
theorem q1462 : (Jvm.Cond.static ({ cls := "LongerHalf", name := "likely", desc := "(III)J" } : Jvm.MethodName)) ∈ lw_all := lw_g (lw_at lw_m6 127 rfl) rfl
theorem q1463 : (Jvm.Cond.code ({ cls := "LongerHalf", name := "likely", desc := "(III)J" } : Jvm.MethodName) prog_1_method_52_code (6 : Nat) (Option.some Jvm.ClassFile.FieldType.long)) ∈ lw_all := lw_g (lw_at lw_m6 128 rfl) rfl
theorem q1465 : (Jvm.Cond.instanceMethod ({ cls := "LongerHalf", name := "let", desc := "(II)I" } : Jvm.MethodName)) ∈ lw_all := lw_g (lw_at lw_m6 130 rfl) rfl
theorem q1466 : (Jvm.Cond.selects "LongerHalf" ({ cls := "LongerHalf", name := "let", desc := "(II)I" } : Jvm.MethodName) ({ cls := "LongerHalf", name := "let", desc := "(II)I" } : Jvm.MethodName)) ∈ lw_all := lw_g (lw_at lw_m6 131 rfl) rfl
theorem q1467 : (Jvm.Cond.code ({ cls := "LongerHalf", name := "let", desc := "(II)I" } : Jvm.MethodName) prog_1_method_55_code (5 : Nat) (Option.some Jvm.ClassFile.FieldType.int)) ∈ lw_all := lw_g (lw_at lw_m6 132 rfl) rfl
theorem q1468 : (Jvm.Cond.methodLink "LongerHalf" (351 : Nat) ({ cls := "java/lang/Math", name := "min", desc := "(II)I" } : Jvm.MethodName)) ∈ lw_all := lw_g (lw_at lw_m6 133 rfl) rfl
theorem q1469 : (Jvm.Cond.methodLink "LongerHalf" (354 : Nat) ({ cls := "java/lang/Math", name := "max", desc := "(II)I" } : Jvm.MethodName)) ∈ lw_all := lw_g (lw_at lw_m6 134 rfl) rfl
theorem q1472 : (Jvm.Cond.methodLink "LongerHalf" (357 : Nat) ({ cls := "LongerHalf", name := "worthOf", desc := "(I)I" } : Jvm.MethodName)) ∈ lw_all := lw_g (lw_at lw_m6 137 rfl) rfl
theorem q1473 : (Jvm.Cond.privateMethod ({ cls := "LongerHalf", name := "worthOf", desc := "(I)I" } : Jvm.MethodName)) ∈ lw_tbl := lw_at lw_m6 138 rfl
theorem q1474 : (Jvm.Cond.instanceMethod ({ cls := "LongerHalf", name := "worthOf", desc := "(I)I" } : Jvm.MethodName)) ∈ lw_all := lw_g (lw_at lw_m6 139 rfl) rfl
theorem q1475 : (Jvm.Cond.code ({ cls := "LongerHalf", name := "worthOf", desc := "(I)I" } : Jvm.MethodName) prog_1_method_54_code (4 : Nat) (Option.some Jvm.ClassFile.FieldType.int)) ∈ lw_all := lw_g (lw_at lw_m6 140 rfl) rfl
theorem q1477 : (Jvm.Cond.instanceMethod ({ cls := "LongerHalf", name := "worth", desc := "(I)I" } : Jvm.MethodName)) ∈ lw_all := lw_g (lw_at lw_m6 142 rfl) rfl
theorem q1478 : (Jvm.Cond.selects "LongerHalf" ({ cls := "LongerHalf", name := "worth", desc := "(I)I" } : Jvm.MethodName) ({ cls := "LongerHalf", name := "worth", desc := "(I)I" } : Jvm.MethodName)) ∈ lw_all := lw_g (lw_at lw_m6 143 rfl) rfl
theorem q1479 : (Jvm.Cond.code ({ cls := "LongerHalf", name := "worth", desc := "(I)I" } : Jvm.MethodName) prog_1_method_56_code (2 : Nat) (Option.some Jvm.ClassFile.FieldType.int)) ∈ lw_all := lw_g (lw_at lw_m6 144 rfl) rfl
theorem q1481 : (Jvm.Cond.instanceMethod ({ cls := "LongerHalf", name := "knob", desc := "(I)I" } : Jvm.MethodName)) ∈ lw_all := lw_g (lw_at lw_m6 146 rfl) rfl
theorem q1482 : (Jvm.Cond.selects "LongerHalf" ({ cls := "LongerHalf", name := "knob", desc := "(I)I" } : Jvm.MethodName) ({ cls := "LongerHalf", name := "knob", desc := "(I)I" } : Jvm.MethodName)) ∈ lw_all := lw_g (lw_at lw_m6 147 rfl) rfl
theorem q1483 : (Jvm.Cond.code ({ cls := "LongerHalf", name := "knob", desc := "(I)I" } : Jvm.MethodName) prog_1_method_59_code (2 : Nat) (Option.some Jvm.ClassFile.FieldType.int)) ∈ lw_all := lw_g (lw_at lw_m6 148 rfl) rfl
theorem q1484 : (Jvm.Cond.methodLink "LongerHalf" (379 : Nat) ({ cls := "LongerHalf", name := "seekKnob", desc := "(I)Z" } : Jvm.MethodName)) ∈ lw_all := lw_g (lw_at lw_m6 149 rfl) rfl
theorem q1485 : (Jvm.Cond.privateMethod ({ cls := "LongerHalf", name := "seekKnob", desc := "(I)Z" } : Jvm.MethodName)) ∈ lw_tbl := lw_at lw_m6 150 rfl
theorem q1486 : (Jvm.Cond.instanceMethod ({ cls := "LongerHalf", name := "seekKnob", desc := "(I)Z" } : Jvm.MethodName)) ∈ lw_all := lw_g (lw_at lw_m6 151 rfl) rfl
theorem q1487 : (Jvm.Cond.code ({ cls := "LongerHalf", name := "seekKnob", desc := "(I)Z" } : Jvm.MethodName) prog_1_method_57_code (5 : Nat) (Option.some Jvm.ClassFile.FieldType.boolean)) ∈ lw_all := lw_g (lw_at lw_m6 152 rfl) rfl
theorem q1488 : (Jvm.Cond.methodLink "LongerHalf" (369 : Nat) ({ cls := "LongerHalf", name := "tryKnob", desc := "(IIII)V" } : Jvm.MethodName)) ∈ lw_all := lw_g (lw_at lw_m6 153 rfl) rfl
theorem q1489 : (Jvm.Cond.privateMethod ({ cls := "LongerHalf", name := "tryKnob", desc := "(IIII)V" } : Jvm.MethodName)) ∈ lw_tbl := lw_at lw_m6 154 rfl
theorem q1490 : (Jvm.Cond.instanceMethod ({ cls := "LongerHalf", name := "tryKnob", desc := "(IIII)V" } : Jvm.MethodName)) ∈ lw_all := lw_g (lw_at lw_m6 155 rfl) rfl
theorem q1491 : (Jvm.Cond.code ({ cls := "LongerHalf", name := "tryKnob", desc := "(IIII)V" } : Jvm.MethodName) prog_1_method_58_code (6 : Nat) (Option.none : Option Jvm.ClassFile.FieldType)) ∈ lw_all := lw_g (lw_at lw_m6 156 rfl) rfl
theorem q1493 : (Jvm.Cond.instanceMethod ({ cls := "LongerHalf", name := "owners", desc := "(I)I" } : Jvm.MethodName)) ∈ lw_all := lw_g (lw_at lw_m6 158 rfl) rfl
theorem q1494 : (Jvm.Cond.selects "LongerHalf" ({ cls := "LongerHalf", name := "owners", desc := "(I)I" } : Jvm.MethodName) ({ cls := "LongerHalf", name := "owners", desc := "(I)I" } : Jvm.MethodName)) ∈ lw_all := lw_g (lw_at lw_m6 159 rfl) rfl
theorem q1495 : (Jvm.Cond.code ({ cls := "LongerHalf", name := "owners", desc := "(I)I" } : Jvm.MethodName) prog_1_method_60_code (2 : Nat) (Option.some Jvm.ClassFile.FieldType.int)) ∈ lw_all := lw_g (lw_at lw_m6 160 rfl) rfl
theorem q1497 : (Jvm.Cond.instanceMethod ({ cls := "LongerHalf", name := "wins", desc := "(III)I" } : Jvm.MethodName)) ∈ lw_all := lw_g (lw_at lw_m6 162 rfl) rfl
theorem q1498 : (Jvm.Cond.selects "LongerHalf" ({ cls := "LongerHalf", name := "wins", desc := "(III)I" } : Jvm.MethodName) ({ cls := "LongerHalf", name := "wins", desc := "(III)I" } : Jvm.MethodName)) ∈ lw_all := lw_g (lw_at lw_m6 163 rfl) rfl
theorem q1499 : (Jvm.Cond.code ({ cls := "LongerHalf", name := "wins", desc := "(III)I" } : Jvm.MethodName) prog_1_method_63_code (4 : Nat) (Option.some Jvm.ClassFile.FieldType.int)) ∈ lw_all := lw_g (lw_at lw_m6 164 rfl) rfl
theorem q1500 : (Jvm.Cond.constant "LongerHalf" (401 : Nat) (65536 : Int32)) ∈ lw_all := lw_g (lw_at lw_m6 165 rfl) rfl
theorem q1501 : (Jvm.Cond.methodLink "LongerHalf" (402 : Nat) ({ cls := "LongerHalf", name := "goThrough", desc := "(II)V" } : Jvm.MethodName)) ∈ lw_all := lw_g (lw_at lw_m6 166 rfl) rfl
theorem q1502 : (Jvm.Cond.privateMethod ({ cls := "LongerHalf", name := "goThrough", desc := "(II)V" } : Jvm.MethodName)) ∈ lw_tbl := lw_at lw_m6 167 rfl
theorem q1503 : (Jvm.Cond.instanceMethod ({ cls := "LongerHalf", name := "goThrough", desc := "(II)V" } : Jvm.MethodName)) ∈ lw_all := lw_g (lw_at lw_m6 168 rfl) rfl
theorem q1504 : (Jvm.Cond.code ({ cls := "LongerHalf", name := "goThrough", desc := "(II)V" } : Jvm.MethodName) prog_1_method_62_code (8 : Nat) (Option.none : Option Jvm.ClassFile.FieldType)) ∈ lw_all := lw_g (lw_at lw_m6 169 rfl) rfl
theorem q1505 : (Jvm.Cond.methodLink "LongerHalf" (382 : Nat) ({ cls := "LongerHalf$Drawer", name := "draw", desc := "()I" } : Jvm.MethodName)) ∈ lw_all := lw_g (lw_at lw_m6 170 rfl) rfl
theorem q1510 : (Jvm.Cond.methodLink "LongerHalf" (397 : Nat) ({ cls := "LongerHalf", name := "drawFlaw", desc := "(LLongerHalf$Drawer;)V" } : Jvm.MethodName)) ∈ lw_all := lw_g (lw_at lw_m6 175 rfl) rfl
theorem q1511 : (Jvm.Cond.privateMethod ({ cls := "LongerHalf", name := "drawFlaw", desc := "(LLongerHalf$Drawer;)V" } : Jvm.MethodName)) ∈ lw_tbl := lw_at lw_m6 176 rfl
theorem q1512 : (Jvm.Cond.instanceMethod ({ cls := "LongerHalf", name := "drawFlaw", desc := "(LLongerHalf$Drawer;)V" } : Jvm.MethodName)) ∈ lw_all := lw_g (lw_at lw_m6 177 rfl) rfl
theorem q1513 : (Jvm.Cond.code ({ cls := "LongerHalf", name := "drawFlaw", desc := "(LLongerHalf$Drawer;)V" } : Jvm.MethodName) prog_1_method_61_code (4 : Nat) (Option.none : Option Jvm.ClassFile.FieldType)) ∈ lw_all := lw_g (lw_at lw_m6 178 rfl) rfl
theorem q1514 : (Jvm.Cond.methodLink "LongerHalf" (391 : Nat) ({ cls := "LongerHalf$Bone", name := "places", desc := "()I" } : Jvm.MethodName)) ∈ lw_all := lw_g (lw_at lw_m6 179 rfl) rfl
theorem q1516 : (Jvm.Cond.instanceMethod ({ cls := "LongerHalf", name := "spoilt", desc := "(IIZ)I" } : Jvm.MethodName)) ∈ lw_all := lw_g (lw_at lw_m6 181 rfl) rfl
theorem q1517 : (Jvm.Cond.selects "LongerHalf" ({ cls := "LongerHalf", name := "spoilt", desc := "(IIZ)I" } : Jvm.MethodName) ({ cls := "LongerHalf", name := "spoilt", desc := "(IIZ)I" } : Jvm.MethodName)) ∈ lw_all := lw_g (lw_at lw_m6 182 rfl) rfl
theorem q1518 : (Jvm.Cond.code ({ cls := "LongerHalf", name := "spoilt", desc := "(IIZ)I" } : Jvm.MethodName) prog_1_method_64_code (4 : Nat) (Option.some Jvm.ClassFile.FieldType.int)) ∈ lw_all := lw_g (lw_at lw_m6 183 rfl) rfl
theorem q1520 : (Jvm.Cond.instanceMethod ({ cls := "LongerHalf", name := "dry", desc := "(I)Z" } : Jvm.MethodName)) ∈ lw_all := lw_g (lw_at lw_m6 185 rfl) rfl
theorem q1521 : (Jvm.Cond.selects "LongerHalf" ({ cls := "LongerHalf", name := "dry", desc := "(I)Z" } : Jvm.MethodName) ({ cls := "LongerHalf", name := "dry", desc := "(I)Z" } : Jvm.MethodName)) ∈ lw_all := lw_g (lw_at lw_m6 186 rfl) rfl
theorem q1522 : (Jvm.Cond.code ({ cls := "LongerHalf", name := "dry", desc := "(I)Z" } : Jvm.MethodName) prog_1_method_67_code (3 : Nat) (Option.some Jvm.ClassFile.FieldType.boolean)) ∈ lw_all := lw_g (lw_at lw_m6 187 rfl) rfl
theorem q1523 : (Jvm.Cond.methodLink "LongerHalf" (408 : Nat) ({ cls := "LongerHalf", name := "yes", desc := "(I)Z" } : Jvm.MethodName)) ∈ lw_all := lw_g (lw_at lw_m6 188 rfl) rfl
theorem q1524 : (Jvm.Cond.privateMethod ({ cls := "LongerHalf", name := "yes", desc := "(I)Z" } : Jvm.MethodName)) ∈ lw_tbl := lw_at lw_m6 189 rfl
theorem q1525 : (Jvm.Cond.instanceMethod ({ cls := "LongerHalf", name := "yes", desc := "(I)Z" } : Jvm.MethodName)) ∈ lw_all := lw_g (lw_at lw_m6 190 rfl) rfl
theorem q1526 : (Jvm.Cond.code ({ cls := "LongerHalf", name := "yes", desc := "(I)Z" } : Jvm.MethodName) prog_1_method_8_code (2 : Nat) (Option.some Jvm.ClassFile.FieldType.boolean)) ∈ lw_all := lw_g (lw_at lw_m6 191 rfl) rfl
theorem q1527 : (Jvm.Cond.methodLink "LongerHalf" (411 : Nat) ({ cls := "LongerHalf", name := "note", desc := "()V" } : Jvm.MethodName)) ∈ lw_all := lw_g (lw_at lw_m6 192 rfl) rfl
theorem q1528 : (Jvm.Cond.privateMethod ({ cls := "LongerHalf", name := "note", desc := "()V" } : Jvm.MethodName)) ∈ lw_tbl := lw_at lw_m6 193 rfl
theorem q1529 : (Jvm.Cond.instanceMethod ({ cls := "LongerHalf", name := "note", desc := "()V" } : Jvm.MethodName)) ∈ lw_all := lw_g (lw_at lw_m6 194 rfl) rfl
theorem q1530 : (Jvm.Cond.code ({ cls := "LongerHalf", name := "note", desc := "()V" } : Jvm.MethodName) prog_1_method_65_code (1 : Nat) (Option.none : Option Jvm.ClassFile.FieldType)) ∈ lw_all := lw_g (lw_at lw_m6 195 rfl) rfl
theorem q1531 : (Jvm.Cond.methodLink "LongerHalf" (405 : Nat) ({ cls := "LongerHalf$Drawer", name := "become", desc := "(LLongerHalf$Drawer;)V" } : Jvm.MethodName)) ∈ lw_all := lw_g (lw_at lw_m6 196 rfl) rfl
theorem q1538 : (Jvm.Cond.methodLink "LongerHalf" (414 : Nat) ({ cls := "LongerHalf", name := "done", desc := "()Z" } : Jvm.MethodName)) ∈ lw_all := lw_g (lw_at lw_m6 203 rfl) rfl
theorem q1539 : (Jvm.Cond.privateMethod ({ cls := "LongerHalf", name := "done", desc := "()Z" } : Jvm.MethodName)) ∈ lw_tbl := lw_at lw_m6 204 rfl
theorem q1540 : (Jvm.Cond.instanceMethod ({ cls := "LongerHalf", name := "done", desc := "()Z" } : Jvm.MethodName)) ∈ lw_all := lw_g (lw_at lw_m6 205 rfl) rfl
theorem q1541 : (Jvm.Cond.code ({ cls := "LongerHalf", name := "done", desc := "()Z" } : Jvm.MethodName) prog_1_method_66_code (3 : Nat) (Option.some Jvm.ClassFile.FieldType.boolean)) ∈ lw_all := lw_g (lw_at lw_m6 206 rfl) rfl
theorem q1543 : (Jvm.Cond.instanceMethod ({ cls := "LongerHalf", name := "boil", desc := "(I)Z" } : Jvm.MethodName)) ∈ lw_all := lw_g (lw_at lw_m6 208 rfl) rfl
theorem q1544 : (Jvm.Cond.selects "LongerHalf" ({ cls := "LongerHalf", name := "boil", desc := "(I)Z" } : Jvm.MethodName) ({ cls := "LongerHalf", name := "boil", desc := "(I)Z" } : Jvm.MethodName)) ∈ lw_all := lw_g (lw_at lw_m6 209 rfl) rfl
theorem q1545 : (Jvm.Cond.code ({ cls := "LongerHalf", name := "boil", desc := "(I)Z" } : Jvm.MethodName) prog_1_method_68_code (2 : Nat) (Option.some Jvm.ClassFile.FieldType.boolean)) ∈ lw_all := lw_g (lw_at lw_m6 210 rfl) rfl
theorem q1547 : (Jvm.Cond.instanceMethod ({ cls := "LongerHalf", name := "pull", desc := "(IIIIII)I" } : Jvm.MethodName)) ∈ lw_all := lw_g (lw_at lw_m6 212 rfl) rfl
theorem q1548 : (Jvm.Cond.selects "LongerHalf" ({ cls := "LongerHalf", name := "pull", desc := "(IIIIII)I" } : Jvm.MethodName) ({ cls := "LongerHalf", name := "pull", desc := "(IIIIII)I" } : Jvm.MethodName)) ∈ lw_all := lw_g (lw_at lw_m6 213 rfl) rfl
theorem q1549 : (Jvm.Cond.code ({ cls := "LongerHalf", name := "pull", desc := "(IIIIII)I" } : Jvm.MethodName) prog_1_method_69_code (9 : Nat) (Option.some Jvm.ClassFile.FieldType.int)) ∈ lw_all := lw_g (lw_at lw_m6 214 rfl) rfl
theorem q1550 : (Jvm.Cond.methodLink "LongerHalf" (418 : Nat) ({ cls := "LongerHalf$Bone", name := "isPulled", desc := "()Z" } : Jvm.MethodName)) ∈ lw_all := lw_g (lw_at lw_m6 215 rfl) rfl
theorem q1560 : (Jvm.Cond.instanceMethod ({ cls := "LongerHalf", name := "seed", desc := "(I)Z" } : Jvm.MethodName)) ∈ lw_all := lw_g (lw_at lw_m6 225 rfl) rfl
theorem q1561 : (Jvm.Cond.selects "LongerHalf" ({ cls := "LongerHalf", name := "seed", desc := "(I)Z" } : Jvm.MethodName) ({ cls := "LongerHalf", name := "seed", desc := "(I)Z" } : Jvm.MethodName)) ∈ lw_all := lw_g (lw_at lw_m6 226 rfl) rfl
theorem q1562 : (Jvm.Cond.code ({ cls := "LongerHalf", name := "seed", desc := "(I)Z" } : Jvm.MethodName) prog_1_method_70_code (2 : Nat) (Option.some Jvm.ClassFile.FieldType.boolean)) ∈ lw_all := lw_g (lw_at lw_m6 227 rfl) rfl
theorem q1564 : (Jvm.Cond.instanceMethod ({ cls := "LongerHalf", name := "undo", desc := "()Z" } : Jvm.MethodName)) ∈ lw_all := lw_g (lw_at lw_m6 229 rfl) rfl
theorem q1565 : (Jvm.Cond.selects "LongerHalf" ({ cls := "LongerHalf", name := "undo", desc := "()Z" } : Jvm.MethodName) ({ cls := "LongerHalf", name := "undo", desc := "()Z" } : Jvm.MethodName)) ∈ lw_all := lw_g (lw_at lw_m6 230 rfl) rfl
theorem q1566 : (Jvm.Cond.code ({ cls := "LongerHalf", name := "undo", desc := "()Z" } : Jvm.MethodName) prog_1_method_71_code (1 : Nat) (Option.some Jvm.ClassFile.FieldType.boolean)) ∈ lw_all := lw_g (lw_at lw_m6 231 rfl) rfl
theorem q1568 : (Jvm.Cond.instanceMethod ({ cls := "LongerHalf", name := "mark", desc := "()I" } : Jvm.MethodName)) ∈ lw_all := lw_g (lw_at lw_m6 233 rfl) rfl
theorem q1569 : (Jvm.Cond.selects "LongerHalf" ({ cls := "LongerHalf", name := "mark", desc := "()I" } : Jvm.MethodName) ({ cls := "LongerHalf", name := "mark", desc := "()I" } : Jvm.MethodName)) ∈ lw_all := lw_g (lw_at lw_m6 234 rfl) rfl
theorem q1570 : (Jvm.Cond.code ({ cls := "LongerHalf", name := "mark", desc := "()I" } : Jvm.MethodName) prog_1_method_72_code (1 : Nat) (Option.some Jvm.ClassFile.FieldType.int)) ∈ lw_all := lw_g (lw_at lw_m6 235 rfl) rfl
theorem q1572 : (Jvm.Cond.instanceMethod ({ cls := "LongerHalf", name := "back", desc := "(I)Z" } : Jvm.MethodName)) ∈ lw_all := lw_g (lw_at lw_m6 237 rfl) rfl
theorem q1573 : (Jvm.Cond.selects "LongerHalf" ({ cls := "LongerHalf", name := "back", desc := "(I)Z" } : Jvm.MethodName) ({ cls := "LongerHalf", name := "back", desc := "(I)Z" } : Jvm.MethodName)) ∈ lw_all := lw_g (lw_at lw_m6 238 rfl) rfl
theorem q1574 : (Jvm.Cond.code ({ cls := "LongerHalf", name := "back", desc := "(I)Z" } : Jvm.MethodName) prog_1_method_73_code (2 : Nat) (Option.some Jvm.ClassFile.FieldType.boolean)) ∈ lw_all := lw_g (lw_at lw_m6 239 rfl) rfl
theorem q1576 : (Jvm.Cond.instanceMethod ({ cls := "LongerHalf", name := "size", desc := "(I)I" } : Jvm.MethodName)) ∈ lw_all := lw_g (lw_at lw_m7 1 rfl) rfl
theorem q1577 : (Jvm.Cond.selects "LongerHalf" ({ cls := "LongerHalf", name := "size", desc := "(I)I" } : Jvm.MethodName) ({ cls := "LongerHalf", name := "size", desc := "(I)I" } : Jvm.MethodName)) ∈ lw_all := lw_g (lw_at lw_m7 2 rfl) rfl
theorem q1578 : (Jvm.Cond.code ({ cls := "LongerHalf", name := "size", desc := "(I)I" } : Jvm.MethodName) prog_1_method_75_code (2 : Nat) (Option.some Jvm.ClassFile.FieldType.int)) ∈ lw_all := lw_g (lw_at lw_m7 3 rfl) rfl
theorem q1580 : (Jvm.Cond.instanceMethod ({ cls := "LongerHalf", name := "trouble", desc := "()I" } : Jvm.MethodName)) ∈ lw_all := lw_g (lw_at lw_m7 5 rfl) rfl
theorem q1581 : (Jvm.Cond.selects "LongerHalf" ({ cls := "LongerHalf", name := "trouble", desc := "()I" } : Jvm.MethodName) ({ cls := "LongerHalf", name := "trouble", desc := "()I" } : Jvm.MethodName)) ∈ lw_all := lw_g (lw_at lw_m7 6 rfl) rfl
theorem q1582 : (Jvm.Cond.code ({ cls := "LongerHalf", name := "trouble", desc := "()I" } : Jvm.MethodName) prog_1_method_76_code (1 : Nat) (Option.some Jvm.ClassFile.FieldType.int)) ∈ lw_all := lw_g (lw_at lw_m7 7 rfl) rfl
theorem q1588 : (Jvm.Cond.instanceMethod ({ cls := "LongerHalf", name := "led", desc := "(I)I" } : Jvm.MethodName)) ∈ lw_all := lw_g (lw_at lw_m7 13 rfl) rfl
theorem q1589 : (Jvm.Cond.selects "LongerHalf" ({ cls := "LongerHalf", name := "led", desc := "(I)I" } : Jvm.MethodName) ({ cls := "LongerHalf", name := "led", desc := "(I)I" } : Jvm.MethodName)) ∈ lw_all := lw_g (lw_at lw_m7 14 rfl) rfl
theorem q1590 : (Jvm.Cond.code ({ cls := "LongerHalf", name := "led", desc := "(I)I" } : Jvm.MethodName) prog_1_method_74_code (4 : Nat) (Option.some Jvm.ClassFile.FieldType.int)) ∈ lw_all := lw_g (lw_at lw_m7 15 rfl) rfl
theorem q1591 : (Jvm.Cond.classLink "LongerHalf" (421 : Nat) "java/util/NoSuchElementException") ∈ lw_all := lw_g (lw_at lw_m7 16 rfl) rfl
theorem q1600 : (Jvm.Cond.methodLink "LongerHalf" (423 : Nat) ({ cls := "java/util/NoSuchElementException", name := "<init>", desc := "()V" } : Jvm.MethodName)) ∈ lw_all := lw_g (lw_at lw_m7 25 rfl) rfl
theorem q2464 : (Jvm.Cond.castable "LongerHalf" "java/lang/Object") ∈ lw_tbl := lw_at lw_m10 169 rfl
theorem in_X1 : ∀ w ∈ wsX10, w ∈ lw_all := lw_in wsX10 [439, 441, 443, 445, 447, 449, 451, 453, 455, 457, 459, 461, 463, 465, 467, 469, 471, 473, 475, 477, 479] (by decide +kernel) (by decide +kernel)

