set_option maxRecDepth 100000
abbrev cX8_curve : ByteArray := prog_20_method_82_code
def yX8_curve : MethodName := ⟨RX8, "curve", "(IIIIZ)J"⟩
def dkwX8_curve_3 : List UInt8 := [182, 1, 210, 173]
abbrev dktX8_curve_3 : List UInt8 := dkwX8_curve_3 ++ []
def dkwX8_curve_2 : List UInt8 := [27, 28, 29, 21, 4, 182, 1, 236, 55, 6, 42, 22, 6, 20, 1, 180, 42, 182, 1, 174, 133, 105, 21, 5]
abbrev dktX8_curve_2 : List UInt8 := dkwX8_curve_2 ++ dktX8_curve_3
def dkwX8_curve_1 : List UInt8 := [182, 0, 59, 133, 173, 21, 4, 3, 16, 24, 184, 0, 138, 154, 0, 10, 42, 5, 182, 0, 59, 133, 173, 42]
abbrev dktX8_curve_1 : List UInt8 := dkwX8_curve_1 ++ dktX8_curve_2
def dkwX8_curve_0 : List UInt8 := [42, 3, 181, 0, 53, 42, 27, 182, 1, 188, 153, 0, 12, 42, 28, 29, 182, 1, 199, 154, 0, 10, 42, 4]
abbrev dktX8_curve_0 : List UInt8 := dkwX8_curve_0 ++ dktX8_curve_1
theorem dksX8_curve_0 : cX8_curve.data.toList.drop 0 = dktX8_curve_0 := by decide +kernel
theorem dksX8_curve_1 : cX8_curve.data.toList.drop 24 = dktX8_curve_1 := dk_seg dksX8_curve_0 24 rfl rfl
theorem dksX8_curve_2 : cX8_curve.data.toList.drop 48 = dktX8_curve_2 := dk_seg dksX8_curve_1 24 rfl rfl
theorem dksX8_curve_3 : cX8_curve.data.toList.drop 72 = dktX8_curve_3 := dk_seg dksX8_curve_2 24 rfl rfl
theorem dX8_curve_0 : decode cX8_curve 0 = .ok (.aload_n 0, 1) := dk_42 (dk_at dksX8_curve_0 0 rfl rfl)
theorem dX8_curve_1 : decode cX8_curve 1 = .ok (.iconst 0, 1) := dk_3 (dk_at dksX8_curve_0 1 rfl rfl)
theorem dX8_curve_2 : decode cX8_curve 2 = .ok (.putfield 53, 3) := dk_181 0 53 (dk_at dksX8_curve_0 2 rfl rfl)
theorem dX8_curve_5 : decode cX8_curve 5 = .ok (.aload_n 0, 1) := dk_42 (dk_at dksX8_curve_0 5 rfl rfl)
theorem dX8_curve_6 : decode cX8_curve 6 = .ok (.iload_n 1, 1) := dk_27 (dk_at dksX8_curve_0 6 rfl rfl)
theorem dX8_curve_7 : decode cX8_curve 7 = .ok (.invokevirtual 444, 3) := dk_182 1 188 (dk_at dksX8_curve_0 7 rfl rfl)
theorem dX8_curve_10 : decode cX8_curve 10 = .ok (.ifCond .eq 12, 3) := dk_153 0 12 (dk_at dksX8_curve_0 10 rfl rfl)
theorem dX8_curve_13 : decode cX8_curve 13 = .ok (.aload_n 0, 1) := dk_42 (dk_at dksX8_curve_0 13 rfl rfl)
theorem dX8_curve_14 : decode cX8_curve 14 = .ok (.iload_n 2, 1) := dk_28 (dk_at dksX8_curve_0 14 rfl rfl)
theorem dX8_curve_15 : decode cX8_curve 15 = .ok (.iload_n 3, 1) := dk_29 (dk_at dksX8_curve_0 15 rfl rfl)
theorem dX8_curve_16 : decode cX8_curve 16 = .ok (.invokevirtual 455, 3) := dk_182 1 199 (dk_at dksX8_curve_0 16 rfl rfl)
theorem dX8_curve_19 : decode cX8_curve 19 = .ok (.ifCond .ne 10, 3) := dk_154 0 10 (dk_at dksX8_curve_0 19 rfl rfl)
theorem dX8_curve_22 : decode cX8_curve 22 = .ok (.aload_n 0, 1) := dk_42 (dk_at dksX8_curve_0 22 rfl rfl)
theorem dX8_curve_23 : decode cX8_curve 23 = .ok (.iconst 1, 1) := dk_4 (dk_at dksX8_curve_0 23 rfl rfl)
theorem dX8_curve_24 : decode cX8_curve 24 = .ok (.invokevirtual 59, 3) := dk_182 0 59 (dk_at dksX8_curve_1 0 rfl rfl)
theorem dX8_curve_27 : decode cX8_curve 27 = .ok (.i2l, 1) := dk_133 (dk_at dksX8_curve_1 3 rfl rfl)
theorem dX8_curve_28 : decode cX8_curve 28 = .ok (.lreturn, 1) := dk_173 (dk_at dksX8_curve_1 4 rfl rfl)
theorem dX8_curve_29 : decode cX8_curve 29 = .ok (.iload 4, 2) := dk_21 4 (dk_at dksX8_curve_1 5 rfl rfl)
theorem dX8_curve_31 : decode cX8_curve 31 = .ok (.iconst 0, 1) := dk_3 (dk_at dksX8_curve_1 7 rfl rfl)
theorem dX8_curve_32 : decode cX8_curve 32 = .ok (.bipush 24, 2) := dk_16 24 (dk_at dksX8_curve_1 8 rfl rfl)
theorem dX8_curve_34 : decode cX8_curve 34 = .ok (.invokestatic 138, 3) := dk_184 0 138 (dk_at dksX8_curve_1 10 rfl rfl)
theorem dX8_curve_37 : decode cX8_curve 37 = .ok (.ifCond .ne 10, 3) := dk_154 0 10 (dk_at dksX8_curve_1 13 rfl rfl)
theorem dX8_curve_40 : decode cX8_curve 40 = .ok (.aload_n 0, 1) := dk_42 (dk_at dksX8_curve_1 16 rfl rfl)
theorem dX8_curve_41 : decode cX8_curve 41 = .ok (.iconst 2, 1) := dk_5 (dk_at dksX8_curve_1 17 rfl rfl)
theorem dX8_curve_42 : decode cX8_curve 42 = .ok (.invokevirtual 59, 3) := dk_182 0 59 (dk_at dksX8_curve_1 18 rfl rfl)
theorem dX8_curve_45 : decode cX8_curve 45 = .ok (.i2l, 1) := dk_133 (dk_at dksX8_curve_1 21 rfl rfl)
theorem dX8_curve_46 : decode cX8_curve 46 = .ok (.lreturn, 1) := dk_173 (dk_at dksX8_curve_1 22 rfl rfl)
theorem dX8_curve_47 : decode cX8_curve 47 = .ok (.aload_n 0, 1) := dk_42 (dk_at dksX8_curve_1 23 rfl rfl)
theorem dX8_curve_48 : decode cX8_curve 48 = .ok (.iload_n 1, 1) := dk_27 (dk_at dksX8_curve_2 0 rfl rfl)
theorem dX8_curve_49 : decode cX8_curve 49 = .ok (.iload_n 2, 1) := dk_28 (dk_at dksX8_curve_2 1 rfl rfl)
theorem dX8_curve_50 : decode cX8_curve 50 = .ok (.iload_n 3, 1) := dk_29 (dk_at dksX8_curve_2 2 rfl rfl)
theorem dX8_curve_51 : decode cX8_curve 51 = .ok (.iload 4, 2) := dk_21 4 (dk_at dksX8_curve_2 3 rfl rfl)
theorem dX8_curve_53 : decode cX8_curve 53 = .ok (.invokevirtual 492, 3) := dk_182 1 236 (dk_at dksX8_curve_2 5 rfl rfl)
theorem dX8_curve_56 : decode cX8_curve 56 = .ok (.lstore 6, 2) := dk_55 6 (dk_at dksX8_curve_2 8 rfl rfl)
theorem dX8_curve_58 : decode cX8_curve 58 = .ok (.aload_n 0, 1) := dk_42 (dk_at dksX8_curve_2 10 rfl rfl)
theorem dX8_curve_59 : decode cX8_curve 59 = .ok (.lload 6, 2) := dk_22 6 (dk_at dksX8_curve_2 11 rfl rfl)
theorem dX8_curve_61 : decode cX8_curve 61 = .ok (.ldc2_w 436, 3) := dk_20 1 180 (dk_at dksX8_curve_2 13 rfl rfl)
theorem dX8_curve_64 : decode cX8_curve 64 = .ok (.aload_n 0, 1) := dk_42 (dk_at dksX8_curve_2 16 rfl rfl)
theorem dX8_curve_65 : decode cX8_curve 65 = .ok (.invokevirtual 430, 3) := dk_182 1 174 (dk_at dksX8_curve_2 17 rfl rfl)
theorem dX8_curve_68 : decode cX8_curve 68 = .ok (.i2l, 1) := dk_133 (dk_at dksX8_curve_2 20 rfl rfl)
theorem dX8_curve_69 : decode cX8_curve 69 = .ok (.lmul, 1) := dk_105 (dk_at dksX8_curve_2 21 rfl rfl)
theorem dX8_curve_70 : decode cX8_curve 70 = .ok (.iload 5, 2) := dk_21 5 (dk_at dksX8_curve_2 22 rfl rfl)
theorem dX8_curve_72 : decode cX8_curve 72 = .ok (.invokevirtual 466, 3) := dk_182 1 210 (dk_at dksX8_curve_3 0 rfl rfl)
theorem dX8_curve_75 : decode cX8_curve 75 = .ok (.lreturn, 1) := dk_173 (dk_at dksX8_curve_3 3 rfl rfl)
abbrev cX8_curveOf : ByteArray := prog_20_method_81_code
def yX8_curveOf : MethodName := ⟨RX8, "curveOf", "(IIII)J"⟩
def dkwX8_curveOf_0 : List UInt8 := [42, 27, 28, 29, 182, 1, 233, 42, 21, 4, 181, 1, 127, 42, 3, 182, 1, 206, 173]
abbrev dktX8_curveOf_0 : List UInt8 := dkwX8_curveOf_0 ++ []
theorem dksX8_curveOf_0 : cX8_curveOf.data.toList.drop 0 = dktX8_curveOf_0 := by decide +kernel
theorem dX8_curveOf_0 : decode cX8_curveOf 0 = .ok (.aload_n 0, 1) := dk_42 (dk_at dksX8_curveOf_0 0 rfl rfl)
theorem dX8_curveOf_1 : decode cX8_curveOf 1 = .ok (.iload_n 1, 1) := dk_27 (dk_at dksX8_curveOf_0 1 rfl rfl)
theorem dX8_curveOf_2 : decode cX8_curveOf 2 = .ok (.iload_n 2, 1) := dk_28 (dk_at dksX8_curveOf_0 2 rfl rfl)
theorem dX8_curveOf_3 : decode cX8_curveOf 3 = .ok (.iload_n 3, 1) := dk_29 (dk_at dksX8_curveOf_0 3 rfl rfl)
theorem dX8_curveOf_4 : decode cX8_curveOf 4 = .ok (.invokevirtual 489, 3) := dk_182 1 233 (dk_at dksX8_curveOf_0 4 rfl rfl)
theorem dX8_curveOf_7 : decode cX8_curveOf 7 = .ok (.aload_n 0, 1) := dk_42 (dk_at dksX8_curveOf_0 7 rfl rfl)
theorem dX8_curveOf_8 : decode cX8_curveOf 8 = .ok (.iload 4, 2) := dk_21 4 (dk_at dksX8_curveOf_0 8 rfl rfl)
theorem dX8_curveOf_10 : decode cX8_curveOf 10 = .ok (.putfield 383, 3) := dk_181 1 127 (dk_at dksX8_curveOf_0 10 rfl rfl)
theorem dX8_curveOf_13 : decode cX8_curveOf 13 = .ok (.aload_n 0, 1) := dk_42 (dk_at dksX8_curveOf_0 13 rfl rfl)
theorem dX8_curveOf_14 : decode cX8_curveOf 14 = .ok (.iconst 0, 1) := dk_3 (dk_at dksX8_curveOf_0 14 rfl rfl)
theorem dX8_curveOf_15 : decode cX8_curveOf 15 = .ok (.invokevirtual 462, 3) := dk_182 1 206 (dk_at dksX8_curveOf_0 15 rfl rfl)
theorem dX8_curveOf_18 : decode cX8_curveOf 18 = .ok (.lreturn, 1) := dk_173 (dk_at dksX8_curveOf_0 18 rfl rfl)
abbrev cX8_laysTold : ByteArray := prog_20_method_47_code
def yX8_laysTold : MethodName := ⟨RX8, "laysTold", "(III)V"⟩
def dkwX8_laysTold_1 : List UInt8 := [5, 182, 1, 140, 177]
abbrev dktX8_laysTold_1 : List UInt8 := dkwX8_laysTold_1 ++ []
def dkwX8_laysTold_0 : List UInt8 := [42, 27, 28, 42, 180, 1, 117, 28, 27, 3, 182, 1, 136, 29, 42, 180, 1, 117, 29, 27, 4, 182, 1, 136]
abbrev dktX8_laysTold_0 : List UInt8 := dkwX8_laysTold_0 ++ dktX8_laysTold_1
theorem dksX8_laysTold_0 : cX8_laysTold.data.toList.drop 0 = dktX8_laysTold_0 := by decide +kernel
theorem dksX8_laysTold_1 : cX8_laysTold.data.toList.drop 24 = dktX8_laysTold_1 := dk_seg dksX8_laysTold_0 24 rfl rfl
theorem dX8_laysTold_0 : decode cX8_laysTold 0 = .ok (.aload_n 0, 1) := dk_42 (dk_at dksX8_laysTold_0 0 rfl rfl)
theorem dX8_laysTold_1 : decode cX8_laysTold 1 = .ok (.iload_n 1, 1) := dk_27 (dk_at dksX8_laysTold_0 1 rfl rfl)
theorem dX8_laysTold_2 : decode cX8_laysTold 2 = .ok (.iload_n 2, 1) := dk_28 (dk_at dksX8_laysTold_0 2 rfl rfl)
theorem dX8_laysTold_3 : decode cX8_laysTold 3 = .ok (.aload_n 0, 1) := dk_42 (dk_at dksX8_laysTold_0 3 rfl rfl)
theorem dX8_laysTold_4 : decode cX8_laysTold 4 = .ok (.getfield 373, 3) := dk_180 1 117 (dk_at dksX8_laysTold_0 4 rfl rfl)
theorem dX8_laysTold_7 : decode cX8_laysTold 7 = .ok (.iload_n 2, 1) := dk_28 (dk_at dksX8_laysTold_0 7 rfl rfl)
theorem dX8_laysTold_8 : decode cX8_laysTold 8 = .ok (.iload_n 1, 1) := dk_27 (dk_at dksX8_laysTold_0 8 rfl rfl)
theorem dX8_laysTold_9 : decode cX8_laysTold 9 = .ok (.iconst 0, 1) := dk_3 (dk_at dksX8_laysTold_0 9 rfl rfl)
theorem dX8_laysTold_10 : decode cX8_laysTold 10 = .ok (.invokevirtual 392, 3) := dk_182 1 136 (dk_at dksX8_laysTold_0 10 rfl rfl)
theorem dX8_laysTold_13 : decode cX8_laysTold 13 = .ok (.iload_n 3, 1) := dk_29 (dk_at dksX8_laysTold_0 13 rfl rfl)
theorem dX8_laysTold_14 : decode cX8_laysTold 14 = .ok (.aload_n 0, 1) := dk_42 (dk_at dksX8_laysTold_0 14 rfl rfl)
theorem dX8_laysTold_15 : decode cX8_laysTold 15 = .ok (.getfield 373, 3) := dk_180 1 117 (dk_at dksX8_laysTold_0 15 rfl rfl)
theorem dX8_laysTold_18 : decode cX8_laysTold 18 = .ok (.iload_n 3, 1) := dk_29 (dk_at dksX8_laysTold_0 18 rfl rfl)
theorem dX8_laysTold_19 : decode cX8_laysTold 19 = .ok (.iload_n 1, 1) := dk_27 (dk_at dksX8_laysTold_0 19 rfl rfl)
theorem dX8_laysTold_20 : decode cX8_laysTold 20 = .ok (.iconst 1, 1) := dk_4 (dk_at dksX8_laysTold_0 20 rfl rfl)
theorem dX8_laysTold_21 : decode cX8_laysTold 21 = .ok (.invokevirtual 392, 3) := dk_182 1 136 (dk_at dksX8_laysTold_0 21 rfl rfl)
theorem dX8_laysTold_24 : decode cX8_laysTold 24 = .ok (.iconst 2, 1) := dk_5 (dk_at dksX8_laysTold_1 0 rfl rfl)
theorem dX8_laysTold_25 : decode cX8_laysTold 25 = .ok (.invokevirtual 396, 3) := dk_182 1 140 (dk_at dksX8_laysTold_1 1 rfl rfl)
theorem dX8_laysTold_28 : decode cX8_laysTold 28 = .ok (.return_, 1) := dk_177 (dk_at dksX8_laysTold_1 4 rfl rfl)
abbrev cX8_bestDay : ByteArray := prog_20_method_83_code
def yX8_bestDay : MethodName := ⟨RX8, "bestDay", "(III)I"⟩
def dkwX8_bestDay_3 : List UInt8 := [167, 255, 220, 42, 21, 4, 182, 0, 63, 172]
abbrev dktX8_bestDay_3 : List UInt8 := dkwX8_bestDay_3 ++ []
def dkwX8_bestDay_2 : List UInt8 := [182, 1, 236, 42, 27, 28, 29, 21, 4, 182, 1, 236, 148, 158, 0, 7, 21, 5, 54, 4, 132, 5, 1]
abbrev dktX8_bestDay_2 : List UInt8 := dkwX8_bestDay_2 ++ dktX8_bestDay_3
def dkwX8_bestDay_1 : List UInt8 := [182, 0, 59, 172, 3, 54, 4, 4, 54, 5, 21, 5, 16, 24, 163, 0, 35, 42, 27, 28, 29, 21, 5]
abbrev dktX8_bestDay_1 : List UInt8 := dkwX8_bestDay_1 ++ dktX8_bestDay_2
def dkwX8_bestDay_0 : List UInt8 := [42, 3, 181, 0, 53, 42, 27, 182, 1, 188, 153, 0, 12, 42, 28, 29, 182, 1, 199, 154, 0, 9, 42, 4]
abbrev dktX8_bestDay_0 : List UInt8 := dkwX8_bestDay_0 ++ dktX8_bestDay_1
theorem dksX8_bestDay_0 : cX8_bestDay.data.toList.drop 0 = dktX8_bestDay_0 := by decide +kernel
theorem dksX8_bestDay_1 : cX8_bestDay.data.toList.drop 24 = dktX8_bestDay_1 := dk_seg dksX8_bestDay_0 24 rfl rfl
theorem dksX8_bestDay_2 : cX8_bestDay.data.toList.drop 47 = dktX8_bestDay_2 := dk_seg dksX8_bestDay_1 23 rfl rfl
theorem dksX8_bestDay_3 : cX8_bestDay.data.toList.drop 70 = dktX8_bestDay_3 := dk_seg dksX8_bestDay_2 23 rfl rfl
theorem dX8_bestDay_0 : decode cX8_bestDay 0 = .ok (.aload_n 0, 1) := dk_42 (dk_at dksX8_bestDay_0 0 rfl rfl)
theorem dX8_bestDay_1 : decode cX8_bestDay 1 = .ok (.iconst 0, 1) := dk_3 (dk_at dksX8_bestDay_0 1 rfl rfl)
theorem dX8_bestDay_2 : decode cX8_bestDay 2 = .ok (.putfield 53, 3) := dk_181 0 53 (dk_at dksX8_bestDay_0 2 rfl rfl)
theorem dX8_bestDay_5 : decode cX8_bestDay 5 = .ok (.aload_n 0, 1) := dk_42 (dk_at dksX8_bestDay_0 5 rfl rfl)
theorem dX8_bestDay_6 : decode cX8_bestDay 6 = .ok (.iload_n 1, 1) := dk_27 (dk_at dksX8_bestDay_0 6 rfl rfl)
theorem dX8_bestDay_7 : decode cX8_bestDay 7 = .ok (.invokevirtual 444, 3) := dk_182 1 188 (dk_at dksX8_bestDay_0 7 rfl rfl)
theorem dX8_bestDay_10 : decode cX8_bestDay 10 = .ok (.ifCond .eq 12, 3) := dk_153 0 12 (dk_at dksX8_bestDay_0 10 rfl rfl)
theorem dX8_bestDay_13 : decode cX8_bestDay 13 = .ok (.aload_n 0, 1) := dk_42 (dk_at dksX8_bestDay_0 13 rfl rfl)
theorem dX8_bestDay_14 : decode cX8_bestDay 14 = .ok (.iload_n 2, 1) := dk_28 (dk_at dksX8_bestDay_0 14 rfl rfl)
theorem dX8_bestDay_15 : decode cX8_bestDay 15 = .ok (.iload_n 3, 1) := dk_29 (dk_at dksX8_bestDay_0 15 rfl rfl)
theorem dX8_bestDay_16 : decode cX8_bestDay 16 = .ok (.invokevirtual 455, 3) := dk_182 1 199 (dk_at dksX8_bestDay_0 16 rfl rfl)
theorem dX8_bestDay_19 : decode cX8_bestDay 19 = .ok (.ifCond .ne 9, 3) := dk_154 0 9 (dk_at dksX8_bestDay_0 19 rfl rfl)
theorem dX8_bestDay_22 : decode cX8_bestDay 22 = .ok (.aload_n 0, 1) := dk_42 (dk_at dksX8_bestDay_0 22 rfl rfl)
theorem dX8_bestDay_23 : decode cX8_bestDay 23 = .ok (.iconst 1, 1) := dk_4 (dk_at dksX8_bestDay_0 23 rfl rfl)
theorem dX8_bestDay_24 : decode cX8_bestDay 24 = .ok (.invokevirtual 59, 3) := dk_182 0 59 (dk_at dksX8_bestDay_1 0 rfl rfl)
theorem dX8_bestDay_27 : decode cX8_bestDay 27 = .ok (.ireturn, 1) := dk_172 (dk_at dksX8_bestDay_1 3 rfl rfl)
theorem dX8_bestDay_28 : decode cX8_bestDay 28 = .ok (.iconst 0, 1) := dk_3 (dk_at dksX8_bestDay_1 4 rfl rfl)
theorem dX8_bestDay_29 : decode cX8_bestDay 29 = .ok (.istore 4, 2) := dk_54 4 (dk_at dksX8_bestDay_1 5 rfl rfl)
theorem dX8_bestDay_31 : decode cX8_bestDay 31 = .ok (.iconst 1, 1) := dk_4 (dk_at dksX8_bestDay_1 7 rfl rfl)
theorem dX8_bestDay_32 : decode cX8_bestDay 32 = .ok (.istore 5, 2) := dk_54 5 (dk_at dksX8_bestDay_1 8 rfl rfl)
theorem dX8_bestDay_34 : decode cX8_bestDay 34 = .ok (.iload 5, 2) := dk_21 5 (dk_at dksX8_bestDay_1 10 rfl rfl)
theorem dX8_bestDay_36 : decode cX8_bestDay 36 = .ok (.bipush 24, 2) := dk_16 24 (dk_at dksX8_bestDay_1 12 rfl rfl)
theorem dX8_bestDay_38 : decode cX8_bestDay 38 = .ok (.if_icmp .gt 35, 3) := dk_163 0 35 (dk_at dksX8_bestDay_1 14 rfl rfl)
theorem dX8_bestDay_41 : decode cX8_bestDay 41 = .ok (.aload_n 0, 1) := dk_42 (dk_at dksX8_bestDay_1 17 rfl rfl)
theorem dX8_bestDay_42 : decode cX8_bestDay 42 = .ok (.iload_n 1, 1) := dk_27 (dk_at dksX8_bestDay_1 18 rfl rfl)
theorem dX8_bestDay_43 : decode cX8_bestDay 43 = .ok (.iload_n 2, 1) := dk_28 (dk_at dksX8_bestDay_1 19 rfl rfl)
theorem dX8_bestDay_44 : decode cX8_bestDay 44 = .ok (.iload_n 3, 1) := dk_29 (dk_at dksX8_bestDay_1 20 rfl rfl)
theorem dX8_bestDay_45 : decode cX8_bestDay 45 = .ok (.iload 5, 2) := dk_21 5 (dk_at dksX8_bestDay_1 21 rfl rfl)
theorem dX8_bestDay_47 : decode cX8_bestDay 47 = .ok (.invokevirtual 492, 3) := dk_182 1 236 (dk_at dksX8_bestDay_2 0 rfl rfl)
theorem dX8_bestDay_50 : decode cX8_bestDay 50 = .ok (.aload_n 0, 1) := dk_42 (dk_at dksX8_bestDay_2 3 rfl rfl)
theorem dX8_bestDay_51 : decode cX8_bestDay 51 = .ok (.iload_n 1, 1) := dk_27 (dk_at dksX8_bestDay_2 4 rfl rfl)
theorem dX8_bestDay_52 : decode cX8_bestDay 52 = .ok (.iload_n 2, 1) := dk_28 (dk_at dksX8_bestDay_2 5 rfl rfl)
theorem dX8_bestDay_53 : decode cX8_bestDay 53 = .ok (.iload_n 3, 1) := dk_29 (dk_at dksX8_bestDay_2 6 rfl rfl)
theorem dX8_bestDay_54 : decode cX8_bestDay 54 = .ok (.iload 4, 2) := dk_21 4 (dk_at dksX8_bestDay_2 7 rfl rfl)
theorem dX8_bestDay_56 : decode cX8_bestDay 56 = .ok (.invokevirtual 492, 3) := dk_182 1 236 (dk_at dksX8_bestDay_2 9 rfl rfl)
theorem dX8_bestDay_59 : decode cX8_bestDay 59 = .ok (.lcmp, 1) := dk_148 (dk_at dksX8_bestDay_2 12 rfl rfl)
theorem dX8_bestDay_60 : decode cX8_bestDay 60 = .ok (.ifCond .le 7, 3) := dk_158 0 7 (dk_at dksX8_bestDay_2 13 rfl rfl)
theorem dX8_bestDay_63 : decode cX8_bestDay 63 = .ok (.iload 5, 2) := dk_21 5 (dk_at dksX8_bestDay_2 16 rfl rfl)
theorem dX8_bestDay_65 : decode cX8_bestDay 65 = .ok (.istore 4, 2) := dk_54 4 (dk_at dksX8_bestDay_2 18 rfl rfl)
theorem dX8_bestDay_67 : decode cX8_bestDay 67 = .ok (.iinc 5 1, 3) := dk_132 5 1 (dk_at dksX8_bestDay_2 20 rfl rfl)
theorem dX8_bestDay_70 : decode cX8_bestDay 70 = .ok (.goto (-36), 3) := dk_167 255 220 (dk_at dksX8_bestDay_3 0 rfl rfl)
theorem dX8_bestDay_73 : decode cX8_bestDay 73 = .ok (.aload_n 0, 1) := dk_42 (dk_at dksX8_bestDay_3 3 rfl rfl)
theorem dX8_bestDay_74 : decode cX8_bestDay 74 = .ok (.iload 4, 2) := dk_21 4 (dk_at dksX8_bestDay_3 4 rfl rfl)
theorem dX8_bestDay_76 : decode cX8_bestDay 76 = .ok (.invokevirtual 63, 3) := dk_182 0 63 (dk_at dksX8_bestDay_3 6 rfl rfl)
theorem dX8_bestDay_79 : decode cX8_bestDay 79 = .ok (.ireturn, 1) := dk_172 (dk_at dksX8_bestDay_3 9 rfl rfl)
abbrev cX8_lawOdds : ByteArray := prog_20_method_88_code
def yX8_lawOdds : MethodName := ⟨RX8, "lawOdds", "(IIIIZ)J"⟩
def dkwX8_lawOdds_2 : List UInt8 := [55, 6, 42, 22, 6, 20, 1, 253, 42, 182, 1, 174, 133, 105, 21, 5, 182, 1, 210, 173]
abbrev dktX8_lawOdds_2 : List UInt8 := dkwX8_lawOdds_2 ++ []
def dkwX8_lawOdds_1 : List UInt8 := [21, 4, 182, 1, 199, 154, 0, 10, 42, 4, 182, 0, 59, 133, 173, 42, 27, 28, 29, 21, 4, 182, 1, 250]
abbrev dktX8_lawOdds_1 : List UInt8 := dkwX8_lawOdds_1 ++ dktX8_lawOdds_2
def dkwX8_lawOdds_0 : List UInt8 := [42, 3, 181, 0, 53, 27, 3, 6, 184, 0, 138, 153, 0, 21, 42, 28, 182, 1, 188, 153, 0, 13, 42, 29]
abbrev dktX8_lawOdds_0 : List UInt8 := dkwX8_lawOdds_0 ++ dktX8_lawOdds_1
theorem dksX8_lawOdds_0 : cX8_lawOdds.data.toList.drop 0 = dktX8_lawOdds_0 := by decide +kernel
theorem dksX8_lawOdds_1 : cX8_lawOdds.data.toList.drop 24 = dktX8_lawOdds_1 := dk_seg dksX8_lawOdds_0 24 rfl rfl
theorem dksX8_lawOdds_2 : cX8_lawOdds.data.toList.drop 48 = dktX8_lawOdds_2 := dk_seg dksX8_lawOdds_1 24 rfl rfl
theorem dX8_lawOdds_0 : decode cX8_lawOdds 0 = .ok (.aload_n 0, 1) := dk_42 (dk_at dksX8_lawOdds_0 0 rfl rfl)
theorem dX8_lawOdds_1 : decode cX8_lawOdds 1 = .ok (.iconst 0, 1) := dk_3 (dk_at dksX8_lawOdds_0 1 rfl rfl)
theorem dX8_lawOdds_2 : decode cX8_lawOdds 2 = .ok (.putfield 53, 3) := dk_181 0 53 (dk_at dksX8_lawOdds_0 2 rfl rfl)
theorem dX8_lawOdds_5 : decode cX8_lawOdds 5 = .ok (.iload_n 1, 1) := dk_27 (dk_at dksX8_lawOdds_0 5 rfl rfl)
theorem dX8_lawOdds_6 : decode cX8_lawOdds 6 = .ok (.iconst 0, 1) := dk_3 (dk_at dksX8_lawOdds_0 6 rfl rfl)
theorem dX8_lawOdds_7 : decode cX8_lawOdds 7 = .ok (.iconst 3, 1) := dk_6 (dk_at dksX8_lawOdds_0 7 rfl rfl)
theorem dX8_lawOdds_8 : decode cX8_lawOdds 8 = .ok (.invokestatic 138, 3) := dk_184 0 138 (dk_at dksX8_lawOdds_0 8 rfl rfl)
theorem dX8_lawOdds_11 : decode cX8_lawOdds 11 = .ok (.ifCond .eq 21, 3) := dk_153 0 21 (dk_at dksX8_lawOdds_0 11 rfl rfl)
theorem dX8_lawOdds_14 : decode cX8_lawOdds 14 = .ok (.aload_n 0, 1) := dk_42 (dk_at dksX8_lawOdds_0 14 rfl rfl)
theorem dX8_lawOdds_15 : decode cX8_lawOdds 15 = .ok (.iload_n 2, 1) := dk_28 (dk_at dksX8_lawOdds_0 15 rfl rfl)
theorem dX8_lawOdds_16 : decode cX8_lawOdds 16 = .ok (.invokevirtual 444, 3) := dk_182 1 188 (dk_at dksX8_lawOdds_0 16 rfl rfl)
theorem dX8_lawOdds_19 : decode cX8_lawOdds 19 = .ok (.ifCond .eq 13, 3) := dk_153 0 13 (dk_at dksX8_lawOdds_0 19 rfl rfl)
theorem dX8_lawOdds_22 : decode cX8_lawOdds 22 = .ok (.aload_n 0, 1) := dk_42 (dk_at dksX8_lawOdds_0 22 rfl rfl)
theorem dX8_lawOdds_23 : decode cX8_lawOdds 23 = .ok (.iload_n 3, 1) := dk_29 (dk_at dksX8_lawOdds_0 23 rfl rfl)
theorem dX8_lawOdds_24 : decode cX8_lawOdds 24 = .ok (.iload 4, 2) := dk_21 4 (dk_at dksX8_lawOdds_1 0 rfl rfl)
theorem dX8_lawOdds_26 : decode cX8_lawOdds 26 = .ok (.invokevirtual 455, 3) := dk_182 1 199 (dk_at dksX8_lawOdds_1 2 rfl rfl)
theorem dX8_lawOdds_29 : decode cX8_lawOdds 29 = .ok (.ifCond .ne 10, 3) := dk_154 0 10 (dk_at dksX8_lawOdds_1 5 rfl rfl)
theorem dX8_lawOdds_32 : decode cX8_lawOdds 32 = .ok (.aload_n 0, 1) := dk_42 (dk_at dksX8_lawOdds_1 8 rfl rfl)
theorem dX8_lawOdds_33 : decode cX8_lawOdds 33 = .ok (.iconst 1, 1) := dk_4 (dk_at dksX8_lawOdds_1 9 rfl rfl)
theorem dX8_lawOdds_34 : decode cX8_lawOdds 34 = .ok (.invokevirtual 59, 3) := dk_182 0 59 (dk_at dksX8_lawOdds_1 10 rfl rfl)
theorem dX8_lawOdds_37 : decode cX8_lawOdds 37 = .ok (.i2l, 1) := dk_133 (dk_at dksX8_lawOdds_1 13 rfl rfl)
theorem dX8_lawOdds_38 : decode cX8_lawOdds 38 = .ok (.lreturn, 1) := dk_173 (dk_at dksX8_lawOdds_1 14 rfl rfl)
theorem dX8_lawOdds_39 : decode cX8_lawOdds 39 = .ok (.aload_n 0, 1) := dk_42 (dk_at dksX8_lawOdds_1 15 rfl rfl)
theorem dX8_lawOdds_40 : decode cX8_lawOdds 40 = .ok (.iload_n 1, 1) := dk_27 (dk_at dksX8_lawOdds_1 16 rfl rfl)
theorem dX8_lawOdds_41 : decode cX8_lawOdds 41 = .ok (.iload_n 2, 1) := dk_28 (dk_at dksX8_lawOdds_1 17 rfl rfl)
theorem dX8_lawOdds_42 : decode cX8_lawOdds 42 = .ok (.iload_n 3, 1) := dk_29 (dk_at dksX8_lawOdds_1 18 rfl rfl)
theorem dX8_lawOdds_43 : decode cX8_lawOdds 43 = .ok (.iload 4, 2) := dk_21 4 (dk_at dksX8_lawOdds_1 19 rfl rfl)
theorem dX8_lawOdds_45 : decode cX8_lawOdds 45 = .ok (.invokevirtual 506, 3) := dk_182 1 250 (dk_at dksX8_lawOdds_1 21 rfl rfl)
theorem dX8_lawOdds_48 : decode cX8_lawOdds 48 = .ok (.lstore 6, 2) := dk_55 6 (dk_at dksX8_lawOdds_2 0 rfl rfl)
theorem dX8_lawOdds_50 : decode cX8_lawOdds 50 = .ok (.aload_n 0, 1) := dk_42 (dk_at dksX8_lawOdds_2 2 rfl rfl)
theorem dX8_lawOdds_51 : decode cX8_lawOdds 51 = .ok (.lload 6, 2) := dk_22 6 (dk_at dksX8_lawOdds_2 3 rfl rfl)
theorem dX8_lawOdds_53 : decode cX8_lawOdds 53 = .ok (.ldc2_w 509, 3) := dk_20 1 253 (dk_at dksX8_lawOdds_2 5 rfl rfl)
theorem dX8_lawOdds_56 : decode cX8_lawOdds 56 = .ok (.aload_n 0, 1) := dk_42 (dk_at dksX8_lawOdds_2 8 rfl rfl)
theorem dX8_lawOdds_57 : decode cX8_lawOdds 57 = .ok (.invokevirtual 430, 3) := dk_182 1 174 (dk_at dksX8_lawOdds_2 9 rfl rfl)
theorem dX8_lawOdds_60 : decode cX8_lawOdds 60 = .ok (.i2l, 1) := dk_133 (dk_at dksX8_lawOdds_2 12 rfl rfl)
theorem dX8_lawOdds_61 : decode cX8_lawOdds 61 = .ok (.lmul, 1) := dk_105 (dk_at dksX8_lawOdds_2 13 rfl rfl)
theorem dX8_lawOdds_62 : decode cX8_lawOdds 62 = .ok (.iload 5, 2) := dk_21 5 (dk_at dksX8_lawOdds_2 14 rfl rfl)
theorem dX8_lawOdds_64 : decode cX8_lawOdds 64 = .ok (.invokevirtual 466, 3) := dk_182 1 210 (dk_at dksX8_lawOdds_2 16 rfl rfl)
theorem dX8_lawOdds_67 : decode cX8_lawOdds 67 = .ok (.lreturn, 1) := dk_173 (dk_at dksX8_lawOdds_2 19 rfl rfl)
abbrev cX8_byLaw : ByteArray := prog_20_method_87_code
def yX8_byLaw : MethodName := ⟨RX8, "byLaw", "(IIII)J"⟩
def dkwX8_byLaw_3 : List UInt8 := [21, 5, 182, 1, 242, 105, 173]
abbrev dktX8_byLaw_3 : List UInt8 := dkwX8_byLaw_3 ++ []
def dkwX8_byLaw_2 : List UInt8 := [167, 0, 13, 4, 42, 28, 21, 4, 29, 182, 1, 245, 100, 54, 5, 20, 1, 248, 42, 28, 29, 21, 4]
abbrev dktX8_byLaw_2 : List UInt8 := dkwX8_byLaw_2 ++ dktX8_byLaw_3
def dkwX8_byLaw_1 : List UInt8 := [173, 27, 154, 0, 7, 3, 167, 0, 29, 27, 4, 160, 0, 14, 42, 28, 29, 21, 4, 182, 1, 245]
abbrev dktX8_byLaw_1 : List UInt8 := dkwX8_byLaw_1 ++ dktX8_byLaw_2
def dkwX8_byLaw_0 : List UInt8 := [27, 6, 160, 0, 23, 42, 28, 29, 21, 4, 3, 182, 1, 242, 42, 28, 29, 21, 4, 4, 182, 1, 242, 97]
abbrev dktX8_byLaw_0 : List UInt8 := dkwX8_byLaw_0 ++ dktX8_byLaw_1
theorem dksX8_byLaw_0 : cX8_byLaw.data.toList.drop 0 = dktX8_byLaw_0 := by decide +kernel
theorem dksX8_byLaw_1 : cX8_byLaw.data.toList.drop 24 = dktX8_byLaw_1 := dk_seg dksX8_byLaw_0 24 rfl rfl
theorem dksX8_byLaw_2 : cX8_byLaw.data.toList.drop 46 = dktX8_byLaw_2 := dk_seg dksX8_byLaw_1 22 rfl rfl
theorem dksX8_byLaw_3 : cX8_byLaw.data.toList.drop 69 = dktX8_byLaw_3 := dk_seg dksX8_byLaw_2 23 rfl rfl
theorem dX8_byLaw_0 : decode cX8_byLaw 0 = .ok (.iload_n 1, 1) := dk_27 (dk_at dksX8_byLaw_0 0 rfl rfl)
theorem dX8_byLaw_1 : decode cX8_byLaw 1 = .ok (.iconst 3, 1) := dk_6 (dk_at dksX8_byLaw_0 1 rfl rfl)
theorem dX8_byLaw_2 : decode cX8_byLaw 2 = .ok (.if_icmp .ne 23, 3) := dk_160 0 23 (dk_at dksX8_byLaw_0 2 rfl rfl)
theorem dX8_byLaw_5 : decode cX8_byLaw 5 = .ok (.aload_n 0, 1) := dk_42 (dk_at dksX8_byLaw_0 5 rfl rfl)
theorem dX8_byLaw_6 : decode cX8_byLaw 6 = .ok (.iload_n 2, 1) := dk_28 (dk_at dksX8_byLaw_0 6 rfl rfl)
theorem dX8_byLaw_7 : decode cX8_byLaw 7 = .ok (.iload_n 3, 1) := dk_29 (dk_at dksX8_byLaw_0 7 rfl rfl)
theorem dX8_byLaw_8 : decode cX8_byLaw 8 = .ok (.iload 4, 2) := dk_21 4 (dk_at dksX8_byLaw_0 8 rfl rfl)
theorem dX8_byLaw_10 : decode cX8_byLaw 10 = .ok (.iconst 0, 1) := dk_3 (dk_at dksX8_byLaw_0 10 rfl rfl)
theorem dX8_byLaw_11 : decode cX8_byLaw 11 = .ok (.invokevirtual 498, 3) := dk_182 1 242 (dk_at dksX8_byLaw_0 11 rfl rfl)
theorem dX8_byLaw_14 : decode cX8_byLaw 14 = .ok (.aload_n 0, 1) := dk_42 (dk_at dksX8_byLaw_0 14 rfl rfl)
theorem dX8_byLaw_15 : decode cX8_byLaw 15 = .ok (.iload_n 2, 1) := dk_28 (dk_at dksX8_byLaw_0 15 rfl rfl)
theorem dX8_byLaw_16 : decode cX8_byLaw 16 = .ok (.iload_n 3, 1) := dk_29 (dk_at dksX8_byLaw_0 16 rfl rfl)
theorem dX8_byLaw_17 : decode cX8_byLaw 17 = .ok (.iload 4, 2) := dk_21 4 (dk_at dksX8_byLaw_0 17 rfl rfl)
theorem dX8_byLaw_19 : decode cX8_byLaw 19 = .ok (.iconst 1, 1) := dk_4 (dk_at dksX8_byLaw_0 19 rfl rfl)
theorem dX8_byLaw_20 : decode cX8_byLaw 20 = .ok (.invokevirtual 498, 3) := dk_182 1 242 (dk_at dksX8_byLaw_0 20 rfl rfl)
theorem dX8_byLaw_23 : decode cX8_byLaw 23 = .ok (.ladd, 1) := dk_97 (dk_at dksX8_byLaw_0 23 rfl rfl)
theorem dX8_byLaw_24 : decode cX8_byLaw 24 = .ok (.lreturn, 1) := dk_173 (dk_at dksX8_byLaw_1 0 rfl rfl)
theorem dX8_byLaw_25 : decode cX8_byLaw 25 = .ok (.iload_n 1, 1) := dk_27 (dk_at dksX8_byLaw_1 1 rfl rfl)
theorem dX8_byLaw_26 : decode cX8_byLaw 26 = .ok (.ifCond .ne 7, 3) := dk_154 0 7 (dk_at dksX8_byLaw_1 2 rfl rfl)
theorem dX8_byLaw_29 : decode cX8_byLaw 29 = .ok (.iconst 0, 1) := dk_3 (dk_at dksX8_byLaw_1 5 rfl rfl)
theorem dX8_byLaw_30 : decode cX8_byLaw 30 = .ok (.goto 29, 3) := dk_167 0 29 (dk_at dksX8_byLaw_1 6 rfl rfl)
theorem dX8_byLaw_33 : decode cX8_byLaw 33 = .ok (.iload_n 1, 1) := dk_27 (dk_at dksX8_byLaw_1 9 rfl rfl)
theorem dX8_byLaw_34 : decode cX8_byLaw 34 = .ok (.iconst 1, 1) := dk_4 (dk_at dksX8_byLaw_1 10 rfl rfl)
theorem dX8_byLaw_35 : decode cX8_byLaw 35 = .ok (.if_icmp .ne 14, 3) := dk_160 0 14 (dk_at dksX8_byLaw_1 11 rfl rfl)
theorem dX8_byLaw_38 : decode cX8_byLaw 38 = .ok (.aload_n 0, 1) := dk_42 (dk_at dksX8_byLaw_1 14 rfl rfl)
theorem dX8_byLaw_39 : decode cX8_byLaw 39 = .ok (.iload_n 2, 1) := dk_28 (dk_at dksX8_byLaw_1 15 rfl rfl)
theorem dX8_byLaw_40 : decode cX8_byLaw 40 = .ok (.iload_n 3, 1) := dk_29 (dk_at dksX8_byLaw_1 16 rfl rfl)
theorem dX8_byLaw_41 : decode cX8_byLaw 41 = .ok (.iload 4, 2) := dk_21 4 (dk_at dksX8_byLaw_1 17 rfl rfl)
theorem dX8_byLaw_43 : decode cX8_byLaw 43 = .ok (.invokevirtual 501, 3) := dk_182 1 245 (dk_at dksX8_byLaw_1 19 rfl rfl)
theorem dX8_byLaw_46 : decode cX8_byLaw 46 = .ok (.goto 13, 3) := dk_167 0 13 (dk_at dksX8_byLaw_2 0 rfl rfl)
theorem dX8_byLaw_49 : decode cX8_byLaw 49 = .ok (.iconst 1, 1) := dk_4 (dk_at dksX8_byLaw_2 3 rfl rfl)
theorem dX8_byLaw_50 : decode cX8_byLaw 50 = .ok (.aload_n 0, 1) := dk_42 (dk_at dksX8_byLaw_2 4 rfl rfl)
theorem dX8_byLaw_51 : decode cX8_byLaw 51 = .ok (.iload_n 2, 1) := dk_28 (dk_at dksX8_byLaw_2 5 rfl rfl)
theorem dX8_byLaw_52 : decode cX8_byLaw 52 = .ok (.iload 4, 2) := dk_21 4 (dk_at dksX8_byLaw_2 6 rfl rfl)
theorem dX8_byLaw_54 : decode cX8_byLaw 54 = .ok (.iload_n 3, 1) := dk_29 (dk_at dksX8_byLaw_2 8 rfl rfl)
theorem dX8_byLaw_55 : decode cX8_byLaw 55 = .ok (.invokevirtual 501, 3) := dk_182 1 245 (dk_at dksX8_byLaw_2 9 rfl rfl)
theorem dX8_byLaw_58 : decode cX8_byLaw 58 = .ok (.isub, 1) := dk_100 (dk_at dksX8_byLaw_2 12 rfl rfl)
theorem dX8_byLaw_59 : decode cX8_byLaw 59 = .ok (.istore 5, 2) := dk_54 5 (dk_at dksX8_byLaw_2 13 rfl rfl)
theorem dX8_byLaw_61 : decode cX8_byLaw 61 = .ok (.ldc2_w 504, 3) := dk_20 1 248 (dk_at dksX8_byLaw_2 15 rfl rfl)
theorem dX8_byLaw_64 : decode cX8_byLaw 64 = .ok (.aload_n 0, 1) := dk_42 (dk_at dksX8_byLaw_2 18 rfl rfl)
theorem dX8_byLaw_65 : decode cX8_byLaw 65 = .ok (.iload_n 2, 1) := dk_28 (dk_at dksX8_byLaw_2 19 rfl rfl)
theorem dX8_byLaw_66 : decode cX8_byLaw 66 = .ok (.iload_n 3, 1) := dk_29 (dk_at dksX8_byLaw_2 20 rfl rfl)
theorem dX8_byLaw_67 : decode cX8_byLaw 67 = .ok (.iload 4, 2) := dk_21 4 (dk_at dksX8_byLaw_2 21 rfl rfl)
theorem dX8_byLaw_69 : decode cX8_byLaw 69 = .ok (.iload 5, 2) := dk_21 5 (dk_at dksX8_byLaw_3 0 rfl rfl)
theorem dX8_byLaw_71 : decode cX8_byLaw 71 = .ok (.invokevirtual 498, 3) := dk_182 1 242 (dk_at dksX8_byLaw_3 2 rfl rfl)
theorem dX8_byLaw_74 : decode cX8_byLaw 74 = .ok (.lmul, 1) := dk_105 (dk_at dksX8_byLaw_3 5 rfl rfl)
theorem dX8_byLaw_75 : decode cX8_byLaw 75 = .ok (.lreturn, 1) := dk_173 (dk_at dksX8_byLaw_3 6 rfl rfl)
abbrev cX8_oddsWith : ByteArray := prog_20_method_84_code
def yX8_oddsWith : MethodName := ⟨RX8, "oddsWith", "(IIII)J"⟩
def dkwX8_oddsWith_1 : List UInt8 := [182, 1, 233, 42, 21, 4, 182, 1, 206, 173]
abbrev dktX8_oddsWith_1 : List UInt8 := dkwX8_oddsWith_1 ++ []
def dkwX8_oddsWith_0 : List UInt8 := [42, 27, 21, 4, 154, 0, 7, 28, 167, 0, 4, 29, 21, 4, 154, 0, 7, 29, 167, 0, 4, 28]
abbrev dktX8_oddsWith_0 : List UInt8 := dkwX8_oddsWith_0 ++ dktX8_oddsWith_1
theorem dksX8_oddsWith_0 : cX8_oddsWith.data.toList.drop 0 = dktX8_oddsWith_0 := by decide +kernel
theorem dksX8_oddsWith_1 : cX8_oddsWith.data.toList.drop 22 = dktX8_oddsWith_1 := dk_seg dksX8_oddsWith_0 22 rfl rfl
theorem dX8_oddsWith_0 : decode cX8_oddsWith 0 = .ok (.aload_n 0, 1) := dk_42 (dk_at dksX8_oddsWith_0 0 rfl rfl)
theorem dX8_oddsWith_1 : decode cX8_oddsWith 1 = .ok (.iload_n 1, 1) := dk_27 (dk_at dksX8_oddsWith_0 1 rfl rfl)
theorem dX8_oddsWith_2 : decode cX8_oddsWith 2 = .ok (.iload 4, 2) := dk_21 4 (dk_at dksX8_oddsWith_0 2 rfl rfl)
theorem dX8_oddsWith_4 : decode cX8_oddsWith 4 = .ok (.ifCond .ne 7, 3) := dk_154 0 7 (dk_at dksX8_oddsWith_0 4 rfl rfl)
theorem dX8_oddsWith_7 : decode cX8_oddsWith 7 = .ok (.iload_n 2, 1) := dk_28 (dk_at dksX8_oddsWith_0 7 rfl rfl)
theorem dX8_oddsWith_8 : decode cX8_oddsWith 8 = .ok (.goto 4, 3) := dk_167 0 4 (dk_at dksX8_oddsWith_0 8 rfl rfl)
theorem dX8_oddsWith_11 : decode cX8_oddsWith 11 = .ok (.iload_n 3, 1) := dk_29 (dk_at dksX8_oddsWith_0 11 rfl rfl)
theorem dX8_oddsWith_12 : decode cX8_oddsWith 12 = .ok (.iload 4, 2) := dk_21 4 (dk_at dksX8_oddsWith_0 12 rfl rfl)
theorem dX8_oddsWith_14 : decode cX8_oddsWith 14 = .ok (.ifCond .ne 7, 3) := dk_154 0 7 (dk_at dksX8_oddsWith_0 14 rfl rfl)
theorem dX8_oddsWith_17 : decode cX8_oddsWith 17 = .ok (.iload_n 3, 1) := dk_29 (dk_at dksX8_oddsWith_0 17 rfl rfl)
theorem dX8_oddsWith_18 : decode cX8_oddsWith 18 = .ok (.goto 4, 3) := dk_167 0 4 (dk_at dksX8_oddsWith_0 18 rfl rfl)
theorem dX8_oddsWith_21 : decode cX8_oddsWith 21 = .ok (.iload_n 2, 1) := dk_28 (dk_at dksX8_oddsWith_0 21 rfl rfl)
theorem dX8_oddsWith_22 : decode cX8_oddsWith 22 = .ok (.invokevirtual 489, 3) := dk_182 1 233 (dk_at dksX8_oddsWith_1 0 rfl rfl)
theorem dX8_oddsWith_25 : decode cX8_oddsWith 25 = .ok (.aload_n 0, 1) := dk_42 (dk_at dksX8_oddsWith_1 3 rfl rfl)
theorem dX8_oddsWith_26 : decode cX8_oddsWith 26 = .ok (.iload 4, 2) := dk_21 4 (dk_at dksX8_oddsWith_1 4 rfl rfl)
theorem dX8_oddsWith_28 : decode cX8_oddsWith 28 = .ok (.invokevirtual 462, 3) := dk_182 1 206 (dk_at dksX8_oddsWith_1 6 rfl rfl)
theorem dX8_oddsWith_31 : decode cX8_oddsWith 31 = .ok (.lreturn, 1) := dk_173 (dk_at dksX8_oddsWith_1 9 rfl rfl)
abbrev cX8_chosen : ByteArray := prog_20_method_86_code
def yX8_chosen : MethodName := ⟨RX8, "chosen", "(III)I"⟩
def dkwX8_chosen_2 : List UInt8 := [3, 182, 1, 242, 148, 158, 0, 7, 4, 167, 0, 4, 3, 172]
abbrev dktX8_chosen_2 : List UInt8 := dkwX8_chosen_2 ++ []
def dkwX8_chosen_1 : List UInt8 := [182, 1, 239, 164, 0, 7, 4, 167, 0, 4, 3, 172, 42, 27, 28, 29, 4, 182, 1, 242, 42, 27, 28, 29]
abbrev dktX8_chosen_1 : List UInt8 := dkwX8_chosen_1 ++ dktX8_chosen_2
def dkwX8_chosen_0 : List UInt8 := [42, 180, 1, 117, 180, 1, 51, 28, 46, 4, 160, 0, 24, 42, 27, 4, 182, 1, 239, 42, 27, 3]
abbrev dktX8_chosen_0 : List UInt8 := dkwX8_chosen_0 ++ dktX8_chosen_1
theorem dksX8_chosen_0 : cX8_chosen.data.toList.drop 0 = dktX8_chosen_0 := by decide +kernel
theorem dksX8_chosen_1 : cX8_chosen.data.toList.drop 22 = dktX8_chosen_1 := dk_seg dksX8_chosen_0 22 rfl rfl
theorem dksX8_chosen_2 : cX8_chosen.data.toList.drop 46 = dktX8_chosen_2 := dk_seg dksX8_chosen_1 24 rfl rfl
theorem dX8_chosen_0 : decode cX8_chosen 0 = .ok (.aload_n 0, 1) := dk_42 (dk_at dksX8_chosen_0 0 rfl rfl)
theorem dX8_chosen_1 : decode cX8_chosen 1 = .ok (.getfield 373, 3) := dk_180 1 117 (dk_at dksX8_chosen_0 1 rfl rfl)
theorem dX8_chosen_4 : decode cX8_chosen 4 = .ok (.getfield 307, 3) := dk_180 1 51 (dk_at dksX8_chosen_0 4 rfl rfl)
theorem dX8_chosen_7 : decode cX8_chosen 7 = .ok (.iload_n 2, 1) := dk_28 (dk_at dksX8_chosen_0 7 rfl rfl)
theorem dX8_chosen_8 : decode cX8_chosen 8 = .ok (.iaload, 1) := dk_46 (dk_at dksX8_chosen_0 8 rfl rfl)
theorem dX8_chosen_9 : decode cX8_chosen 9 = .ok (.iconst 1, 1) := dk_4 (dk_at dksX8_chosen_0 9 rfl rfl)
theorem dX8_chosen_10 : decode cX8_chosen 10 = .ok (.if_icmp .ne 24, 3) := dk_160 0 24 (dk_at dksX8_chosen_0 10 rfl rfl)
theorem dX8_chosen_13 : decode cX8_chosen 13 = .ok (.aload_n 0, 1) := dk_42 (dk_at dksX8_chosen_0 13 rfl rfl)
theorem dX8_chosen_14 : decode cX8_chosen 14 = .ok (.iload_n 1, 1) := dk_27 (dk_at dksX8_chosen_0 14 rfl rfl)
theorem dX8_chosen_15 : decode cX8_chosen 15 = .ok (.iconst 1, 1) := dk_4 (dk_at dksX8_chosen_0 15 rfl rfl)
theorem dX8_chosen_16 : decode cX8_chosen 16 = .ok (.invokevirtual 495, 3) := dk_182 1 239 (dk_at dksX8_chosen_0 16 rfl rfl)
theorem dX8_chosen_19 : decode cX8_chosen 19 = .ok (.aload_n 0, 1) := dk_42 (dk_at dksX8_chosen_0 19 rfl rfl)
theorem dX8_chosen_20 : decode cX8_chosen 20 = .ok (.iload_n 1, 1) := dk_27 (dk_at dksX8_chosen_0 20 rfl rfl)
theorem dX8_chosen_21 : decode cX8_chosen 21 = .ok (.iconst 0, 1) := dk_3 (dk_at dksX8_chosen_0 21 rfl rfl)
theorem dX8_chosen_22 : decode cX8_chosen 22 = .ok (.invokevirtual 495, 3) := dk_182 1 239 (dk_at dksX8_chosen_1 0 rfl rfl)
theorem dX8_chosen_25 : decode cX8_chosen 25 = .ok (.if_icmp .le 7, 3) := dk_164 0 7 (dk_at dksX8_chosen_1 3 rfl rfl)
theorem dX8_chosen_28 : decode cX8_chosen 28 = .ok (.iconst 1, 1) := dk_4 (dk_at dksX8_chosen_1 6 rfl rfl)
theorem dX8_chosen_29 : decode cX8_chosen 29 = .ok (.goto 4, 3) := dk_167 0 4 (dk_at dksX8_chosen_1 7 rfl rfl)
theorem dX8_chosen_32 : decode cX8_chosen 32 = .ok (.iconst 0, 1) := dk_3 (dk_at dksX8_chosen_1 10 rfl rfl)
theorem dX8_chosen_33 : decode cX8_chosen 33 = .ok (.ireturn, 1) := dk_172 (dk_at dksX8_chosen_1 11 rfl rfl)
theorem dX8_chosen_34 : decode cX8_chosen 34 = .ok (.aload_n 0, 1) := dk_42 (dk_at dksX8_chosen_1 12 rfl rfl)
theorem dX8_chosen_35 : decode cX8_chosen 35 = .ok (.iload_n 1, 1) := dk_27 (dk_at dksX8_chosen_1 13 rfl rfl)
theorem dX8_chosen_36 : decode cX8_chosen 36 = .ok (.iload_n 2, 1) := dk_28 (dk_at dksX8_chosen_1 14 rfl rfl)
theorem dX8_chosen_37 : decode cX8_chosen 37 = .ok (.iload_n 3, 1) := dk_29 (dk_at dksX8_chosen_1 15 rfl rfl)
theorem dX8_chosen_38 : decode cX8_chosen 38 = .ok (.iconst 1, 1) := dk_4 (dk_at dksX8_chosen_1 16 rfl rfl)
theorem dX8_chosen_39 : decode cX8_chosen 39 = .ok (.invokevirtual 498, 3) := dk_182 1 242 (dk_at dksX8_chosen_1 17 rfl rfl)
theorem dX8_chosen_42 : decode cX8_chosen 42 = .ok (.aload_n 0, 1) := dk_42 (dk_at dksX8_chosen_1 20 rfl rfl)
theorem dX8_chosen_43 : decode cX8_chosen 43 = .ok (.iload_n 1, 1) := dk_27 (dk_at dksX8_chosen_1 21 rfl rfl)
theorem dX8_chosen_44 : decode cX8_chosen 44 = .ok (.iload_n 2, 1) := dk_28 (dk_at dksX8_chosen_1 22 rfl rfl)
theorem dX8_chosen_45 : decode cX8_chosen 45 = .ok (.iload_n 3, 1) := dk_29 (dk_at dksX8_chosen_1 23 rfl rfl)
theorem dX8_chosen_46 : decode cX8_chosen 46 = .ok (.iconst 0, 1) := dk_3 (dk_at dksX8_chosen_2 0 rfl rfl)
theorem dX8_chosen_47 : decode cX8_chosen 47 = .ok (.invokevirtual 498, 3) := dk_182 1 242 (dk_at dksX8_chosen_2 1 rfl rfl)
theorem dX8_chosen_50 : decode cX8_chosen 50 = .ok (.lcmp, 1) := dk_148 (dk_at dksX8_chosen_2 4 rfl rfl)
theorem dX8_chosen_51 : decode cX8_chosen 51 = .ok (.ifCond .le 7, 3) := dk_158 0 7 (dk_at dksX8_chosen_2 5 rfl rfl)
theorem dX8_chosen_54 : decode cX8_chosen 54 = .ok (.iconst 1, 1) := dk_4 (dk_at dksX8_chosen_2 8 rfl rfl)
theorem dX8_chosen_55 : decode cX8_chosen 55 = .ok (.goto 4, 3) := dk_167 0 4 (dk_at dksX8_chosen_2 9 rfl rfl)
theorem dX8_chosen_58 : decode cX8_chosen 58 = .ok (.iconst 0, 1) := dk_3 (dk_at dksX8_chosen_2 12 rfl rfl)
theorem dX8_chosen_59 : decode cX8_chosen 59 = .ok (.ireturn, 1) := dk_172 (dk_at dksX8_chosen_2 13 rfl rfl)
abbrev cX8_thickness : ByteArray := prog_20_method_85_code
def yX8_thickness : MethodName := ⟨RX8, "thickness", "(II)I"⟩
def dkwX8_thickness_1 : List UInt8 := [27, 28, 21, 4, 182, 1, 144, 96, 62, 132, 4, 1, 167, 255, 225, 29, 172]
abbrev dktX8_thickness_1 : List UInt8 := dkwX8_thickness_1 ++ []
def dkwX8_thickness_0 : List UInt8 := [3, 62, 3, 54, 4, 21, 4, 42, 180, 1, 117, 27, 28, 182, 1, 150, 162, 0, 23, 29, 42, 180, 1, 117]
abbrev dktX8_thickness_0 : List UInt8 := dkwX8_thickness_0 ++ dktX8_thickness_1
theorem dksX8_thickness_0 : cX8_thickness.data.toList.drop 0 = dktX8_thickness_0 := by decide +kernel
theorem dksX8_thickness_1 : cX8_thickness.data.toList.drop 24 = dktX8_thickness_1 := dk_seg dksX8_thickness_0 24 rfl rfl
theorem dX8_thickness_0 : decode cX8_thickness 0 = .ok (.iconst 0, 1) := dk_3 (dk_at dksX8_thickness_0 0 rfl rfl)
theorem dX8_thickness_1 : decode cX8_thickness 1 = .ok (.istore_n 3, 1) := dk_62 (dk_at dksX8_thickness_0 1 rfl rfl)
theorem dX8_thickness_2 : decode cX8_thickness 2 = .ok (.iconst 0, 1) := dk_3 (dk_at dksX8_thickness_0 2 rfl rfl)
theorem dX8_thickness_3 : decode cX8_thickness 3 = .ok (.istore 4, 2) := dk_54 4 (dk_at dksX8_thickness_0 3 rfl rfl)
theorem dX8_thickness_5 : decode cX8_thickness 5 = .ok (.iload 4, 2) := dk_21 4 (dk_at dksX8_thickness_0 5 rfl rfl)
theorem dX8_thickness_7 : decode cX8_thickness 7 = .ok (.aload_n 0, 1) := dk_42 (dk_at dksX8_thickness_0 7 rfl rfl)
theorem dX8_thickness_8 : decode cX8_thickness 8 = .ok (.getfield 373, 3) := dk_180 1 117 (dk_at dksX8_thickness_0 8 rfl rfl)
theorem dX8_thickness_11 : decode cX8_thickness 11 = .ok (.iload_n 1, 1) := dk_27 (dk_at dksX8_thickness_0 11 rfl rfl)
theorem dX8_thickness_12 : decode cX8_thickness 12 = .ok (.iload_n 2, 1) := dk_28 (dk_at dksX8_thickness_0 12 rfl rfl)
theorem dX8_thickness_13 : decode cX8_thickness 13 = .ok (.invokevirtual 406, 3) := dk_182 1 150 (dk_at dksX8_thickness_0 13 rfl rfl)
theorem dX8_thickness_16 : decode cX8_thickness 16 = .ok (.if_icmp .ge 23, 3) := dk_162 0 23 (dk_at dksX8_thickness_0 16 rfl rfl)
theorem dX8_thickness_19 : decode cX8_thickness 19 = .ok (.iload_n 3, 1) := dk_29 (dk_at dksX8_thickness_0 19 rfl rfl)
theorem dX8_thickness_20 : decode cX8_thickness 20 = .ok (.aload_n 0, 1) := dk_42 (dk_at dksX8_thickness_0 20 rfl rfl)
theorem dX8_thickness_21 : decode cX8_thickness 21 = .ok (.getfield 373, 3) := dk_180 1 117 (dk_at dksX8_thickness_0 21 rfl rfl)
theorem dX8_thickness_24 : decode cX8_thickness 24 = .ok (.iload_n 1, 1) := dk_27 (dk_at dksX8_thickness_1 0 rfl rfl)
theorem dX8_thickness_25 : decode cX8_thickness 25 = .ok (.iload_n 2, 1) := dk_28 (dk_at dksX8_thickness_1 1 rfl rfl)
theorem dX8_thickness_26 : decode cX8_thickness 26 = .ok (.iload 4, 2) := dk_21 4 (dk_at dksX8_thickness_1 2 rfl rfl)
theorem dX8_thickness_28 : decode cX8_thickness 28 = .ok (.invokevirtual 400, 3) := dk_182 1 144 (dk_at dksX8_thickness_1 4 rfl rfl)
theorem dX8_thickness_31 : decode cX8_thickness 31 = .ok (.iadd, 1) := dk_96 (dk_at dksX8_thickness_1 7 rfl rfl)
theorem dX8_thickness_32 : decode cX8_thickness 32 = .ok (.istore_n 3, 1) := dk_62 (dk_at dksX8_thickness_1 8 rfl rfl)
theorem dX8_thickness_33 : decode cX8_thickness 33 = .ok (.iinc 4 1, 3) := dk_132 4 1 (dk_at dksX8_thickness_1 9 rfl rfl)
theorem dX8_thickness_36 : decode cX8_thickness 36 = .ok (.goto (-31), 3) := dk_167 255 225 (dk_at dksX8_thickness_1 12 rfl rfl)
theorem dX8_thickness_39 : decode cX8_thickness 39 = .ok (.iload_n 3, 1) := dk_29 (dk_at dksX8_thickness_1 15 rfl rfl)
theorem dX8_thickness_40 : decode cX8_thickness 40 = .ok (.ireturn, 1) := dk_172 (dk_at dksX8_thickness_1 16 rfl rfl)
abbrev cX8_fairest : ByteArray := prog_20_method_90_code
def yX8_fairest : MethodName := ⟨RX8, "fairest", "(III)I"⟩
def dkwX8_fairest_3 : List UInt8 := [167, 255, 221, 42, 21, 4, 182, 0, 63, 172]
abbrev dktX8_fairest_3 : List UInt8 := dkwX8_fairest_3 ++ []
def dkwX8_fairest_2 : List UInt8 := [182, 1, 255, 42, 21, 4, 27, 28, 29, 182, 1, 255, 148, 156, 0, 7, 21, 5, 54, 4, 132, 5, 1]
abbrev dktX8_fairest_2 : List UInt8 := dkwX8_fairest_2 ++ dktX8_fairest_3
def dkwX8_fairest_1 : List UInt8 := [182, 0, 59, 172, 3, 54, 4, 4, 54, 5, 21, 5, 7, 162, 0, 35, 42, 21, 5, 27, 28, 29]
abbrev dktX8_fairest_1 : List UInt8 := dkwX8_fairest_1 ++ dktX8_fairest_2
def dkwX8_fairest_0 : List UInt8 := [42, 3, 181, 0, 53, 42, 27, 182, 1, 188, 153, 0, 12, 42, 28, 29, 182, 1, 199, 154, 0, 9, 42, 4]
abbrev dktX8_fairest_0 : List UInt8 := dkwX8_fairest_0 ++ dktX8_fairest_1
theorem dksX8_fairest_0 : cX8_fairest.data.toList.drop 0 = dktX8_fairest_0 := by decide +kernel
theorem dksX8_fairest_1 : cX8_fairest.data.toList.drop 24 = dktX8_fairest_1 := dk_seg dksX8_fairest_0 24 rfl rfl
theorem dksX8_fairest_2 : cX8_fairest.data.toList.drop 46 = dktX8_fairest_2 := dk_seg dksX8_fairest_1 22 rfl rfl
theorem dksX8_fairest_3 : cX8_fairest.data.toList.drop 69 = dktX8_fairest_3 := dk_seg dksX8_fairest_2 23 rfl rfl
theorem dX8_fairest_0 : decode cX8_fairest 0 = .ok (.aload_n 0, 1) := dk_42 (dk_at dksX8_fairest_0 0 rfl rfl)
theorem dX8_fairest_1 : decode cX8_fairest 1 = .ok (.iconst 0, 1) := dk_3 (dk_at dksX8_fairest_0 1 rfl rfl)
theorem dX8_fairest_2 : decode cX8_fairest 2 = .ok (.putfield 53, 3) := dk_181 0 53 (dk_at dksX8_fairest_0 2 rfl rfl)
theorem dX8_fairest_5 : decode cX8_fairest 5 = .ok (.aload_n 0, 1) := dk_42 (dk_at dksX8_fairest_0 5 rfl rfl)
theorem dX8_fairest_6 : decode cX8_fairest 6 = .ok (.iload_n 1, 1) := dk_27 (dk_at dksX8_fairest_0 6 rfl rfl)
theorem dX8_fairest_7 : decode cX8_fairest 7 = .ok (.invokevirtual 444, 3) := dk_182 1 188 (dk_at dksX8_fairest_0 7 rfl rfl)
theorem dX8_fairest_10 : decode cX8_fairest 10 = .ok (.ifCond .eq 12, 3) := dk_153 0 12 (dk_at dksX8_fairest_0 10 rfl rfl)
theorem dX8_fairest_13 : decode cX8_fairest 13 = .ok (.aload_n 0, 1) := dk_42 (dk_at dksX8_fairest_0 13 rfl rfl)
theorem dX8_fairest_14 : decode cX8_fairest 14 = .ok (.iload_n 2, 1) := dk_28 (dk_at dksX8_fairest_0 14 rfl rfl)
theorem dX8_fairest_15 : decode cX8_fairest 15 = .ok (.iload_n 3, 1) := dk_29 (dk_at dksX8_fairest_0 15 rfl rfl)
theorem dX8_fairest_16 : decode cX8_fairest 16 = .ok (.invokevirtual 455, 3) := dk_182 1 199 (dk_at dksX8_fairest_0 16 rfl rfl)
theorem dX8_fairest_19 : decode cX8_fairest 19 = .ok (.ifCond .ne 9, 3) := dk_154 0 9 (dk_at dksX8_fairest_0 19 rfl rfl)
theorem dX8_fairest_22 : decode cX8_fairest 22 = .ok (.aload_n 0, 1) := dk_42 (dk_at dksX8_fairest_0 22 rfl rfl)
theorem dX8_fairest_23 : decode cX8_fairest 23 = .ok (.iconst 1, 1) := dk_4 (dk_at dksX8_fairest_0 23 rfl rfl)
theorem dX8_fairest_24 : decode cX8_fairest 24 = .ok (.invokevirtual 59, 3) := dk_182 0 59 (dk_at dksX8_fairest_1 0 rfl rfl)
theorem dX8_fairest_27 : decode cX8_fairest 27 = .ok (.ireturn, 1) := dk_172 (dk_at dksX8_fairest_1 3 rfl rfl)
theorem dX8_fairest_28 : decode cX8_fairest 28 = .ok (.iconst 0, 1) := dk_3 (dk_at dksX8_fairest_1 4 rfl rfl)
theorem dX8_fairest_29 : decode cX8_fairest 29 = .ok (.istore 4, 2) := dk_54 4 (dk_at dksX8_fairest_1 5 rfl rfl)
theorem dX8_fairest_31 : decode cX8_fairest 31 = .ok (.iconst 1, 1) := dk_4 (dk_at dksX8_fairest_1 7 rfl rfl)
theorem dX8_fairest_32 : decode cX8_fairest 32 = .ok (.istore 5, 2) := dk_54 5 (dk_at dksX8_fairest_1 8 rfl rfl)
theorem dX8_fairest_34 : decode cX8_fairest 34 = .ok (.iload 5, 2) := dk_21 5 (dk_at dksX8_fairest_1 10 rfl rfl)
theorem dX8_fairest_36 : decode cX8_fairest 36 = .ok (.iconst 4, 1) := dk_7 (dk_at dksX8_fairest_1 12 rfl rfl)
theorem dX8_fairest_37 : decode cX8_fairest 37 = .ok (.if_icmp .ge 35, 3) := dk_162 0 35 (dk_at dksX8_fairest_1 13 rfl rfl)
theorem dX8_fairest_40 : decode cX8_fairest 40 = .ok (.aload_n 0, 1) := dk_42 (dk_at dksX8_fairest_1 16 rfl rfl)
theorem dX8_fairest_41 : decode cX8_fairest 41 = .ok (.iload 5, 2) := dk_21 5 (dk_at dksX8_fairest_1 17 rfl rfl)
theorem dX8_fairest_43 : decode cX8_fairest 43 = .ok (.iload_n 1, 1) := dk_27 (dk_at dksX8_fairest_1 19 rfl rfl)
theorem dX8_fairest_44 : decode cX8_fairest 44 = .ok (.iload_n 2, 1) := dk_28 (dk_at dksX8_fairest_1 20 rfl rfl)
theorem dX8_fairest_45 : decode cX8_fairest 45 = .ok (.iload_n 3, 1) := dk_29 (dk_at dksX8_fairest_1 21 rfl rfl)
theorem dX8_fairest_46 : decode cX8_fairest 46 = .ok (.invokevirtual 511, 3) := dk_182 1 255 (dk_at dksX8_fairest_2 0 rfl rfl)
theorem dX8_fairest_49 : decode cX8_fairest 49 = .ok (.aload_n 0, 1) := dk_42 (dk_at dksX8_fairest_2 3 rfl rfl)
theorem dX8_fairest_50 : decode cX8_fairest 50 = .ok (.iload 4, 2) := dk_21 4 (dk_at dksX8_fairest_2 4 rfl rfl)
theorem dX8_fairest_52 : decode cX8_fairest 52 = .ok (.iload_n 1, 1) := dk_27 (dk_at dksX8_fairest_2 6 rfl rfl)
theorem dX8_fairest_53 : decode cX8_fairest 53 = .ok (.iload_n 2, 1) := dk_28 (dk_at dksX8_fairest_2 7 rfl rfl)
theorem dX8_fairest_54 : decode cX8_fairest 54 = .ok (.iload_n 3, 1) := dk_29 (dk_at dksX8_fairest_2 8 rfl rfl)
theorem dX8_fairest_55 : decode cX8_fairest 55 = .ok (.invokevirtual 511, 3) := dk_182 1 255 (dk_at dksX8_fairest_2 9 rfl rfl)
theorem dX8_fairest_58 : decode cX8_fairest 58 = .ok (.lcmp, 1) := dk_148 (dk_at dksX8_fairest_2 12 rfl rfl)
theorem dX8_fairest_59 : decode cX8_fairest 59 = .ok (.ifCond .ge 7, 3) := dk_156 0 7 (dk_at dksX8_fairest_2 13 rfl rfl)
theorem dX8_fairest_62 : decode cX8_fairest 62 = .ok (.iload 5, 2) := dk_21 5 (dk_at dksX8_fairest_2 16 rfl rfl)
theorem dX8_fairest_64 : decode cX8_fairest 64 = .ok (.istore 4, 2) := dk_54 4 (dk_at dksX8_fairest_2 18 rfl rfl)
theorem dX8_fairest_66 : decode cX8_fairest 66 = .ok (.iinc 5 1, 3) := dk_132 5 1 (dk_at dksX8_fairest_2 20 rfl rfl)
theorem dX8_fairest_69 : decode cX8_fairest 69 = .ok (.goto (-35), 3) := dk_167 255 221 (dk_at dksX8_fairest_3 0 rfl rfl)
theorem dX8_fairest_72 : decode cX8_fairest 72 = .ok (.aload_n 0, 1) := dk_42 (dk_at dksX8_fairest_3 3 rfl rfl)
theorem dX8_fairest_73 : decode cX8_fairest 73 = .ok (.iload 4, 2) := dk_21 4 (dk_at dksX8_fairest_3 4 rfl rfl)
theorem dX8_fairest_75 : decode cX8_fairest 75 = .ok (.invokevirtual 63, 3) := dk_182 0 63 (dk_at dksX8_fairest_3 6 rfl rfl)
theorem dX8_fairest_78 : decode cX8_fairest 78 = .ok (.ireturn, 1) := dk_172 (dk_at dksX8_fairest_3 9 rfl rfl)
abbrev cX8_fromHalf : ByteArray := prog_20_method_89_code
def yX8_fromHalf : MethodName := ⟨RX8, "fromHalf", "(IIII)J"⟩
def dkwX8_fromHalf_1 : List UInt8 := [148, 156, 0, 9, 22, 5, 117, 167, 0, 5, 22, 5, 173]
abbrev dktX8_fromHalf_1 : List UInt8 := dkwX8_fromHalf_1 ++ []
def dkwX8_fromHalf_0 : List UInt8 := [42, 27, 28, 29, 21, 4, 182, 1, 250, 20, 1, 180, 42, 182, 1, 174, 133, 105, 101, 55, 5, 22, 5, 9]
abbrev dktX8_fromHalf_0 : List UInt8 := dkwX8_fromHalf_0 ++ dktX8_fromHalf_1
theorem dksX8_fromHalf_0 : cX8_fromHalf.data.toList.drop 0 = dktX8_fromHalf_0 := by decide +kernel
theorem dksX8_fromHalf_1 : cX8_fromHalf.data.toList.drop 24 = dktX8_fromHalf_1 := dk_seg dksX8_fromHalf_0 24 rfl rfl
theorem dX8_fromHalf_0 : decode cX8_fromHalf 0 = .ok (.aload_n 0, 1) := dk_42 (dk_at dksX8_fromHalf_0 0 rfl rfl)
theorem dX8_fromHalf_1 : decode cX8_fromHalf 1 = .ok (.iload_n 1, 1) := dk_27 (dk_at dksX8_fromHalf_0 1 rfl rfl)
theorem dX8_fromHalf_2 : decode cX8_fromHalf 2 = .ok (.iload_n 2, 1) := dk_28 (dk_at dksX8_fromHalf_0 2 rfl rfl)
theorem dX8_fromHalf_3 : decode cX8_fromHalf 3 = .ok (.iload_n 3, 1) := dk_29 (dk_at dksX8_fromHalf_0 3 rfl rfl)
theorem dX8_fromHalf_4 : decode cX8_fromHalf 4 = .ok (.iload 4, 2) := dk_21 4 (dk_at dksX8_fromHalf_0 4 rfl rfl)
theorem dX8_fromHalf_6 : decode cX8_fromHalf 6 = .ok (.invokevirtual 506, 3) := dk_182 1 250 (dk_at dksX8_fromHalf_0 6 rfl rfl)
theorem dX8_fromHalf_9 : decode cX8_fromHalf 9 = .ok (.ldc2_w 436, 3) := dk_20 1 180 (dk_at dksX8_fromHalf_0 9 rfl rfl)
theorem dX8_fromHalf_12 : decode cX8_fromHalf 12 = .ok (.aload_n 0, 1) := dk_42 (dk_at dksX8_fromHalf_0 12 rfl rfl)
theorem dX8_fromHalf_13 : decode cX8_fromHalf 13 = .ok (.invokevirtual 430, 3) := dk_182 1 174 (dk_at dksX8_fromHalf_0 13 rfl rfl)
theorem dX8_fromHalf_16 : decode cX8_fromHalf 16 = .ok (.i2l, 1) := dk_133 (dk_at dksX8_fromHalf_0 16 rfl rfl)
theorem dX8_fromHalf_17 : decode cX8_fromHalf 17 = .ok (.lmul, 1) := dk_105 (dk_at dksX8_fromHalf_0 17 rfl rfl)
theorem dX8_fromHalf_18 : decode cX8_fromHalf 18 = .ok (.lsub, 1) := dk_101 (dk_at dksX8_fromHalf_0 18 rfl rfl)
theorem dX8_fromHalf_19 : decode cX8_fromHalf 19 = .ok (.lstore 5, 2) := dk_55 5 (dk_at dksX8_fromHalf_0 19 rfl rfl)
theorem dX8_fromHalf_21 : decode cX8_fromHalf 21 = .ok (.lload 5, 2) := dk_22 5 (dk_at dksX8_fromHalf_0 21 rfl rfl)
theorem dX8_fromHalf_23 : decode cX8_fromHalf 23 = .ok (.lconst 0, 1) := dk_9 (dk_at dksX8_fromHalf_0 23 rfl rfl)
theorem dX8_fromHalf_24 : decode cX8_fromHalf 24 = .ok (.lcmp, 1) := dk_148 (dk_at dksX8_fromHalf_1 0 rfl rfl)
theorem dX8_fromHalf_25 : decode cX8_fromHalf 25 = .ok (.ifCond .ge 9, 3) := dk_156 0 9 (dk_at dksX8_fromHalf_1 1 rfl rfl)
theorem dX8_fromHalf_28 : decode cX8_fromHalf 28 = .ok (.lload 5, 2) := dk_22 5 (dk_at dksX8_fromHalf_1 4 rfl rfl)
theorem dX8_fromHalf_30 : decode cX8_fromHalf 30 = .ok (.lneg, 1) := dk_117 (dk_at dksX8_fromHalf_1 6 rfl rfl)
theorem dX8_fromHalf_31 : decode cX8_fromHalf 31 = .ok (.goto 5, 3) := dk_167 0 5 (dk_at dksX8_fromHalf_1 7 rfl rfl)
theorem dX8_fromHalf_34 : decode cX8_fromHalf 34 = .ok (.lload 5, 2) := dk_22 5 (dk_at dksX8_fromHalf_1 10 rfl rfl)
theorem dX8_fromHalf_36 : decode cX8_fromHalf 36 = .ok (.lreturn, 1) := dk_173 (dk_at dksX8_fromHalf_1 12 rfl rfl)
abbrev cX8_turnsOf : ByteArray := prog_20_method_99_code
def yX8_turnsOf : MethodName := ⟨RX8, "turnsOf", "(I)I"⟩
def dkwX8_turnsOf_1 : List UInt8 := [42, 27, 182, 2, 23, 153, 0, 7, 4, 167, 0, 4, 3, 182, 0, 63, 172]
abbrev dktX8_turnsOf_1 : List UInt8 := dkwX8_turnsOf_1 ++ []
def dkwX8_turnsOf_0 : List UInt8 := [42, 3, 181, 0, 53, 42, 27, 182, 2, 20, 61, 28, 158, 0, 11, 42, 28, 182, 0, 59, 167, 0, 20, 42]
abbrev dktX8_turnsOf_0 : List UInt8 := dkwX8_turnsOf_0 ++ dktX8_turnsOf_1
theorem dksX8_turnsOf_0 : cX8_turnsOf.data.toList.drop 0 = dktX8_turnsOf_0 := by decide +kernel
theorem dksX8_turnsOf_1 : cX8_turnsOf.data.toList.drop 24 = dktX8_turnsOf_1 := dk_seg dksX8_turnsOf_0 24 rfl rfl
theorem dX8_turnsOf_0 : decode cX8_turnsOf 0 = .ok (.aload_n 0, 1) := dk_42 (dk_at dksX8_turnsOf_0 0 rfl rfl)
theorem dX8_turnsOf_1 : decode cX8_turnsOf 1 = .ok (.iconst 0, 1) := dk_3 (dk_at dksX8_turnsOf_0 1 rfl rfl)
theorem dX8_turnsOf_2 : decode cX8_turnsOf 2 = .ok (.putfield 53, 3) := dk_181 0 53 (dk_at dksX8_turnsOf_0 2 rfl rfl)
theorem dX8_turnsOf_5 : decode cX8_turnsOf 5 = .ok (.aload_n 0, 1) := dk_42 (dk_at dksX8_turnsOf_0 5 rfl rfl)
theorem dX8_turnsOf_6 : decode cX8_turnsOf 6 = .ok (.iload_n 1, 1) := dk_27 (dk_at dksX8_turnsOf_0 6 rfl rfl)
theorem dX8_turnsOf_7 : decode cX8_turnsOf 7 = .ok (.invokevirtual 532, 3) := dk_182 2 20 (dk_at dksX8_turnsOf_0 7 rfl rfl)
theorem dX8_turnsOf_10 : decode cX8_turnsOf 10 = .ok (.istore_n 2, 1) := dk_61 (dk_at dksX8_turnsOf_0 10 rfl rfl)
theorem dX8_turnsOf_11 : decode cX8_turnsOf 11 = .ok (.iload_n 2, 1) := dk_28 (dk_at dksX8_turnsOf_0 11 rfl rfl)
theorem dX8_turnsOf_12 : decode cX8_turnsOf 12 = .ok (.ifCond .le 11, 3) := dk_158 0 11 (dk_at dksX8_turnsOf_0 12 rfl rfl)
theorem dX8_turnsOf_15 : decode cX8_turnsOf 15 = .ok (.aload_n 0, 1) := dk_42 (dk_at dksX8_turnsOf_0 15 rfl rfl)
theorem dX8_turnsOf_16 : decode cX8_turnsOf 16 = .ok (.iload_n 2, 1) := dk_28 (dk_at dksX8_turnsOf_0 16 rfl rfl)
theorem dX8_turnsOf_17 : decode cX8_turnsOf 17 = .ok (.invokevirtual 59, 3) := dk_182 0 59 (dk_at dksX8_turnsOf_0 17 rfl rfl)
theorem dX8_turnsOf_20 : decode cX8_turnsOf 20 = .ok (.goto 20, 3) := dk_167 0 20 (dk_at dksX8_turnsOf_0 20 rfl rfl)
theorem dX8_turnsOf_23 : decode cX8_turnsOf 23 = .ok (.aload_n 0, 1) := dk_42 (dk_at dksX8_turnsOf_0 23 rfl rfl)
theorem dX8_turnsOf_24 : decode cX8_turnsOf 24 = .ok (.aload_n 0, 1) := dk_42 (dk_at dksX8_turnsOf_1 0 rfl rfl)
theorem dX8_turnsOf_25 : decode cX8_turnsOf 25 = .ok (.iload_n 1, 1) := dk_27 (dk_at dksX8_turnsOf_1 1 rfl rfl)
theorem dX8_turnsOf_26 : decode cX8_turnsOf 26 = .ok (.invokevirtual 535, 3) := dk_182 2 23 (dk_at dksX8_turnsOf_1 2 rfl rfl)
theorem dX8_turnsOf_29 : decode cX8_turnsOf 29 = .ok (.ifCond .eq 7, 3) := dk_153 0 7 (dk_at dksX8_turnsOf_1 5 rfl rfl)
theorem dX8_turnsOf_32 : decode cX8_turnsOf 32 = .ok (.iconst 1, 1) := dk_4 (dk_at dksX8_turnsOf_1 8 rfl rfl)
theorem dX8_turnsOf_33 : decode cX8_turnsOf 33 = .ok (.goto 4, 3) := dk_167 0 4 (dk_at dksX8_turnsOf_1 9 rfl rfl)
theorem dX8_turnsOf_36 : decode cX8_turnsOf 36 = .ok (.iconst 0, 1) := dk_3 (dk_at dksX8_turnsOf_1 12 rfl rfl)
theorem dX8_turnsOf_37 : decode cX8_turnsOf 37 = .ok (.invokevirtual 63, 3) := dk_182 0 63 (dk_at dksX8_turnsOf_1 13 rfl rfl)
theorem dX8_turnsOf_40 : decode cX8_turnsOf 40 = .ok (.ireturn, 1) := dk_172 (dk_at dksX8_turnsOf_1 16 rfl rfl)
abbrev cX8_refusesTurns : ByteArray := prog_20_method_98_code
def yX8_refusesTurns : MethodName := ⟨RX8, "refusesTurns", "(I)I"⟩
def dkwX8_refusesTurns_1 : List UInt8 := [167, 0, 4, 5, 172]
abbrev dktX8_refusesTurns_1 : List UInt8 := dkwX8_refusesTurns_1 ++ []
def dkwX8_refusesTurns_0 : List UInt8 := [42, 180, 1, 117, 199, 0, 7, 4, 167, 0, 18, 27, 4, 16, 9, 184, 0, 138, 153, 0, 7, 3]
abbrev dktX8_refusesTurns_0 : List UInt8 := dkwX8_refusesTurns_0 ++ dktX8_refusesTurns_1
theorem dksX8_refusesTurns_0 : cX8_refusesTurns.data.toList.drop 0 = dktX8_refusesTurns_0 := by decide +kernel
theorem dksX8_refusesTurns_1 : cX8_refusesTurns.data.toList.drop 22 = dktX8_refusesTurns_1 := dk_seg dksX8_refusesTurns_0 22 rfl rfl
theorem dX8_refusesTurns_0 : decode cX8_refusesTurns 0 = .ok (.aload_n 0, 1) := dk_42 (dk_at dksX8_refusesTurns_0 0 rfl rfl)
theorem dX8_refusesTurns_1 : decode cX8_refusesTurns 1 = .ok (.getfield 373, 3) := dk_180 1 117 (dk_at dksX8_refusesTurns_0 1 rfl rfl)
theorem dX8_refusesTurns_4 : decode cX8_refusesTurns 4 = .ok (.ifnonnull 7, 3) := dk_199 0 7 (dk_at dksX8_refusesTurns_0 4 rfl rfl)
theorem dX8_refusesTurns_7 : decode cX8_refusesTurns 7 = .ok (.iconst 1, 1) := dk_4 (dk_at dksX8_refusesTurns_0 7 rfl rfl)
theorem dX8_refusesTurns_8 : decode cX8_refusesTurns 8 = .ok (.goto 18, 3) := dk_167 0 18 (dk_at dksX8_refusesTurns_0 8 rfl rfl)
theorem dX8_refusesTurns_11 : decode cX8_refusesTurns 11 = .ok (.iload_n 1, 1) := dk_27 (dk_at dksX8_refusesTurns_0 11 rfl rfl)
theorem dX8_refusesTurns_12 : decode cX8_refusesTurns 12 = .ok (.iconst 1, 1) := dk_4 (dk_at dksX8_refusesTurns_0 12 rfl rfl)
theorem dX8_refusesTurns_13 : decode cX8_refusesTurns 13 = .ok (.bipush 9, 2) := dk_16 9 (dk_at dksX8_refusesTurns_0 13 rfl rfl)
theorem dX8_refusesTurns_15 : decode cX8_refusesTurns 15 = .ok (.invokestatic 138, 3) := dk_184 0 138 (dk_at dksX8_refusesTurns_0 15 rfl rfl)
theorem dX8_refusesTurns_18 : decode cX8_refusesTurns 18 = .ok (.ifCond .eq 7, 3) := dk_153 0 7 (dk_at dksX8_refusesTurns_0 18 rfl rfl)
theorem dX8_refusesTurns_21 : decode cX8_refusesTurns 21 = .ok (.iconst 0, 1) := dk_3 (dk_at dksX8_refusesTurns_0 21 rfl rfl)
theorem dX8_refusesTurns_22 : decode cX8_refusesTurns 22 = .ok (.goto 4, 3) := dk_167 0 4 (dk_at dksX8_refusesTurns_1 0 rfl rfl)
theorem dX8_refusesTurns_25 : decode cX8_refusesTurns 25 = .ok (.iconst 2, 1) := dk_5 (dk_at dksX8_refusesTurns_1 3 rfl rfl)
theorem dX8_refusesTurns_26 : decode cX8_refusesTurns 26 = .ok (.ireturn, 1) := dk_172 (dk_at dksX8_refusesTurns_1 4 rfl rfl)
abbrev cX8_laysTurns : ByteArray := prog_20_method_97_code
def yX8_laysTurns : MethodName := ⟨RX8, "laysTurns", "(I)Z"⟩
def dkwX8_laysTurns_10 : List UInt8 := [153, 255, 85, 132, 3, 1, 167, 255, 79, 3, 172]
abbrev dktX8_laysTurns_10 : List UInt8 := dkwX8_laysTurns_10 ++ []
def dkwX8_laysTurns_9 : List UInt8 := [132, 3, 255, 167, 255, 104, 42, 42, 180, 0, 44, 29, 46, 4, 182, 2, 11, 42, 27, 182, 2, 17]
abbrev dktX8_laysTurns_9 : List UInt8 := dkwX8_laysTurns_9 ++ dktX8_laysTurns_10
def dkwX8_laysTurns_8 : List UInt8 := [4, 96, 79, 167, 255, 182, 42, 180, 0, 44, 29, 46, 28, 161, 0, 16, 42, 180, 0, 44, 29, 2, 79]
abbrev dktX8_laysTurns_8 : List UInt8 := dkwX8_laysTurns_8 ++ dktX8_laysTurns_9
def dkwX8_laysTurns_7 : List UInt8 := [46, 42, 42, 180, 0, 44, 29, 46, 182, 2, 5, 182, 2, 14, 153, 0, 16, 42, 180, 0, 44, 29, 92, 46]
abbrev dktX8_laysTurns_7 : List UInt8 := dkwX8_laysTurns_7 ++ dktX8_laysTurns_8
def dkwX8_laysTurns_6 : List UInt8 := [42, 42, 180, 0, 44, 29, 46, 182, 2, 2, 182, 2, 14, 154, 0, 28, 42, 42, 180, 0, 44, 29, 4, 100]
abbrev dktX8_laysTurns_6 : List UInt8 := dkwX8_laysTurns_6 ++ dktX8_laysTurns_7
def dkwX8_laysTurns_5 : List UInt8 := [79, 42, 180, 0, 44, 29, 46, 28, 162, 0, 70, 29, 158, 0, 66, 42, 42, 180, 0, 44, 29, 4, 100, 46]
abbrev dktX8_laysTurns_5 : List UInt8 := dkwX8_laysTurns_5 ++ dktX8_laysTurns_6
def dkwX8_laysTurns_4 : List UInt8 := [2, 159, 0, 14, 42, 42, 180, 0, 44, 29, 46, 2, 182, 2, 11, 42, 180, 0, 44, 29, 92, 46, 4, 96]
abbrev dktX8_laysTurns_4 : List UInt8 := dkwX8_laysTurns_4 ++ dktX8_laysTurns_5
def dkwX8_laysTurns_3 : List UInt8 := [160, 0, 18, 42, 182, 2, 8, 153, 0, 5, 4, 172, 132, 3, 255, 167, 255, 235, 42, 180, 0, 44, 29, 46]
abbrev dktX8_laysTurns_3 : List UInt8 := dkwX8_laysTurns_3 ++ dktX8_laysTurns_4
def dkwX8_laysTurns_2 : List UInt8 := [162, 0, 16, 42, 180, 0, 44, 29, 2, 79, 132, 3, 1, 167, 255, 240, 3, 62, 29, 155, 0, 179, 29, 27]
abbrev dktX8_laysTurns_2 : List UInt8 := dkwX8_laysTurns_2 ++ dktX8_laysTurns_3
def dkwX8_laysTurns_1 : List UInt8 := [16, 6, 162, 0, 16, 42, 180, 0, 47, 29, 3, 79, 132, 3, 1, 167, 255, 240, 3, 62, 29, 16, 9]
abbrev dktX8_laysTurns_1 : List UInt8 := dkwX8_laysTurns_1 ++ dktX8_laysTurns_2
def dkwX8_laysTurns_0 : List UInt8 := [42, 180, 1, 117, 180, 0, 213, 42, 180, 1, 117, 180, 0, 213, 4, 100, 104, 5, 108, 61, 3, 62, 29]
abbrev dktX8_laysTurns_0 : List UInt8 := dkwX8_laysTurns_0 ++ dktX8_laysTurns_1
theorem dksX8_laysTurns_0 : cX8_laysTurns.data.toList.drop 0 = dktX8_laysTurns_0 := by decide +kernel
theorem dksX8_laysTurns_1 : cX8_laysTurns.data.toList.drop 23 = dktX8_laysTurns_1 := dk_seg dksX8_laysTurns_0 23 rfl rfl
theorem dksX8_laysTurns_2 : cX8_laysTurns.data.toList.drop 46 = dktX8_laysTurns_2 := dk_seg dksX8_laysTurns_1 23 rfl rfl
theorem dksX8_laysTurns_3 : cX8_laysTurns.data.toList.drop 70 = dktX8_laysTurns_3 := dk_seg dksX8_laysTurns_2 24 rfl rfl
theorem dksX8_laysTurns_4 : cX8_laysTurns.data.toList.drop 94 = dktX8_laysTurns_4 := dk_seg dksX8_laysTurns_3 24 rfl rfl
theorem dksX8_laysTurns_5 : cX8_laysTurns.data.toList.drop 118 = dktX8_laysTurns_5 := dk_seg dksX8_laysTurns_4 24 rfl rfl
theorem dksX8_laysTurns_6 : cX8_laysTurns.data.toList.drop 142 = dktX8_laysTurns_6 := dk_seg dksX8_laysTurns_5 24 rfl rfl
theorem dksX8_laysTurns_7 : cX8_laysTurns.data.toList.drop 166 = dktX8_laysTurns_7 := dk_seg dksX8_laysTurns_6 24 rfl rfl
theorem dksX8_laysTurns_8 : cX8_laysTurns.data.toList.drop 190 = dktX8_laysTurns_8 := dk_seg dksX8_laysTurns_7 24 rfl rfl
theorem dksX8_laysTurns_9 : cX8_laysTurns.data.toList.drop 213 = dktX8_laysTurns_9 := dk_seg dksX8_laysTurns_8 23 rfl rfl
theorem dksX8_laysTurns_10 : cX8_laysTurns.data.toList.drop 235 = dktX8_laysTurns_10 := dk_seg dksX8_laysTurns_9 22 rfl rfl
theorem dX8_laysTurns_0 : decode cX8_laysTurns 0 = .ok (.aload_n 0, 1) := dk_42 (dk_at dksX8_laysTurns_0 0 rfl rfl)
theorem dX8_laysTurns_1 : decode cX8_laysTurns 1 = .ok (.getfield 373, 3) := dk_180 1 117 (dk_at dksX8_laysTurns_0 1 rfl rfl)
theorem dX8_laysTurns_4 : decode cX8_laysTurns 4 = .ok (.getfield 213, 3) := dk_180 0 213 (dk_at dksX8_laysTurns_0 4 rfl rfl)
theorem dX8_laysTurns_7 : decode cX8_laysTurns 7 = .ok (.aload_n 0, 1) := dk_42 (dk_at dksX8_laysTurns_0 7 rfl rfl)
theorem dX8_laysTurns_8 : decode cX8_laysTurns 8 = .ok (.getfield 373, 3) := dk_180 1 117 (dk_at dksX8_laysTurns_0 8 rfl rfl)
theorem dX8_laysTurns_11 : decode cX8_laysTurns 11 = .ok (.getfield 213, 3) := dk_180 0 213 (dk_at dksX8_laysTurns_0 11 rfl rfl)
theorem dX8_laysTurns_14 : decode cX8_laysTurns 14 = .ok (.iconst 1, 1) := dk_4 (dk_at dksX8_laysTurns_0 14 rfl rfl)
theorem dX8_laysTurns_15 : decode cX8_laysTurns 15 = .ok (.isub, 1) := dk_100 (dk_at dksX8_laysTurns_0 15 rfl rfl)
theorem dX8_laysTurns_16 : decode cX8_laysTurns 16 = .ok (.imul, 1) := dk_104 (dk_at dksX8_laysTurns_0 16 rfl rfl)
theorem dX8_laysTurns_17 : decode cX8_laysTurns 17 = .ok (.iconst 2, 1) := dk_5 (dk_at dksX8_laysTurns_0 17 rfl rfl)
theorem dX8_laysTurns_18 : decode cX8_laysTurns 18 = .ok (.idiv, 1) := dk_108 (dk_at dksX8_laysTurns_0 18 rfl rfl)
theorem dX8_laysTurns_19 : decode cX8_laysTurns 19 = .ok (.istore_n 2, 1) := dk_61 (dk_at dksX8_laysTurns_0 19 rfl rfl)
theorem dX8_laysTurns_20 : decode cX8_laysTurns 20 = .ok (.iconst 0, 1) := dk_3 (dk_at dksX8_laysTurns_0 20 rfl rfl)
theorem dX8_laysTurns_21 : decode cX8_laysTurns 21 = .ok (.istore_n 3, 1) := dk_62 (dk_at dksX8_laysTurns_0 21 rfl rfl)
theorem dX8_laysTurns_22 : decode cX8_laysTurns 22 = .ok (.iload_n 3, 1) := dk_29 (dk_at dksX8_laysTurns_0 22 rfl rfl)
theorem dX8_laysTurns_23 : decode cX8_laysTurns 23 = .ok (.bipush 6, 2) := dk_16 6 (dk_at dksX8_laysTurns_1 0 rfl rfl)
theorem dX8_laysTurns_25 : decode cX8_laysTurns 25 = .ok (.if_icmp .ge 16, 3) := dk_162 0 16 (dk_at dksX8_laysTurns_1 2 rfl rfl)
theorem dX8_laysTurns_28 : decode cX8_laysTurns 28 = .ok (.aload_n 0, 1) := dk_42 (dk_at dksX8_laysTurns_1 5 rfl rfl)
theorem dX8_laysTurns_29 : decode cX8_laysTurns 29 = .ok (.getfield 47, 3) := dk_180 0 47 (dk_at dksX8_laysTurns_1 6 rfl rfl)
theorem dX8_laysTurns_32 : decode cX8_laysTurns 32 = .ok (.iload_n 3, 1) := dk_29 (dk_at dksX8_laysTurns_1 9 rfl rfl)
theorem dX8_laysTurns_33 : decode cX8_laysTurns 33 = .ok (.iconst 0, 1) := dk_3 (dk_at dksX8_laysTurns_1 10 rfl rfl)
theorem dX8_laysTurns_34 : decode cX8_laysTurns 34 = .ok (.iastore, 1) := dk_79 (dk_at dksX8_laysTurns_1 11 rfl rfl)
theorem dX8_laysTurns_35 : decode cX8_laysTurns 35 = .ok (.iinc 3 1, 3) := dk_132 3 1 (dk_at dksX8_laysTurns_1 12 rfl rfl)
theorem dX8_laysTurns_38 : decode cX8_laysTurns 38 = .ok (.goto (-16), 3) := dk_167 255 240 (dk_at dksX8_laysTurns_1 15 rfl rfl)
theorem dX8_laysTurns_41 : decode cX8_laysTurns 41 = .ok (.iconst 0, 1) := dk_3 (dk_at dksX8_laysTurns_1 18 rfl rfl)
theorem dX8_laysTurns_42 : decode cX8_laysTurns 42 = .ok (.istore_n 3, 1) := dk_62 (dk_at dksX8_laysTurns_1 19 rfl rfl)
theorem dX8_laysTurns_43 : decode cX8_laysTurns 43 = .ok (.iload_n 3, 1) := dk_29 (dk_at dksX8_laysTurns_1 20 rfl rfl)
theorem dX8_laysTurns_44 : decode cX8_laysTurns 44 = .ok (.bipush 9, 2) := dk_16 9 (dk_at dksX8_laysTurns_1 21 rfl rfl)
theorem dX8_laysTurns_46 : decode cX8_laysTurns 46 = .ok (.if_icmp .ge 16, 3) := dk_162 0 16 (dk_at dksX8_laysTurns_2 0 rfl rfl)
theorem dX8_laysTurns_49 : decode cX8_laysTurns 49 = .ok (.aload_n 0, 1) := dk_42 (dk_at dksX8_laysTurns_2 3 rfl rfl)
theorem dX8_laysTurns_50 : decode cX8_laysTurns 50 = .ok (.getfield 44, 3) := dk_180 0 44 (dk_at dksX8_laysTurns_2 4 rfl rfl)
theorem dX8_laysTurns_53 : decode cX8_laysTurns 53 = .ok (.iload_n 3, 1) := dk_29 (dk_at dksX8_laysTurns_2 7 rfl rfl)
theorem dX8_laysTurns_54 : decode cX8_laysTurns 54 = .ok (.iconst (-1), 1) := dk_2 (dk_at dksX8_laysTurns_2 8 rfl rfl)
theorem dX8_laysTurns_55 : decode cX8_laysTurns 55 = .ok (.iastore, 1) := dk_79 (dk_at dksX8_laysTurns_2 9 rfl rfl)
theorem dX8_laysTurns_56 : decode cX8_laysTurns 56 = .ok (.iinc 3 1, 3) := dk_132 3 1 (dk_at dksX8_laysTurns_2 10 rfl rfl)
theorem dX8_laysTurns_59 : decode cX8_laysTurns 59 = .ok (.goto (-16), 3) := dk_167 255 240 (dk_at dksX8_laysTurns_2 13 rfl rfl)
theorem dX8_laysTurns_62 : decode cX8_laysTurns 62 = .ok (.iconst 0, 1) := dk_3 (dk_at dksX8_laysTurns_2 16 rfl rfl)
theorem dX8_laysTurns_63 : decode cX8_laysTurns 63 = .ok (.istore_n 3, 1) := dk_62 (dk_at dksX8_laysTurns_2 17 rfl rfl)
theorem dX8_laysTurns_64 : decode cX8_laysTurns 64 = .ok (.iload_n 3, 1) := dk_29 (dk_at dksX8_laysTurns_2 18 rfl rfl)
theorem dX8_laysTurns_65 : decode cX8_laysTurns 65 = .ok (.ifCond .lt 179, 3) := dk_155 0 179 (dk_at dksX8_laysTurns_2 19 rfl rfl)
theorem dX8_laysTurns_68 : decode cX8_laysTurns 68 = .ok (.iload_n 3, 1) := dk_29 (dk_at dksX8_laysTurns_2 22 rfl rfl)
theorem dX8_laysTurns_69 : decode cX8_laysTurns 69 = .ok (.iload_n 1, 1) := dk_27 (dk_at dksX8_laysTurns_2 23 rfl rfl)
theorem dX8_laysTurns_70 : decode cX8_laysTurns 70 = .ok (.if_icmp .ne 18, 3) := dk_160 0 18 (dk_at dksX8_laysTurns_3 0 rfl rfl)
theorem dX8_laysTurns_73 : decode cX8_laysTurns 73 = .ok (.aload_n 0, 1) := dk_42 (dk_at dksX8_laysTurns_3 3 rfl rfl)
theorem dX8_laysTurns_74 : decode cX8_laysTurns 74 = .ok (.invokevirtual 520, 3) := dk_182 2 8 (dk_at dksX8_laysTurns_3 4 rfl rfl)
theorem dX8_laysTurns_77 : decode cX8_laysTurns 77 = .ok (.ifCond .eq 5, 3) := dk_153 0 5 (dk_at dksX8_laysTurns_3 7 rfl rfl)
theorem dX8_laysTurns_80 : decode cX8_laysTurns 80 = .ok (.iconst 1, 1) := dk_4 (dk_at dksX8_laysTurns_3 10 rfl rfl)
theorem dX8_laysTurns_81 : decode cX8_laysTurns 81 = .ok (.ireturn, 1) := dk_172 (dk_at dksX8_laysTurns_3 11 rfl rfl)
theorem dX8_laysTurns_82 : decode cX8_laysTurns 82 = .ok (.iinc 3 (-1), 3) := dk_132 3 255 (dk_at dksX8_laysTurns_3 12 rfl rfl)
theorem dX8_laysTurns_85 : decode cX8_laysTurns 85 = .ok (.goto (-21), 3) := dk_167 255 235 (dk_at dksX8_laysTurns_3 15 rfl rfl)
theorem dX8_laysTurns_88 : decode cX8_laysTurns 88 = .ok (.aload_n 0, 1) := dk_42 (dk_at dksX8_laysTurns_3 18 rfl rfl)
theorem dX8_laysTurns_89 : decode cX8_laysTurns 89 = .ok (.getfield 44, 3) := dk_180 0 44 (dk_at dksX8_laysTurns_3 19 rfl rfl)
theorem dX8_laysTurns_92 : decode cX8_laysTurns 92 = .ok (.iload_n 3, 1) := dk_29 (dk_at dksX8_laysTurns_3 22 rfl rfl)
theorem dX8_laysTurns_93 : decode cX8_laysTurns 93 = .ok (.iaload, 1) := dk_46 (dk_at dksX8_laysTurns_3 23 rfl rfl)
theorem dX8_laysTurns_94 : decode cX8_laysTurns 94 = .ok (.iconst (-1), 1) := dk_2 (dk_at dksX8_laysTurns_4 0 rfl rfl)
theorem dX8_laysTurns_95 : decode cX8_laysTurns 95 = .ok (.if_icmp .eq 14, 3) := dk_159 0 14 (dk_at dksX8_laysTurns_4 1 rfl rfl)
theorem dX8_laysTurns_98 : decode cX8_laysTurns 98 = .ok (.aload_n 0, 1) := dk_42 (dk_at dksX8_laysTurns_4 4 rfl rfl)
theorem dX8_laysTurns_99 : decode cX8_laysTurns 99 = .ok (.aload_n 0, 1) := dk_42 (dk_at dksX8_laysTurns_4 5 rfl rfl)
theorem dX8_laysTurns_100 : decode cX8_laysTurns 100 = .ok (.getfield 44, 3) := dk_180 0 44 (dk_at dksX8_laysTurns_4 6 rfl rfl)
theorem dX8_laysTurns_103 : decode cX8_laysTurns 103 = .ok (.iload_n 3, 1) := dk_29 (dk_at dksX8_laysTurns_4 9 rfl rfl)
theorem dX8_laysTurns_104 : decode cX8_laysTurns 104 = .ok (.iaload, 1) := dk_46 (dk_at dksX8_laysTurns_4 10 rfl rfl)
theorem dX8_laysTurns_105 : decode cX8_laysTurns 105 = .ok (.iconst (-1), 1) := dk_2 (dk_at dksX8_laysTurns_4 11 rfl rfl)
theorem dX8_laysTurns_106 : decode cX8_laysTurns 106 = .ok (.invokevirtual 523, 3) := dk_182 2 11 (dk_at dksX8_laysTurns_4 12 rfl rfl)
theorem dX8_laysTurns_109 : decode cX8_laysTurns 109 = .ok (.aload_n 0, 1) := dk_42 (dk_at dksX8_laysTurns_4 15 rfl rfl)
theorem dX8_laysTurns_110 : decode cX8_laysTurns 110 = .ok (.getfield 44, 3) := dk_180 0 44 (dk_at dksX8_laysTurns_4 16 rfl rfl)
theorem dX8_laysTurns_113 : decode cX8_laysTurns 113 = .ok (.iload_n 3, 1) := dk_29 (dk_at dksX8_laysTurns_4 19 rfl rfl)
theorem dX8_laysTurns_114 : decode cX8_laysTurns 114 = .ok (.dup2, 1) := dk_92 (dk_at dksX8_laysTurns_4 20 rfl rfl)
theorem dX8_laysTurns_115 : decode cX8_laysTurns 115 = .ok (.iaload, 1) := dk_46 (dk_at dksX8_laysTurns_4 21 rfl rfl)
theorem dX8_laysTurns_116 : decode cX8_laysTurns 116 = .ok (.iconst 1, 1) := dk_4 (dk_at dksX8_laysTurns_4 22 rfl rfl)
theorem dX8_laysTurns_117 : decode cX8_laysTurns 117 = .ok (.iadd, 1) := dk_96 (dk_at dksX8_laysTurns_4 23 rfl rfl)
theorem dX8_laysTurns_118 : decode cX8_laysTurns 118 = .ok (.iastore, 1) := dk_79 (dk_at dksX8_laysTurns_5 0 rfl rfl)
theorem dX8_laysTurns_119 : decode cX8_laysTurns 119 = .ok (.aload_n 0, 1) := dk_42 (dk_at dksX8_laysTurns_5 1 rfl rfl)
theorem dX8_laysTurns_120 : decode cX8_laysTurns 120 = .ok (.getfield 44, 3) := dk_180 0 44 (dk_at dksX8_laysTurns_5 2 rfl rfl)
theorem dX8_laysTurns_123 : decode cX8_laysTurns 123 = .ok (.iload_n 3, 1) := dk_29 (dk_at dksX8_laysTurns_5 5 rfl rfl)
theorem dX8_laysTurns_124 : decode cX8_laysTurns 124 = .ok (.iaload, 1) := dk_46 (dk_at dksX8_laysTurns_5 6 rfl rfl)
theorem dX8_laysTurns_125 : decode cX8_laysTurns 125 = .ok (.iload_n 2, 1) := dk_28 (dk_at dksX8_laysTurns_5 7 rfl rfl)
theorem dX8_laysTurns_126 : decode cX8_laysTurns 126 = .ok (.if_icmp .ge 70, 3) := dk_162 0 70 (dk_at dksX8_laysTurns_5 8 rfl rfl)
theorem dX8_laysTurns_129 : decode cX8_laysTurns 129 = .ok (.iload_n 3, 1) := dk_29 (dk_at dksX8_laysTurns_5 11 rfl rfl)
theorem dX8_laysTurns_130 : decode cX8_laysTurns 130 = .ok (.ifCond .le 66, 3) := dk_158 0 66 (dk_at dksX8_laysTurns_5 12 rfl rfl)
theorem dX8_laysTurns_133 : decode cX8_laysTurns 133 = .ok (.aload_n 0, 1) := dk_42 (dk_at dksX8_laysTurns_5 15 rfl rfl)
theorem dX8_laysTurns_134 : decode cX8_laysTurns 134 = .ok (.aload_n 0, 1) := dk_42 (dk_at dksX8_laysTurns_5 16 rfl rfl)
theorem dX8_laysTurns_135 : decode cX8_laysTurns 135 = .ok (.getfield 44, 3) := dk_180 0 44 (dk_at dksX8_laysTurns_5 17 rfl rfl)
theorem dX8_laysTurns_138 : decode cX8_laysTurns 138 = .ok (.iload_n 3, 1) := dk_29 (dk_at dksX8_laysTurns_5 20 rfl rfl)
theorem dX8_laysTurns_139 : decode cX8_laysTurns 139 = .ok (.iconst 1, 1) := dk_4 (dk_at dksX8_laysTurns_5 21 rfl rfl)
theorem dX8_laysTurns_140 : decode cX8_laysTurns 140 = .ok (.isub, 1) := dk_100 (dk_at dksX8_laysTurns_5 22 rfl rfl)
theorem dX8_laysTurns_141 : decode cX8_laysTurns 141 = .ok (.iaload, 1) := dk_46 (dk_at dksX8_laysTurns_5 23 rfl rfl)
theorem dX8_laysTurns_142 : decode cX8_laysTurns 142 = .ok (.aload_n 0, 1) := dk_42 (dk_at dksX8_laysTurns_6 0 rfl rfl)
theorem dX8_laysTurns_143 : decode cX8_laysTurns 143 = .ok (.aload_n 0, 1) := dk_42 (dk_at dksX8_laysTurns_6 1 rfl rfl)
theorem dX8_laysTurns_144 : decode cX8_laysTurns 144 = .ok (.getfield 44, 3) := dk_180 0 44 (dk_at dksX8_laysTurns_6 2 rfl rfl)
theorem dX8_laysTurns_147 : decode cX8_laysTurns 147 = .ok (.iload_n 3, 1) := dk_29 (dk_at dksX8_laysTurns_6 5 rfl rfl)
theorem dX8_laysTurns_148 : decode cX8_laysTurns 148 = .ok (.iaload, 1) := dk_46 (dk_at dksX8_laysTurns_6 6 rfl rfl)
theorem dX8_laysTurns_149 : decode cX8_laysTurns 149 = .ok (.invokevirtual 514, 3) := dk_182 2 2 (dk_at dksX8_laysTurns_6 7 rfl rfl)
theorem dX8_laysTurns_152 : decode cX8_laysTurns 152 = .ok (.invokevirtual 526, 3) := dk_182 2 14 (dk_at dksX8_laysTurns_6 10 rfl rfl)
theorem dX8_laysTurns_155 : decode cX8_laysTurns 155 = .ok (.ifCond .ne 28, 3) := dk_154 0 28 (dk_at dksX8_laysTurns_6 13 rfl rfl)
theorem dX8_laysTurns_158 : decode cX8_laysTurns 158 = .ok (.aload_n 0, 1) := dk_42 (dk_at dksX8_laysTurns_6 16 rfl rfl)
theorem dX8_laysTurns_159 : decode cX8_laysTurns 159 = .ok (.aload_n 0, 1) := dk_42 (dk_at dksX8_laysTurns_6 17 rfl rfl)
theorem dX8_laysTurns_160 : decode cX8_laysTurns 160 = .ok (.getfield 44, 3) := dk_180 0 44 (dk_at dksX8_laysTurns_6 18 rfl rfl)
theorem dX8_laysTurns_163 : decode cX8_laysTurns 163 = .ok (.iload_n 3, 1) := dk_29 (dk_at dksX8_laysTurns_6 21 rfl rfl)
theorem dX8_laysTurns_164 : decode cX8_laysTurns 164 = .ok (.iconst 1, 1) := dk_4 (dk_at dksX8_laysTurns_6 22 rfl rfl)
theorem dX8_laysTurns_165 : decode cX8_laysTurns 165 = .ok (.isub, 1) := dk_100 (dk_at dksX8_laysTurns_6 23 rfl rfl)
theorem dX8_laysTurns_166 : decode cX8_laysTurns 166 = .ok (.iaload, 1) := dk_46 (dk_at dksX8_laysTurns_7 0 rfl rfl)
theorem dX8_laysTurns_167 : decode cX8_laysTurns 167 = .ok (.aload_n 0, 1) := dk_42 (dk_at dksX8_laysTurns_7 1 rfl rfl)
theorem dX8_laysTurns_168 : decode cX8_laysTurns 168 = .ok (.aload_n 0, 1) := dk_42 (dk_at dksX8_laysTurns_7 2 rfl rfl)
theorem dX8_laysTurns_169 : decode cX8_laysTurns 169 = .ok (.getfield 44, 3) := dk_180 0 44 (dk_at dksX8_laysTurns_7 3 rfl rfl)
theorem dX8_laysTurns_172 : decode cX8_laysTurns 172 = .ok (.iload_n 3, 1) := dk_29 (dk_at dksX8_laysTurns_7 6 rfl rfl)
theorem dX8_laysTurns_173 : decode cX8_laysTurns 173 = .ok (.iaload, 1) := dk_46 (dk_at dksX8_laysTurns_7 7 rfl rfl)
theorem dX8_laysTurns_174 : decode cX8_laysTurns 174 = .ok (.invokevirtual 517, 3) := dk_182 2 5 (dk_at dksX8_laysTurns_7 8 rfl rfl)
theorem dX8_laysTurns_177 : decode cX8_laysTurns 177 = .ok (.invokevirtual 526, 3) := dk_182 2 14 (dk_at dksX8_laysTurns_7 11 rfl rfl)
theorem dX8_laysTurns_180 : decode cX8_laysTurns 180 = .ok (.ifCond .eq 16, 3) := dk_153 0 16 (dk_at dksX8_laysTurns_7 14 rfl rfl)
theorem dX8_laysTurns_183 : decode cX8_laysTurns 183 = .ok (.aload_n 0, 1) := dk_42 (dk_at dksX8_laysTurns_7 17 rfl rfl)
theorem dX8_laysTurns_184 : decode cX8_laysTurns 184 = .ok (.getfield 44, 3) := dk_180 0 44 (dk_at dksX8_laysTurns_7 18 rfl rfl)
theorem dX8_laysTurns_187 : decode cX8_laysTurns 187 = .ok (.iload_n 3, 1) := dk_29 (dk_at dksX8_laysTurns_7 21 rfl rfl)
theorem dX8_laysTurns_188 : decode cX8_laysTurns 188 = .ok (.dup2, 1) := dk_92 (dk_at dksX8_laysTurns_7 22 rfl rfl)
theorem dX8_laysTurns_189 : decode cX8_laysTurns 189 = .ok (.iaload, 1) := dk_46 (dk_at dksX8_laysTurns_7 23 rfl rfl)
theorem dX8_laysTurns_190 : decode cX8_laysTurns 190 = .ok (.iconst 1, 1) := dk_4 (dk_at dksX8_laysTurns_8 0 rfl rfl)
theorem dX8_laysTurns_191 : decode cX8_laysTurns 191 = .ok (.iadd, 1) := dk_96 (dk_at dksX8_laysTurns_8 1 rfl rfl)
theorem dX8_laysTurns_192 : decode cX8_laysTurns 192 = .ok (.iastore, 1) := dk_79 (dk_at dksX8_laysTurns_8 2 rfl rfl)
theorem dX8_laysTurns_193 : decode cX8_laysTurns 193 = .ok (.goto (-74), 3) := dk_167 255 182 (dk_at dksX8_laysTurns_8 3 rfl rfl)
theorem dX8_laysTurns_196 : decode cX8_laysTurns 196 = .ok (.aload_n 0, 1) := dk_42 (dk_at dksX8_laysTurns_8 6 rfl rfl)
theorem dX8_laysTurns_197 : decode cX8_laysTurns 197 = .ok (.getfield 44, 3) := dk_180 0 44 (dk_at dksX8_laysTurns_8 7 rfl rfl)
theorem dX8_laysTurns_200 : decode cX8_laysTurns 200 = .ok (.iload_n 3, 1) := dk_29 (dk_at dksX8_laysTurns_8 10 rfl rfl)
theorem dX8_laysTurns_201 : decode cX8_laysTurns 201 = .ok (.iaload, 1) := dk_46 (dk_at dksX8_laysTurns_8 11 rfl rfl)
theorem dX8_laysTurns_202 : decode cX8_laysTurns 202 = .ok (.iload_n 2, 1) := dk_28 (dk_at dksX8_laysTurns_8 12 rfl rfl)
theorem dX8_laysTurns_203 : decode cX8_laysTurns 203 = .ok (.if_icmp .lt 16, 3) := dk_161 0 16 (dk_at dksX8_laysTurns_8 13 rfl rfl)
theorem dX8_laysTurns_206 : decode cX8_laysTurns 206 = .ok (.aload_n 0, 1) := dk_42 (dk_at dksX8_laysTurns_8 16 rfl rfl)
theorem dX8_laysTurns_207 : decode cX8_laysTurns 207 = .ok (.getfield 44, 3) := dk_180 0 44 (dk_at dksX8_laysTurns_8 17 rfl rfl)
theorem dX8_laysTurns_210 : decode cX8_laysTurns 210 = .ok (.iload_n 3, 1) := dk_29 (dk_at dksX8_laysTurns_8 20 rfl rfl)
theorem dX8_laysTurns_211 : decode cX8_laysTurns 211 = .ok (.iconst (-1), 1) := dk_2 (dk_at dksX8_laysTurns_8 21 rfl rfl)
theorem dX8_laysTurns_212 : decode cX8_laysTurns 212 = .ok (.iastore, 1) := dk_79 (dk_at dksX8_laysTurns_8 22 rfl rfl)
theorem dX8_laysTurns_213 : decode cX8_laysTurns 213 = .ok (.iinc 3 (-1), 3) := dk_132 3 255 (dk_at dksX8_laysTurns_9 0 rfl rfl)
theorem dX8_laysTurns_216 : decode cX8_laysTurns 216 = .ok (.goto (-152), 3) := dk_167 255 104 (dk_at dksX8_laysTurns_9 3 rfl rfl)
theorem dX8_laysTurns_219 : decode cX8_laysTurns 219 = .ok (.aload_n 0, 1) := dk_42 (dk_at dksX8_laysTurns_9 6 rfl rfl)
theorem dX8_laysTurns_220 : decode cX8_laysTurns 220 = .ok (.aload_n 0, 1) := dk_42 (dk_at dksX8_laysTurns_9 7 rfl rfl)
theorem dX8_laysTurns_221 : decode cX8_laysTurns 221 = .ok (.getfield 44, 3) := dk_180 0 44 (dk_at dksX8_laysTurns_9 8 rfl rfl)
theorem dX8_laysTurns_224 : decode cX8_laysTurns 224 = .ok (.iload_n 3, 1) := dk_29 (dk_at dksX8_laysTurns_9 11 rfl rfl)
theorem dX8_laysTurns_225 : decode cX8_laysTurns 225 = .ok (.iaload, 1) := dk_46 (dk_at dksX8_laysTurns_9 12 rfl rfl)
theorem dX8_laysTurns_226 : decode cX8_laysTurns 226 = .ok (.iconst 1, 1) := dk_4 (dk_at dksX8_laysTurns_9 13 rfl rfl)
theorem dX8_laysTurns_227 : decode cX8_laysTurns 227 = .ok (.invokevirtual 523, 3) := dk_182 2 11 (dk_at dksX8_laysTurns_9 14 rfl rfl)
theorem dX8_laysTurns_230 : decode cX8_laysTurns 230 = .ok (.aload_n 0, 1) := dk_42 (dk_at dksX8_laysTurns_9 17 rfl rfl)
theorem dX8_laysTurns_231 : decode cX8_laysTurns 231 = .ok (.iload_n 1, 1) := dk_27 (dk_at dksX8_laysTurns_9 18 rfl rfl)
theorem dX8_laysTurns_232 : decode cX8_laysTurns 232 = .ok (.invokevirtual 529, 3) := dk_182 2 17 (dk_at dksX8_laysTurns_9 19 rfl rfl)
theorem dX8_laysTurns_235 : decode cX8_laysTurns 235 = .ok (.ifCond .eq (-171), 3) := dk_153 255 85 (dk_at dksX8_laysTurns_10 0 rfl rfl)
theorem dX8_laysTurns_238 : decode cX8_laysTurns 238 = .ok (.iinc 3 1, 3) := dk_132 3 1 (dk_at dksX8_laysTurns_10 3 rfl rfl)
theorem dX8_laysTurns_241 : decode cX8_laysTurns 241 = .ok (.goto (-177), 3) := dk_167 255 79 (dk_at dksX8_laysTurns_10 6 rfl rfl)
theorem dX8_laysTurns_244 : decode cX8_laysTurns 244 = .ok (.iconst 0, 1) := dk_3 (dk_at dksX8_laysTurns_10 9 rfl rfl)
theorem dX8_laysTurns_245 : decode cX8_laysTurns 245 = .ok (.ireturn, 1) := dk_172 (dk_at dksX8_laysTurns_10 10 rfl rfl)
abbrev cX8_isFair : ByteArray := prog_20_method_94_code
def yX8_isFair : MethodName := ⟨RX8, "isFair", "()Z"⟩
def dkwX8_isFair_3 : List UInt8 := [163, 0, 7, 4, 167, 0, 4, 3, 172]
abbrev dktX8_isFair_3 : List UInt8 := dkwX8_isFair_3 ++ []
def dkwX8_isFair_2 : List UInt8 := [162, 0, 12, 42, 180, 0, 47, 29, 46, 167, 0, 4, 28, 61, 132, 3, 1, 167, 255, 200, 27, 28, 100, 4]
abbrev dktX8_isFair_2 : List UInt8 := dkwX8_isFair_2 ++ dktX8_isFair_3
def dkwX8_isFair_1 : List UInt8 := [27, 164, 0, 12, 42, 180, 0, 47, 29, 46, 167, 0, 4, 27, 60, 42, 180, 0, 47, 29, 46, 28]
abbrev dktX8_isFair_1 : List UInt8 := dkwX8_isFair_1 ++ dktX8_isFair_2
def dkwX8_isFair_0 : List UInt8 := [3, 60, 16, 9, 61, 3, 62, 29, 42, 180, 1, 117, 180, 0, 213, 162, 0, 51, 42, 180, 0, 47, 29, 46]
abbrev dktX8_isFair_0 : List UInt8 := dkwX8_isFair_0 ++ dktX8_isFair_1
theorem dksX8_isFair_0 : cX8_isFair.data.toList.drop 0 = dktX8_isFair_0 := by decide +kernel
theorem dksX8_isFair_1 : cX8_isFair.data.toList.drop 24 = dktX8_isFair_1 := dk_seg dksX8_isFair_0 24 rfl rfl
theorem dksX8_isFair_2 : cX8_isFair.data.toList.drop 46 = dktX8_isFair_2 := dk_seg dksX8_isFair_1 22 rfl rfl
theorem dksX8_isFair_3 : cX8_isFair.data.toList.drop 70 = dktX8_isFair_3 := dk_seg dksX8_isFair_2 24 rfl rfl
theorem dX8_isFair_0 : decode cX8_isFair 0 = .ok (.iconst 0, 1) := dk_3 (dk_at dksX8_isFair_0 0 rfl rfl)
theorem dX8_isFair_1 : decode cX8_isFair 1 = .ok (.istore_n 1, 1) := dk_60 (dk_at dksX8_isFair_0 1 rfl rfl)
theorem dX8_isFair_2 : decode cX8_isFair 2 = .ok (.bipush 9, 2) := dk_16 9 (dk_at dksX8_isFair_0 2 rfl rfl)
theorem dX8_isFair_4 : decode cX8_isFair 4 = .ok (.istore_n 2, 1) := dk_61 (dk_at dksX8_isFair_0 4 rfl rfl)
theorem dX8_isFair_5 : decode cX8_isFair 5 = .ok (.iconst 0, 1) := dk_3 (dk_at dksX8_isFair_0 5 rfl rfl)
theorem dX8_isFair_6 : decode cX8_isFair 6 = .ok (.istore_n 3, 1) := dk_62 (dk_at dksX8_isFair_0 6 rfl rfl)
theorem dX8_isFair_7 : decode cX8_isFair 7 = .ok (.iload_n 3, 1) := dk_29 (dk_at dksX8_isFair_0 7 rfl rfl)
theorem dX8_isFair_8 : decode cX8_isFair 8 = .ok (.aload_n 0, 1) := dk_42 (dk_at dksX8_isFair_0 8 rfl rfl)
theorem dX8_isFair_9 : decode cX8_isFair 9 = .ok (.getfield 373, 3) := dk_180 1 117 (dk_at dksX8_isFair_0 9 rfl rfl)
theorem dX8_isFair_12 : decode cX8_isFair 12 = .ok (.getfield 213, 3) := dk_180 0 213 (dk_at dksX8_isFair_0 12 rfl rfl)
theorem dX8_isFair_15 : decode cX8_isFair 15 = .ok (.if_icmp .ge 51, 3) := dk_162 0 51 (dk_at dksX8_isFair_0 15 rfl rfl)
theorem dX8_isFair_18 : decode cX8_isFair 18 = .ok (.aload_n 0, 1) := dk_42 (dk_at dksX8_isFair_0 18 rfl rfl)
theorem dX8_isFair_19 : decode cX8_isFair 19 = .ok (.getfield 47, 3) := dk_180 0 47 (dk_at dksX8_isFair_0 19 rfl rfl)
theorem dX8_isFair_22 : decode cX8_isFair 22 = .ok (.iload_n 3, 1) := dk_29 (dk_at dksX8_isFair_0 22 rfl rfl)
theorem dX8_isFair_23 : decode cX8_isFair 23 = .ok (.iaload, 1) := dk_46 (dk_at dksX8_isFair_0 23 rfl rfl)
theorem dX8_isFair_24 : decode cX8_isFair 24 = .ok (.iload_n 1, 1) := dk_27 (dk_at dksX8_isFair_1 0 rfl rfl)
theorem dX8_isFair_25 : decode cX8_isFair 25 = .ok (.if_icmp .le 12, 3) := dk_164 0 12 (dk_at dksX8_isFair_1 1 rfl rfl)
theorem dX8_isFair_28 : decode cX8_isFair 28 = .ok (.aload_n 0, 1) := dk_42 (dk_at dksX8_isFair_1 4 rfl rfl)
theorem dX8_isFair_29 : decode cX8_isFair 29 = .ok (.getfield 47, 3) := dk_180 0 47 (dk_at dksX8_isFair_1 5 rfl rfl)
theorem dX8_isFair_32 : decode cX8_isFair 32 = .ok (.iload_n 3, 1) := dk_29 (dk_at dksX8_isFair_1 8 rfl rfl)
theorem dX8_isFair_33 : decode cX8_isFair 33 = .ok (.iaload, 1) := dk_46 (dk_at dksX8_isFair_1 9 rfl rfl)
theorem dX8_isFair_34 : decode cX8_isFair 34 = .ok (.goto 4, 3) := dk_167 0 4 (dk_at dksX8_isFair_1 10 rfl rfl)
theorem dX8_isFair_37 : decode cX8_isFair 37 = .ok (.iload_n 1, 1) := dk_27 (dk_at dksX8_isFair_1 13 rfl rfl)
theorem dX8_isFair_38 : decode cX8_isFair 38 = .ok (.istore_n 1, 1) := dk_60 (dk_at dksX8_isFair_1 14 rfl rfl)
theorem dX8_isFair_39 : decode cX8_isFair 39 = .ok (.aload_n 0, 1) := dk_42 (dk_at dksX8_isFair_1 15 rfl rfl)
theorem dX8_isFair_40 : decode cX8_isFair 40 = .ok (.getfield 47, 3) := dk_180 0 47 (dk_at dksX8_isFair_1 16 rfl rfl)
theorem dX8_isFair_43 : decode cX8_isFair 43 = .ok (.iload_n 3, 1) := dk_29 (dk_at dksX8_isFair_1 19 rfl rfl)
theorem dX8_isFair_44 : decode cX8_isFair 44 = .ok (.iaload, 1) := dk_46 (dk_at dksX8_isFair_1 20 rfl rfl)
theorem dX8_isFair_45 : decode cX8_isFair 45 = .ok (.iload_n 2, 1) := dk_28 (dk_at dksX8_isFair_1 21 rfl rfl)
theorem dX8_isFair_46 : decode cX8_isFair 46 = .ok (.if_icmp .ge 12, 3) := dk_162 0 12 (dk_at dksX8_isFair_2 0 rfl rfl)
theorem dX8_isFair_49 : decode cX8_isFair 49 = .ok (.aload_n 0, 1) := dk_42 (dk_at dksX8_isFair_2 3 rfl rfl)
theorem dX8_isFair_50 : decode cX8_isFair 50 = .ok (.getfield 47, 3) := dk_180 0 47 (dk_at dksX8_isFair_2 4 rfl rfl)
theorem dX8_isFair_53 : decode cX8_isFair 53 = .ok (.iload_n 3, 1) := dk_29 (dk_at dksX8_isFair_2 7 rfl rfl)
theorem dX8_isFair_54 : decode cX8_isFair 54 = .ok (.iaload, 1) := dk_46 (dk_at dksX8_isFair_2 8 rfl rfl)
theorem dX8_isFair_55 : decode cX8_isFair 55 = .ok (.goto 4, 3) := dk_167 0 4 (dk_at dksX8_isFair_2 9 rfl rfl)
theorem dX8_isFair_58 : decode cX8_isFair 58 = .ok (.iload_n 2, 1) := dk_28 (dk_at dksX8_isFair_2 12 rfl rfl)
theorem dX8_isFair_59 : decode cX8_isFair 59 = .ok (.istore_n 2, 1) := dk_61 (dk_at dksX8_isFair_2 13 rfl rfl)
theorem dX8_isFair_60 : decode cX8_isFair 60 = .ok (.iinc 3 1, 3) := dk_132 3 1 (dk_at dksX8_isFair_2 14 rfl rfl)
theorem dX8_isFair_63 : decode cX8_isFair 63 = .ok (.goto (-56), 3) := dk_167 255 200 (dk_at dksX8_isFair_2 17 rfl rfl)
theorem dX8_isFair_66 : decode cX8_isFair 66 = .ok (.iload_n 1, 1) := dk_27 (dk_at dksX8_isFair_2 20 rfl rfl)
theorem dX8_isFair_67 : decode cX8_isFair 67 = .ok (.iload_n 2, 1) := dk_28 (dk_at dksX8_isFair_2 21 rfl rfl)
theorem dX8_isFair_68 : decode cX8_isFair 68 = .ok (.isub, 1) := dk_100 (dk_at dksX8_isFair_2 22 rfl rfl)
theorem dX8_isFair_69 : decode cX8_isFair 69 = .ok (.iconst 1, 1) := dk_4 (dk_at dksX8_isFair_2 23 rfl rfl)
theorem dX8_isFair_70 : decode cX8_isFair 70 = .ok (.if_icmp .gt 7, 3) := dk_163 0 7 (dk_at dksX8_isFair_3 0 rfl rfl)
theorem dX8_isFair_73 : decode cX8_isFair 73 = .ok (.iconst 1, 1) := dk_4 (dk_at dksX8_isFair_3 3 rfl rfl)
theorem dX8_isFair_74 : decode cX8_isFair 74 = .ok (.goto 4, 3) := dk_167 0 4 (dk_at dksX8_isFair_3 4 rfl rfl)
theorem dX8_isFair_77 : decode cX8_isFair 77 = .ok (.iconst 0, 1) := dk_3 (dk_at dksX8_isFair_3 7 rfl rfl)
theorem dX8_isFair_78 : decode cX8_isFair 78 = .ok (.ireturn, 1) := dk_172 (dk_at dksX8_isFair_3 8 rfl rfl)
abbrev cX8_counts : ByteArray := prog_20_method_96_code
def yX8_counts : MethodName := ⟨RX8, "counts", "(II)V"⟩
def dkwX8_counts_1 : List UInt8 := [46, 28, 96, 79, 177]
abbrev dktX8_counts_1 : List UInt8 := dkwX8_counts_1 ++ []
def dkwX8_counts_0 : List UInt8 := [42, 180, 0, 47, 42, 27, 182, 2, 2, 92, 46, 28, 96, 79, 42, 180, 0, 47, 42, 27, 182, 2, 5, 92]
abbrev dktX8_counts_0 : List UInt8 := dkwX8_counts_0 ++ dktX8_counts_1
theorem dksX8_counts_0 : cX8_counts.data.toList.drop 0 = dktX8_counts_0 := by decide +kernel
theorem dksX8_counts_1 : cX8_counts.data.toList.drop 24 = dktX8_counts_1 := dk_seg dksX8_counts_0 24 rfl rfl
theorem dX8_counts_0 : decode cX8_counts 0 = .ok (.aload_n 0, 1) := dk_42 (dk_at dksX8_counts_0 0 rfl rfl)
theorem dX8_counts_1 : decode cX8_counts 1 = .ok (.getfield 47, 3) := dk_180 0 47 (dk_at dksX8_counts_0 1 rfl rfl)
theorem dX8_counts_4 : decode cX8_counts 4 = .ok (.aload_n 0, 1) := dk_42 (dk_at dksX8_counts_0 4 rfl rfl)
theorem dX8_counts_5 : decode cX8_counts 5 = .ok (.iload_n 1, 1) := dk_27 (dk_at dksX8_counts_0 5 rfl rfl)
theorem dX8_counts_6 : decode cX8_counts 6 = .ok (.invokevirtual 514, 3) := dk_182 2 2 (dk_at dksX8_counts_0 6 rfl rfl)
theorem dX8_counts_9 : decode cX8_counts 9 = .ok (.dup2, 1) := dk_92 (dk_at dksX8_counts_0 9 rfl rfl)
theorem dX8_counts_10 : decode cX8_counts 10 = .ok (.iaload, 1) := dk_46 (dk_at dksX8_counts_0 10 rfl rfl)
theorem dX8_counts_11 : decode cX8_counts 11 = .ok (.iload_n 2, 1) := dk_28 (dk_at dksX8_counts_0 11 rfl rfl)
theorem dX8_counts_12 : decode cX8_counts 12 = .ok (.iadd, 1) := dk_96 (dk_at dksX8_counts_0 12 rfl rfl)
theorem dX8_counts_13 : decode cX8_counts 13 = .ok (.iastore, 1) := dk_79 (dk_at dksX8_counts_0 13 rfl rfl)
theorem dX8_counts_14 : decode cX8_counts 14 = .ok (.aload_n 0, 1) := dk_42 (dk_at dksX8_counts_0 14 rfl rfl)
theorem dX8_counts_15 : decode cX8_counts 15 = .ok (.getfield 47, 3) := dk_180 0 47 (dk_at dksX8_counts_0 15 rfl rfl)
theorem dX8_counts_18 : decode cX8_counts 18 = .ok (.aload_n 0, 1) := dk_42 (dk_at dksX8_counts_0 18 rfl rfl)
theorem dX8_counts_19 : decode cX8_counts 19 = .ok (.iload_n 1, 1) := dk_27 (dk_at dksX8_counts_0 19 rfl rfl)
theorem dX8_counts_20 : decode cX8_counts 20 = .ok (.invokevirtual 517, 3) := dk_182 2 5 (dk_at dksX8_counts_0 20 rfl rfl)
theorem dX8_counts_23 : decode cX8_counts 23 = .ok (.dup2, 1) := dk_92 (dk_at dksX8_counts_0 23 rfl rfl)
theorem dX8_counts_24 : decode cX8_counts 24 = .ok (.iaload, 1) := dk_46 (dk_at dksX8_counts_1 0 rfl rfl)
theorem dX8_counts_25 : decode cX8_counts 25 = .ok (.iload_n 2, 1) := dk_28 (dk_at dksX8_counts_1 1 rfl rfl)
theorem dX8_counts_26 : decode cX8_counts 26 = .ok (.iadd, 1) := dk_96 (dk_at dksX8_counts_1 2 rfl rfl)
theorem dX8_counts_27 : decode cX8_counts 27 = .ok (.iastore, 1) := dk_79 (dk_at dksX8_counts_1 3 rfl rfl)
theorem dX8_counts_28 : decode cX8_counts 28 = .ok (.return_, 1) := dk_177 (dk_at dksX8_counts_1 4 rfl rfl)
abbrev cX8_lesser : ByteArray := prog_20_method_91_code
def yX8_lesser : MethodName := ⟨RX8, "lesser", "(I)I"⟩
def dkwX8_lesser_2 : List UInt8 := [132, 3, 1, 167, 255, 211, 2, 172]
abbrev dktX8_lesser_2 : List UInt8 := dkwX8_lesser_2 ++ []
def dkwX8_lesser_1 : List UInt8 := [100, 29, 100, 162, 0, 5, 29, 172, 28, 42, 180, 1, 117, 180, 0, 213, 4, 100, 29, 100, 100, 61]
abbrev dktX8_lesser_1 : List UInt8 := dkwX8_lesser_1 ++ dktX8_lesser_2
def dkwX8_lesser_0 : List UInt8 := [27, 61, 3, 62, 29, 42, 180, 1, 117, 180, 0, 213, 162, 0, 40, 28, 42, 180, 1, 117, 180, 0, 213, 4]
abbrev dktX8_lesser_0 : List UInt8 := dkwX8_lesser_0 ++ dktX8_lesser_1
theorem dksX8_lesser_0 : cX8_lesser.data.toList.drop 0 = dktX8_lesser_0 := by decide +kernel
theorem dksX8_lesser_1 : cX8_lesser.data.toList.drop 24 = dktX8_lesser_1 := dk_seg dksX8_lesser_0 24 rfl rfl
theorem dksX8_lesser_2 : cX8_lesser.data.toList.drop 46 = dktX8_lesser_2 := dk_seg dksX8_lesser_1 22 rfl rfl
theorem dX8_lesser_0 : decode cX8_lesser 0 = .ok (.iload_n 1, 1) := dk_27 (dk_at dksX8_lesser_0 0 rfl rfl)
theorem dX8_lesser_1 : decode cX8_lesser 1 = .ok (.istore_n 2, 1) := dk_61 (dk_at dksX8_lesser_0 1 rfl rfl)
theorem dX8_lesser_2 : decode cX8_lesser 2 = .ok (.iconst 0, 1) := dk_3 (dk_at dksX8_lesser_0 2 rfl rfl)
theorem dX8_lesser_3 : decode cX8_lesser 3 = .ok (.istore_n 3, 1) := dk_62 (dk_at dksX8_lesser_0 3 rfl rfl)
theorem dX8_lesser_4 : decode cX8_lesser 4 = .ok (.iload_n 3, 1) := dk_29 (dk_at dksX8_lesser_0 4 rfl rfl)
theorem dX8_lesser_5 : decode cX8_lesser 5 = .ok (.aload_n 0, 1) := dk_42 (dk_at dksX8_lesser_0 5 rfl rfl)
theorem dX8_lesser_6 : decode cX8_lesser 6 = .ok (.getfield 373, 3) := dk_180 1 117 (dk_at dksX8_lesser_0 6 rfl rfl)
theorem dX8_lesser_9 : decode cX8_lesser 9 = .ok (.getfield 213, 3) := dk_180 0 213 (dk_at dksX8_lesser_0 9 rfl rfl)
theorem dX8_lesser_12 : decode cX8_lesser 12 = .ok (.if_icmp .ge 40, 3) := dk_162 0 40 (dk_at dksX8_lesser_0 12 rfl rfl)
theorem dX8_lesser_15 : decode cX8_lesser 15 = .ok (.iload_n 2, 1) := dk_28 (dk_at dksX8_lesser_0 15 rfl rfl)
theorem dX8_lesser_16 : decode cX8_lesser 16 = .ok (.aload_n 0, 1) := dk_42 (dk_at dksX8_lesser_0 16 rfl rfl)
theorem dX8_lesser_17 : decode cX8_lesser 17 = .ok (.getfield 373, 3) := dk_180 1 117 (dk_at dksX8_lesser_0 17 rfl rfl)
theorem dX8_lesser_20 : decode cX8_lesser 20 = .ok (.getfield 213, 3) := dk_180 0 213 (dk_at dksX8_lesser_0 20 rfl rfl)
theorem dX8_lesser_23 : decode cX8_lesser 23 = .ok (.iconst 1, 1) := dk_4 (dk_at dksX8_lesser_0 23 rfl rfl)
theorem dX8_lesser_24 : decode cX8_lesser 24 = .ok (.isub, 1) := dk_100 (dk_at dksX8_lesser_1 0 rfl rfl)
theorem dX8_lesser_25 : decode cX8_lesser 25 = .ok (.iload_n 3, 1) := dk_29 (dk_at dksX8_lesser_1 1 rfl rfl)
theorem dX8_lesser_26 : decode cX8_lesser 26 = .ok (.isub, 1) := dk_100 (dk_at dksX8_lesser_1 2 rfl rfl)
theorem dX8_lesser_27 : decode cX8_lesser 27 = .ok (.if_icmp .ge 5, 3) := dk_162 0 5 (dk_at dksX8_lesser_1 3 rfl rfl)
theorem dX8_lesser_30 : decode cX8_lesser 30 = .ok (.iload_n 3, 1) := dk_29 (dk_at dksX8_lesser_1 6 rfl rfl)
theorem dX8_lesser_31 : decode cX8_lesser 31 = .ok (.ireturn, 1) := dk_172 (dk_at dksX8_lesser_1 7 rfl rfl)
theorem dX8_lesser_32 : decode cX8_lesser 32 = .ok (.iload_n 2, 1) := dk_28 (dk_at dksX8_lesser_1 8 rfl rfl)
theorem dX8_lesser_33 : decode cX8_lesser 33 = .ok (.aload_n 0, 1) := dk_42 (dk_at dksX8_lesser_1 9 rfl rfl)
theorem dX8_lesser_34 : decode cX8_lesser 34 = .ok (.getfield 373, 3) := dk_180 1 117 (dk_at dksX8_lesser_1 10 rfl rfl)
theorem dX8_lesser_37 : decode cX8_lesser 37 = .ok (.getfield 213, 3) := dk_180 0 213 (dk_at dksX8_lesser_1 13 rfl rfl)
theorem dX8_lesser_40 : decode cX8_lesser 40 = .ok (.iconst 1, 1) := dk_4 (dk_at dksX8_lesser_1 16 rfl rfl)
theorem dX8_lesser_41 : decode cX8_lesser 41 = .ok (.isub, 1) := dk_100 (dk_at dksX8_lesser_1 17 rfl rfl)
theorem dX8_lesser_42 : decode cX8_lesser 42 = .ok (.iload_n 3, 1) := dk_29 (dk_at dksX8_lesser_1 18 rfl rfl)
theorem dX8_lesser_43 : decode cX8_lesser 43 = .ok (.isub, 1) := dk_100 (dk_at dksX8_lesser_1 19 rfl rfl)
theorem dX8_lesser_44 : decode cX8_lesser 44 = .ok (.isub, 1) := dk_100 (dk_at dksX8_lesser_1 20 rfl rfl)
theorem dX8_lesser_45 : decode cX8_lesser 45 = .ok (.istore_n 2, 1) := dk_61 (dk_at dksX8_lesser_1 21 rfl rfl)
theorem dX8_lesser_46 : decode cX8_lesser 46 = .ok (.iinc 3 1, 3) := dk_132 3 1 (dk_at dksX8_lesser_2 0 rfl rfl)
theorem dX8_lesser_49 : decode cX8_lesser 49 = .ok (.goto (-45), 3) := dk_167 255 211 (dk_at dksX8_lesser_2 3 rfl rfl)
theorem dX8_lesser_52 : decode cX8_lesser 52 = .ok (.iconst (-1), 1) := dk_2 (dk_at dksX8_lesser_2 6 rfl rfl)
theorem dX8_lesser_53 : decode cX8_lesser 53 = .ok (.ireturn, 1) := dk_172 (dk_at dksX8_lesser_2 7 rfl rfl)
abbrev cX8_greater : ByteArray := prog_20_method_92_code
def yX8_greater : MethodName := ⟨RX8, "greater", "(I)I"⟩
def dkwX8_greater_2 : List UInt8 := [100, 61, 132, 3, 1, 167, 255, 207, 2, 172]
abbrev dktX8_greater_2 : List UInt8 := dkwX8_greater_2 ++ []
def dkwX8_greater_1 : List UInt8 := [100, 29, 100, 162, 0, 9, 29, 4, 96, 28, 96, 172, 28, 42, 180, 1, 117, 180, 0, 213, 4, 100, 29, 100]
abbrev dktX8_greater_1 : List UInt8 := dkwX8_greater_1 ++ dktX8_greater_2
def dkwX8_greater_0 : List UInt8 := [27, 61, 3, 62, 29, 42, 180, 1, 117, 180, 0, 213, 162, 0, 44, 28, 42, 180, 1, 117, 180, 0, 213, 4]
abbrev dktX8_greater_0 : List UInt8 := dkwX8_greater_0 ++ dktX8_greater_1
theorem dksX8_greater_0 : cX8_greater.data.toList.drop 0 = dktX8_greater_0 := by decide +kernel
theorem dksX8_greater_1 : cX8_greater.data.toList.drop 24 = dktX8_greater_1 := dk_seg dksX8_greater_0 24 rfl rfl
theorem dksX8_greater_2 : cX8_greater.data.toList.drop 48 = dktX8_greater_2 := dk_seg dksX8_greater_1 24 rfl rfl
theorem dX8_greater_0 : decode cX8_greater 0 = .ok (.iload_n 1, 1) := dk_27 (dk_at dksX8_greater_0 0 rfl rfl)
theorem dX8_greater_1 : decode cX8_greater 1 = .ok (.istore_n 2, 1) := dk_61 (dk_at dksX8_greater_0 1 rfl rfl)
theorem dX8_greater_2 : decode cX8_greater 2 = .ok (.iconst 0, 1) := dk_3 (dk_at dksX8_greater_0 2 rfl rfl)
theorem dX8_greater_3 : decode cX8_greater 3 = .ok (.istore_n 3, 1) := dk_62 (dk_at dksX8_greater_0 3 rfl rfl)
theorem dX8_greater_4 : decode cX8_greater 4 = .ok (.iload_n 3, 1) := dk_29 (dk_at dksX8_greater_0 4 rfl rfl)
theorem dX8_greater_5 : decode cX8_greater 5 = .ok (.aload_n 0, 1) := dk_42 (dk_at dksX8_greater_0 5 rfl rfl)
theorem dX8_greater_6 : decode cX8_greater 6 = .ok (.getfield 373, 3) := dk_180 1 117 (dk_at dksX8_greater_0 6 rfl rfl)
theorem dX8_greater_9 : decode cX8_greater 9 = .ok (.getfield 213, 3) := dk_180 0 213 (dk_at dksX8_greater_0 9 rfl rfl)
theorem dX8_greater_12 : decode cX8_greater 12 = .ok (.if_icmp .ge 44, 3) := dk_162 0 44 (dk_at dksX8_greater_0 12 rfl rfl)
theorem dX8_greater_15 : decode cX8_greater 15 = .ok (.iload_n 2, 1) := dk_28 (dk_at dksX8_greater_0 15 rfl rfl)
theorem dX8_greater_16 : decode cX8_greater 16 = .ok (.aload_n 0, 1) := dk_42 (dk_at dksX8_greater_0 16 rfl rfl)
theorem dX8_greater_17 : decode cX8_greater 17 = .ok (.getfield 373, 3) := dk_180 1 117 (dk_at dksX8_greater_0 17 rfl rfl)
theorem dX8_greater_20 : decode cX8_greater 20 = .ok (.getfield 213, 3) := dk_180 0 213 (dk_at dksX8_greater_0 20 rfl rfl)
theorem dX8_greater_23 : decode cX8_greater 23 = .ok (.iconst 1, 1) := dk_4 (dk_at dksX8_greater_0 23 rfl rfl)
theorem dX8_greater_24 : decode cX8_greater 24 = .ok (.isub, 1) := dk_100 (dk_at dksX8_greater_1 0 rfl rfl)
theorem dX8_greater_25 : decode cX8_greater 25 = .ok (.iload_n 3, 1) := dk_29 (dk_at dksX8_greater_1 1 rfl rfl)
theorem dX8_greater_26 : decode cX8_greater 26 = .ok (.isub, 1) := dk_100 (dk_at dksX8_greater_1 2 rfl rfl)
theorem dX8_greater_27 : decode cX8_greater 27 = .ok (.if_icmp .ge 9, 3) := dk_162 0 9 (dk_at dksX8_greater_1 3 rfl rfl)
theorem dX8_greater_30 : decode cX8_greater 30 = .ok (.iload_n 3, 1) := dk_29 (dk_at dksX8_greater_1 6 rfl rfl)
theorem dX8_greater_31 : decode cX8_greater 31 = .ok (.iconst 1, 1) := dk_4 (dk_at dksX8_greater_1 7 rfl rfl)
theorem dX8_greater_32 : decode cX8_greater 32 = .ok (.iadd, 1) := dk_96 (dk_at dksX8_greater_1 8 rfl rfl)
theorem dX8_greater_33 : decode cX8_greater 33 = .ok (.iload_n 2, 1) := dk_28 (dk_at dksX8_greater_1 9 rfl rfl)
theorem dX8_greater_34 : decode cX8_greater 34 = .ok (.iadd, 1) := dk_96 (dk_at dksX8_greater_1 10 rfl rfl)
theorem dX8_greater_35 : decode cX8_greater 35 = .ok (.ireturn, 1) := dk_172 (dk_at dksX8_greater_1 11 rfl rfl)
theorem dX8_greater_36 : decode cX8_greater 36 = .ok (.iload_n 2, 1) := dk_28 (dk_at dksX8_greater_1 12 rfl rfl)
theorem dX8_greater_37 : decode cX8_greater 37 = .ok (.aload_n 0, 1) := dk_42 (dk_at dksX8_greater_1 13 rfl rfl)
theorem dX8_greater_38 : decode cX8_greater 38 = .ok (.getfield 373, 3) := dk_180 1 117 (dk_at dksX8_greater_1 14 rfl rfl)
theorem dX8_greater_41 : decode cX8_greater 41 = .ok (.getfield 213, 3) := dk_180 0 213 (dk_at dksX8_greater_1 17 rfl rfl)
theorem dX8_greater_44 : decode cX8_greater 44 = .ok (.iconst 1, 1) := dk_4 (dk_at dksX8_greater_1 20 rfl rfl)
theorem dX8_greater_45 : decode cX8_greater 45 = .ok (.isub, 1) := dk_100 (dk_at dksX8_greater_1 21 rfl rfl)
theorem dX8_greater_46 : decode cX8_greater 46 = .ok (.iload_n 3, 1) := dk_29 (dk_at dksX8_greater_1 22 rfl rfl)
theorem dX8_greater_47 : decode cX8_greater 47 = .ok (.isub, 1) := dk_100 (dk_at dksX8_greater_1 23 rfl rfl)
theorem dX8_greater_48 : decode cX8_greater 48 = .ok (.isub, 1) := dk_100 (dk_at dksX8_greater_2 0 rfl rfl)
theorem dX8_greater_49 : decode cX8_greater 49 = .ok (.istore_n 2, 1) := dk_61 (dk_at dksX8_greater_2 1 rfl rfl)
theorem dX8_greater_50 : decode cX8_greater 50 = .ok (.iinc 3 1, 3) := dk_132 3 1 (dk_at dksX8_greater_2 2 rfl rfl)
theorem dX8_greater_53 : decode cX8_greater 53 = .ok (.goto (-49), 3) := dk_167 255 207 (dk_at dksX8_greater_2 5 rfl rfl)
theorem dX8_greater_56 : decode cX8_greater 56 = .ok (.iconst (-1), 1) := dk_2 (dk_at dksX8_greater_2 8 rfl rfl)
theorem dX8_greater_57 : decode cX8_greater 57 = .ok (.ireturn, 1) := dk_172 (dk_at dksX8_greater_2 9 rfl rfl)
abbrev cX8_isIn : ByteArray := prog_20_method_93_code
def yX8_isIn : MethodName := ⟨RX8, "isIn", "(II)Z"⟩
def dkwX8_isIn_0 : List UInt8 := [42, 27, 182, 2, 2, 28, 159, 0, 12, 42, 27, 182, 2, 5, 28, 160, 0, 7, 4, 167, 0, 4, 3, 172]
abbrev dktX8_isIn_0 : List UInt8 := dkwX8_isIn_0 ++ []
theorem dksX8_isIn_0 : cX8_isIn.data.toList.drop 0 = dktX8_isIn_0 := by decide +kernel
theorem dX8_isIn_0 : decode cX8_isIn 0 = .ok (.aload_n 0, 1) := dk_42 (dk_at dksX8_isIn_0 0 rfl rfl)
theorem dX8_isIn_1 : decode cX8_isIn 1 = .ok (.iload_n 1, 1) := dk_27 (dk_at dksX8_isIn_0 1 rfl rfl)
theorem dX8_isIn_2 : decode cX8_isIn 2 = .ok (.invokevirtual 514, 3) := dk_182 2 2 (dk_at dksX8_isIn_0 2 rfl rfl)
theorem dX8_isIn_5 : decode cX8_isIn 5 = .ok (.iload_n 2, 1) := dk_28 (dk_at dksX8_isIn_0 5 rfl rfl)
theorem dX8_isIn_6 : decode cX8_isIn 6 = .ok (.if_icmp .eq 12, 3) := dk_159 0 12 (dk_at dksX8_isIn_0 6 rfl rfl)
theorem dX8_isIn_9 : decode cX8_isIn 9 = .ok (.aload_n 0, 1) := dk_42 (dk_at dksX8_isIn_0 9 rfl rfl)
theorem dX8_isIn_10 : decode cX8_isIn 10 = .ok (.iload_n 1, 1) := dk_27 (dk_at dksX8_isIn_0 10 rfl rfl)
theorem dX8_isIn_11 : decode cX8_isIn 11 = .ok (.invokevirtual 517, 3) := dk_182 2 5 (dk_at dksX8_isIn_0 11 rfl rfl)
theorem dX8_isIn_14 : decode cX8_isIn 14 = .ok (.iload_n 2, 1) := dk_28 (dk_at dksX8_isIn_0 14 rfl rfl)
theorem dX8_isIn_15 : decode cX8_isIn 15 = .ok (.if_icmp .ne 7, 3) := dk_160 0 7 (dk_at dksX8_isIn_0 15 rfl rfl)
theorem dX8_isIn_18 : decode cX8_isIn 18 = .ok (.iconst 1, 1) := dk_4 (dk_at dksX8_isIn_0 18 rfl rfl)
theorem dX8_isIn_19 : decode cX8_isIn 19 = .ok (.goto 4, 3) := dk_167 0 4 (dk_at dksX8_isIn_0 19 rfl rfl)
theorem dX8_isIn_22 : decode cX8_isIn 22 = .ok (.iconst 0, 1) := dk_3 (dk_at dksX8_isIn_0 22 rfl rfl)
theorem dX8_isIn_23 : decode cX8_isIn 23 = .ok (.ireturn, 1) := dk_172 (dk_at dksX8_isIn_0 23 rfl rfl)
abbrev cX8_isLow : ByteArray := prog_20_method_95_code
def yX8_isLow : MethodName := ⟨RX8, "isLow", "(I)Z"⟩
def dkwX8_isLow_2 : List UInt8 := [132, 3, 1, 167, 255, 230, 4, 172]
abbrev dktX8_isLow_2 : List UInt8 := dkwX8_isLow_2 ++ []
def dkwX8_isLow_1 : List UInt8 := [29, 42, 180, 1, 117, 180, 0, 213, 162, 0, 21, 42, 180, 0, 47, 29, 46, 28, 164, 0, 5, 3, 172]
abbrev dktX8_isLow_1 : List UInt8 := dkwX8_isLow_1 ++ dktX8_isLow_2
def dkwX8_isLow_0 : List UInt8 := [5, 27, 104, 42, 180, 1, 117, 180, 0, 213, 96, 4, 100, 42, 180, 1, 117, 180, 0, 213, 108, 61, 3, 62]
abbrev dktX8_isLow_0 : List UInt8 := dkwX8_isLow_0 ++ dktX8_isLow_1
theorem dksX8_isLow_0 : cX8_isLow.data.toList.drop 0 = dktX8_isLow_0 := by decide +kernel
theorem dksX8_isLow_1 : cX8_isLow.data.toList.drop 24 = dktX8_isLow_1 := dk_seg dksX8_isLow_0 24 rfl rfl
theorem dksX8_isLow_2 : cX8_isLow.data.toList.drop 47 = dktX8_isLow_2 := dk_seg dksX8_isLow_1 23 rfl rfl
theorem dX8_isLow_0 : decode cX8_isLow 0 = .ok (.iconst 2, 1) := dk_5 (dk_at dksX8_isLow_0 0 rfl rfl)
theorem dX8_isLow_1 : decode cX8_isLow 1 = .ok (.iload_n 1, 1) := dk_27 (dk_at dksX8_isLow_0 1 rfl rfl)
theorem dX8_isLow_2 : decode cX8_isLow 2 = .ok (.imul, 1) := dk_104 (dk_at dksX8_isLow_0 2 rfl rfl)
theorem dX8_isLow_3 : decode cX8_isLow 3 = .ok (.aload_n 0, 1) := dk_42 (dk_at dksX8_isLow_0 3 rfl rfl)
theorem dX8_isLow_4 : decode cX8_isLow 4 = .ok (.getfield 373, 3) := dk_180 1 117 (dk_at dksX8_isLow_0 4 rfl rfl)
theorem dX8_isLow_7 : decode cX8_isLow 7 = .ok (.getfield 213, 3) := dk_180 0 213 (dk_at dksX8_isLow_0 7 rfl rfl)
theorem dX8_isLow_10 : decode cX8_isLow 10 = .ok (.iadd, 1) := dk_96 (dk_at dksX8_isLow_0 10 rfl rfl)
theorem dX8_isLow_11 : decode cX8_isLow 11 = .ok (.iconst 1, 1) := dk_4 (dk_at dksX8_isLow_0 11 rfl rfl)
theorem dX8_isLow_12 : decode cX8_isLow 12 = .ok (.isub, 1) := dk_100 (dk_at dksX8_isLow_0 12 rfl rfl)
theorem dX8_isLow_13 : decode cX8_isLow 13 = .ok (.aload_n 0, 1) := dk_42 (dk_at dksX8_isLow_0 13 rfl rfl)
theorem dX8_isLow_14 : decode cX8_isLow 14 = .ok (.getfield 373, 3) := dk_180 1 117 (dk_at dksX8_isLow_0 14 rfl rfl)
theorem dX8_isLow_17 : decode cX8_isLow 17 = .ok (.getfield 213, 3) := dk_180 0 213 (dk_at dksX8_isLow_0 17 rfl rfl)
theorem dX8_isLow_20 : decode cX8_isLow 20 = .ok (.idiv, 1) := dk_108 (dk_at dksX8_isLow_0 20 rfl rfl)
theorem dX8_isLow_21 : decode cX8_isLow 21 = .ok (.istore_n 2, 1) := dk_61 (dk_at dksX8_isLow_0 21 rfl rfl)
theorem dX8_isLow_22 : decode cX8_isLow 22 = .ok (.iconst 0, 1) := dk_3 (dk_at dksX8_isLow_0 22 rfl rfl)
theorem dX8_isLow_23 : decode cX8_isLow 23 = .ok (.istore_n 3, 1) := dk_62 (dk_at dksX8_isLow_0 23 rfl rfl)
theorem dX8_isLow_24 : decode cX8_isLow 24 = .ok (.iload_n 3, 1) := dk_29 (dk_at dksX8_isLow_1 0 rfl rfl)
theorem dX8_isLow_25 : decode cX8_isLow 25 = .ok (.aload_n 0, 1) := dk_42 (dk_at dksX8_isLow_1 1 rfl rfl)
theorem dX8_isLow_26 : decode cX8_isLow 26 = .ok (.getfield 373, 3) := dk_180 1 117 (dk_at dksX8_isLow_1 2 rfl rfl)
theorem dX8_isLow_29 : decode cX8_isLow 29 = .ok (.getfield 213, 3) := dk_180 0 213 (dk_at dksX8_isLow_1 5 rfl rfl)
theorem dX8_isLow_32 : decode cX8_isLow 32 = .ok (.if_icmp .ge 21, 3) := dk_162 0 21 (dk_at dksX8_isLow_1 8 rfl rfl)
theorem dX8_isLow_35 : decode cX8_isLow 35 = .ok (.aload_n 0, 1) := dk_42 (dk_at dksX8_isLow_1 11 rfl rfl)
theorem dX8_isLow_36 : decode cX8_isLow 36 = .ok (.getfield 47, 3) := dk_180 0 47 (dk_at dksX8_isLow_1 12 rfl rfl)
theorem dX8_isLow_39 : decode cX8_isLow 39 = .ok (.iload_n 3, 1) := dk_29 (dk_at dksX8_isLow_1 15 rfl rfl)
theorem dX8_isLow_40 : decode cX8_isLow 40 = .ok (.iaload, 1) := dk_46 (dk_at dksX8_isLow_1 16 rfl rfl)
theorem dX8_isLow_41 : decode cX8_isLow 41 = .ok (.iload_n 2, 1) := dk_28 (dk_at dksX8_isLow_1 17 rfl rfl)
theorem dX8_isLow_42 : decode cX8_isLow 42 = .ok (.if_icmp .le 5, 3) := dk_164 0 5 (dk_at dksX8_isLow_1 18 rfl rfl)
theorem dX8_isLow_45 : decode cX8_isLow 45 = .ok (.iconst 0, 1) := dk_3 (dk_at dksX8_isLow_1 21 rfl rfl)
theorem dX8_isLow_46 : decode cX8_isLow 46 = .ok (.ireturn, 1) := dk_172 (dk_at dksX8_isLow_1 22 rfl rfl)
theorem dX8_isLow_47 : decode cX8_isLow 47 = .ok (.iinc 3 1, 3) := dk_132 3 1 (dk_at dksX8_isLow_2 0 rfl rfl)
theorem dX8_isLow_50 : decode cX8_isLow 50 = .ok (.goto (-26), 3) := dk_167 255 230 (dk_at dksX8_isLow_2 3 rfl rfl)
theorem dX8_isLow_53 : decode cX8_isLow 53 = .ok (.iconst 1, 1) := dk_4 (dk_at dksX8_isLow_2 6 rfl rfl)
theorem dX8_isLow_54 : decode cX8_isLow 54 = .ok (.ireturn, 1) := dk_172 (dk_at dksX8_isLow_2 7 rfl rfl)
abbrev cX8_turnAt : ByteArray := prog_20_method_100_code
def yX8_turnAt : MethodName := ⟨RX8, "turnAt", "(II)I"⟩
def dkwX8_turnAt_3 : List UInt8 := [182, 0, 63, 167, 0, 9, 42, 16, 6, 182, 0, 59, 172]
abbrev dktX8_turnAt_3 : List UInt8 := dkwX8_turnAt_3 ++ []
def dkwX8_turnAt_2 : List UInt8 := [16, 10, 42, 42, 180, 0, 44, 28, 46, 182, 2, 2, 104, 42, 42, 180, 0, 44, 28, 46, 182, 2, 5, 96]
abbrev dktX8_turnAt_2 : List UInt8 := dkwX8_turnAt_2 ++ dktX8_turnAt_3
def dkwX8_turnAt_1 : List UInt8 := [155, 0, 8, 28, 27, 161, 0, 9, 42, 4, 182, 0, 59, 172, 42, 27, 182, 2, 23, 153, 0, 34, 42]
abbrev dktX8_turnAt_1 : List UInt8 := dkwX8_turnAt_1 ++ dktX8_turnAt_2
def dkwX8_turnAt_0 : List UInt8 := [42, 3, 181, 0, 53, 42, 27, 182, 2, 20, 62, 29, 158, 0, 9, 42, 29, 182, 0, 59, 172, 28]
abbrev dktX8_turnAt_0 : List UInt8 := dkwX8_turnAt_0 ++ dktX8_turnAt_1
theorem dksX8_turnAt_0 : cX8_turnAt.data.toList.drop 0 = dktX8_turnAt_0 := by decide +kernel
theorem dksX8_turnAt_1 : cX8_turnAt.data.toList.drop 22 = dktX8_turnAt_1 := dk_seg dksX8_turnAt_0 22 rfl rfl
theorem dksX8_turnAt_2 : cX8_turnAt.data.toList.drop 45 = dktX8_turnAt_2 := dk_seg dksX8_turnAt_1 23 rfl rfl
theorem dksX8_turnAt_3 : cX8_turnAt.data.toList.drop 69 = dktX8_turnAt_3 := dk_seg dksX8_turnAt_2 24 rfl rfl
theorem dX8_turnAt_0 : decode cX8_turnAt 0 = .ok (.aload_n 0, 1) := dk_42 (dk_at dksX8_turnAt_0 0 rfl rfl)
theorem dX8_turnAt_1 : decode cX8_turnAt 1 = .ok (.iconst 0, 1) := dk_3 (dk_at dksX8_turnAt_0 1 rfl rfl)
theorem dX8_turnAt_2 : decode cX8_turnAt 2 = .ok (.putfield 53, 3) := dk_181 0 53 (dk_at dksX8_turnAt_0 2 rfl rfl)
theorem dX8_turnAt_5 : decode cX8_turnAt 5 = .ok (.aload_n 0, 1) := dk_42 (dk_at dksX8_turnAt_0 5 rfl rfl)
theorem dX8_turnAt_6 : decode cX8_turnAt 6 = .ok (.iload_n 1, 1) := dk_27 (dk_at dksX8_turnAt_0 6 rfl rfl)
theorem dX8_turnAt_7 : decode cX8_turnAt 7 = .ok (.invokevirtual 532, 3) := dk_182 2 20 (dk_at dksX8_turnAt_0 7 rfl rfl)
theorem dX8_turnAt_10 : decode cX8_turnAt 10 = .ok (.istore_n 3, 1) := dk_62 (dk_at dksX8_turnAt_0 10 rfl rfl)
theorem dX8_turnAt_11 : decode cX8_turnAt 11 = .ok (.iload_n 3, 1) := dk_29 (dk_at dksX8_turnAt_0 11 rfl rfl)
theorem dX8_turnAt_12 : decode cX8_turnAt 12 = .ok (.ifCond .le 9, 3) := dk_158 0 9 (dk_at dksX8_turnAt_0 12 rfl rfl)
theorem dX8_turnAt_15 : decode cX8_turnAt 15 = .ok (.aload_n 0, 1) := dk_42 (dk_at dksX8_turnAt_0 15 rfl rfl)
theorem dX8_turnAt_16 : decode cX8_turnAt 16 = .ok (.iload_n 3, 1) := dk_29 (dk_at dksX8_turnAt_0 16 rfl rfl)
theorem dX8_turnAt_17 : decode cX8_turnAt 17 = .ok (.invokevirtual 59, 3) := dk_182 0 59 (dk_at dksX8_turnAt_0 17 rfl rfl)
theorem dX8_turnAt_20 : decode cX8_turnAt 20 = .ok (.ireturn, 1) := dk_172 (dk_at dksX8_turnAt_0 20 rfl rfl)
theorem dX8_turnAt_21 : decode cX8_turnAt 21 = .ok (.iload_n 2, 1) := dk_28 (dk_at dksX8_turnAt_0 21 rfl rfl)
theorem dX8_turnAt_22 : decode cX8_turnAt 22 = .ok (.ifCond .lt 8, 3) := dk_155 0 8 (dk_at dksX8_turnAt_1 0 rfl rfl)
theorem dX8_turnAt_25 : decode cX8_turnAt 25 = .ok (.iload_n 2, 1) := dk_28 (dk_at dksX8_turnAt_1 3 rfl rfl)
theorem dX8_turnAt_26 : decode cX8_turnAt 26 = .ok (.iload_n 1, 1) := dk_27 (dk_at dksX8_turnAt_1 4 rfl rfl)
theorem dX8_turnAt_27 : decode cX8_turnAt 27 = .ok (.if_icmp .lt 9, 3) := dk_161 0 9 (dk_at dksX8_turnAt_1 5 rfl rfl)
theorem dX8_turnAt_30 : decode cX8_turnAt 30 = .ok (.aload_n 0, 1) := dk_42 (dk_at dksX8_turnAt_1 8 rfl rfl)
theorem dX8_turnAt_31 : decode cX8_turnAt 31 = .ok (.iconst 1, 1) := dk_4 (dk_at dksX8_turnAt_1 9 rfl rfl)
theorem dX8_turnAt_32 : decode cX8_turnAt 32 = .ok (.invokevirtual 59, 3) := dk_182 0 59 (dk_at dksX8_turnAt_1 10 rfl rfl)
theorem dX8_turnAt_35 : decode cX8_turnAt 35 = .ok (.ireturn, 1) := dk_172 (dk_at dksX8_turnAt_1 13 rfl rfl)
theorem dX8_turnAt_36 : decode cX8_turnAt 36 = .ok (.aload_n 0, 1) := dk_42 (dk_at dksX8_turnAt_1 14 rfl rfl)
theorem dX8_turnAt_37 : decode cX8_turnAt 37 = .ok (.iload_n 1, 1) := dk_27 (dk_at dksX8_turnAt_1 15 rfl rfl)
theorem dX8_turnAt_38 : decode cX8_turnAt 38 = .ok (.invokevirtual 535, 3) := dk_182 2 23 (dk_at dksX8_turnAt_1 16 rfl rfl)
theorem dX8_turnAt_41 : decode cX8_turnAt 41 = .ok (.ifCond .eq 34, 3) := dk_153 0 34 (dk_at dksX8_turnAt_1 19 rfl rfl)
theorem dX8_turnAt_44 : decode cX8_turnAt 44 = .ok (.aload_n 0, 1) := dk_42 (dk_at dksX8_turnAt_1 22 rfl rfl)
theorem dX8_turnAt_45 : decode cX8_turnAt 45 = .ok (.bipush 10, 2) := dk_16 10 (dk_at dksX8_turnAt_2 0 rfl rfl)
theorem dX8_turnAt_47 : decode cX8_turnAt 47 = .ok (.aload_n 0, 1) := dk_42 (dk_at dksX8_turnAt_2 2 rfl rfl)
theorem dX8_turnAt_48 : decode cX8_turnAt 48 = .ok (.aload_n 0, 1) := dk_42 (dk_at dksX8_turnAt_2 3 rfl rfl)
theorem dX8_turnAt_49 : decode cX8_turnAt 49 = .ok (.getfield 44, 3) := dk_180 0 44 (dk_at dksX8_turnAt_2 4 rfl rfl)
theorem dX8_turnAt_52 : decode cX8_turnAt 52 = .ok (.iload_n 2, 1) := dk_28 (dk_at dksX8_turnAt_2 7 rfl rfl)
theorem dX8_turnAt_53 : decode cX8_turnAt 53 = .ok (.iaload, 1) := dk_46 (dk_at dksX8_turnAt_2 8 rfl rfl)
theorem dX8_turnAt_54 : decode cX8_turnAt 54 = .ok (.invokevirtual 514, 3) := dk_182 2 2 (dk_at dksX8_turnAt_2 9 rfl rfl)
theorem dX8_turnAt_57 : decode cX8_turnAt 57 = .ok (.imul, 1) := dk_104 (dk_at dksX8_turnAt_2 12 rfl rfl)
theorem dX8_turnAt_58 : decode cX8_turnAt 58 = .ok (.aload_n 0, 1) := dk_42 (dk_at dksX8_turnAt_2 13 rfl rfl)
theorem dX8_turnAt_59 : decode cX8_turnAt 59 = .ok (.aload_n 0, 1) := dk_42 (dk_at dksX8_turnAt_2 14 rfl rfl)
theorem dX8_turnAt_60 : decode cX8_turnAt 60 = .ok (.getfield 44, 3) := dk_180 0 44 (dk_at dksX8_turnAt_2 15 rfl rfl)
theorem dX8_turnAt_63 : decode cX8_turnAt 63 = .ok (.iload_n 2, 1) := dk_28 (dk_at dksX8_turnAt_2 18 rfl rfl)
theorem dX8_turnAt_64 : decode cX8_turnAt 64 = .ok (.iaload, 1) := dk_46 (dk_at dksX8_turnAt_2 19 rfl rfl)
theorem dX8_turnAt_65 : decode cX8_turnAt 65 = .ok (.invokevirtual 517, 3) := dk_182 2 5 (dk_at dksX8_turnAt_2 20 rfl rfl)
theorem dX8_turnAt_68 : decode cX8_turnAt 68 = .ok (.iadd, 1) := dk_96 (dk_at dksX8_turnAt_2 23 rfl rfl)
theorem dX8_turnAt_69 : decode cX8_turnAt 69 = .ok (.invokevirtual 63, 3) := dk_182 0 63 (dk_at dksX8_turnAt_3 0 rfl rfl)
theorem dX8_turnAt_72 : decode cX8_turnAt 72 = .ok (.goto 9, 3) := dk_167 0 9 (dk_at dksX8_turnAt_3 3 rfl rfl)
theorem dX8_turnAt_75 : decode cX8_turnAt 75 = .ok (.aload_n 0, 1) := dk_42 (dk_at dksX8_turnAt_3 6 rfl rfl)
theorem dX8_turnAt_76 : decode cX8_turnAt 76 = .ok (.bipush 6, 2) := dk_16 6 (dk_at dksX8_turnAt_3 7 rfl rfl)
theorem dX8_turnAt_78 : decode cX8_turnAt 78 = .ok (.invokevirtual 59, 3) := dk_182 0 59 (dk_at dksX8_turnAt_3 9 rfl rfl)
theorem dX8_turnAt_81 : decode cX8_turnAt 81 = .ok (.ireturn, 1) := dk_172 (dk_at dksX8_turnAt_3 12 rfl rfl)
abbrev cX8_hand : ByteArray := prog_20_method_102_code
def yX8_hand : MethodName := ⟨RX8, "hand", "(IZ)J"⟩
def dkwX8_hand_1 : List UInt8 := [182, 1, 196, 42, 27, 182, 1, 193, 184, 2, 26, 10, 42, 27, 182, 1, 196, 121, 28, 182, 1, 210, 173]
abbrev dktX8_hand_1 : List UInt8 := dkwX8_hand_1 ++ []
def dkwX8_hand_0 : List UInt8 := [42, 3, 181, 0, 53, 42, 27, 182, 1, 185, 154, 0, 10, 42, 4, 182, 0, 59, 133, 173, 42, 42, 27]
abbrev dktX8_hand_0 : List UInt8 := dkwX8_hand_0 ++ dktX8_hand_1
theorem dksX8_hand_0 : cX8_hand.data.toList.drop 0 = dktX8_hand_0 := by decide +kernel
theorem dksX8_hand_1 : cX8_hand.data.toList.drop 23 = dktX8_hand_1 := dk_seg dksX8_hand_0 23 rfl rfl
theorem dX8_hand_0 : decode cX8_hand 0 = .ok (.aload_n 0, 1) := dk_42 (dk_at dksX8_hand_0 0 rfl rfl)
theorem dX8_hand_1 : decode cX8_hand 1 = .ok (.iconst 0, 1) := dk_3 (dk_at dksX8_hand_0 1 rfl rfl)
theorem dX8_hand_2 : decode cX8_hand 2 = .ok (.putfield 53, 3) := dk_181 0 53 (dk_at dksX8_hand_0 2 rfl rfl)
theorem dX8_hand_5 : decode cX8_hand 5 = .ok (.aload_n 0, 1) := dk_42 (dk_at dksX8_hand_0 5 rfl rfl)
theorem dX8_hand_6 : decode cX8_hand 6 = .ok (.iload_n 1, 1) := dk_27 (dk_at dksX8_hand_0 6 rfl rfl)
theorem dX8_hand_7 : decode cX8_hand 7 = .ok (.invokevirtual 441, 3) := dk_182 1 185 (dk_at dksX8_hand_0 7 rfl rfl)
theorem dX8_hand_10 : decode cX8_hand 10 = .ok (.ifCond .ne 10, 3) := dk_154 0 10 (dk_at dksX8_hand_0 10 rfl rfl)
theorem dX8_hand_13 : decode cX8_hand 13 = .ok (.aload_n 0, 1) := dk_42 (dk_at dksX8_hand_0 13 rfl rfl)
theorem dX8_hand_14 : decode cX8_hand 14 = .ok (.iconst 1, 1) := dk_4 (dk_at dksX8_hand_0 14 rfl rfl)
theorem dX8_hand_15 : decode cX8_hand 15 = .ok (.invokevirtual 59, 3) := dk_182 0 59 (dk_at dksX8_hand_0 15 rfl rfl)
theorem dX8_hand_18 : decode cX8_hand 18 = .ok (.i2l, 1) := dk_133 (dk_at dksX8_hand_0 18 rfl rfl)
theorem dX8_hand_19 : decode cX8_hand 19 = .ok (.lreturn, 1) := dk_173 (dk_at dksX8_hand_0 19 rfl rfl)
theorem dX8_hand_20 : decode cX8_hand 20 = .ok (.aload_n 0, 1) := dk_42 (dk_at dksX8_hand_0 20 rfl rfl)
theorem dX8_hand_21 : decode cX8_hand 21 = .ok (.aload_n 0, 1) := dk_42 (dk_at dksX8_hand_0 21 rfl rfl)
theorem dX8_hand_22 : decode cX8_hand 22 = .ok (.iload_n 1, 1) := dk_27 (dk_at dksX8_hand_0 22 rfl rfl)
theorem dX8_hand_23 : decode cX8_hand 23 = .ok (.invokevirtual 452, 3) := dk_182 1 196 (dk_at dksX8_hand_1 0 rfl rfl)
theorem dX8_hand_26 : decode cX8_hand 26 = .ok (.aload_n 0, 1) := dk_42 (dk_at dksX8_hand_1 3 rfl rfl)
theorem dX8_hand_27 : decode cX8_hand 27 = .ok (.iload_n 1, 1) := dk_27 (dk_at dksX8_hand_1 4 rfl rfl)
theorem dX8_hand_28 : decode cX8_hand 28 = .ok (.invokevirtual 449, 3) := dk_182 1 193 (dk_at dksX8_hand_1 5 rfl rfl)
theorem dX8_hand_31 : decode cX8_hand 31 = .ok (.invokestatic 538, 3) := dk_184 2 26 (dk_at dksX8_hand_1 8 rfl rfl)
theorem dX8_hand_34 : decode cX8_hand 34 = .ok (.lconst 1, 1) := dk_10 (dk_at dksX8_hand_1 11 rfl rfl)
theorem dX8_hand_35 : decode cX8_hand 35 = .ok (.aload_n 0, 1) := dk_42 (dk_at dksX8_hand_1 12 rfl rfl)
theorem dX8_hand_36 : decode cX8_hand 36 = .ok (.iload_n 1, 1) := dk_27 (dk_at dksX8_hand_1 13 rfl rfl)
theorem dX8_hand_37 : decode cX8_hand 37 = .ok (.invokevirtual 452, 3) := dk_182 1 196 (dk_at dksX8_hand_1 14 rfl rfl)
theorem dX8_hand_40 : decode cX8_hand 40 = .ok (.lshl, 1) := dk_121 (dk_at dksX8_hand_1 17 rfl rfl)
theorem dX8_hand_41 : decode cX8_hand 41 = .ok (.iload_n 2, 1) := dk_28 (dk_at dksX8_hand_1 18 rfl rfl)
theorem dX8_hand_42 : decode cX8_hand 42 = .ok (.invokevirtual 466, 3) := dk_182 1 210 (dk_at dksX8_hand_1 19 rfl rfl)
theorem dX8_hand_45 : decode cX8_hand 45 = .ok (.lreturn, 1) := dk_173 (dk_at dksX8_hand_1 22 rfl rfl)
abbrev cX8_rowsOf : ByteArray := prog_20_method_101_code
def yX8_rowsOf : MethodName := ⟨RX8, "rowsOf", "(II)J"⟩
def dkwX8_rowsOf_2 : List UInt8 := [173]
abbrev dktX8_rowsOf_2 : List UInt8 := dkwX8_rowsOf_2 ++ []
def dkwX8_rowsOf_1 : List UInt8 := [65, 22, 4, 26, 21, 6, 100, 133, 105, 21, 6, 4, 96, 133, 109, 55, 4, 132, 6, 1, 167, 255, 220, 32]
abbrev dktX8_rowsOf_1 : List UInt8 := dkwX8_rowsOf_1 ++ dktX8_rowsOf_2
def dkwX8_rowsOf_0 : List UInt8 := [9, 65, 10, 55, 4, 3, 54, 6, 21, 6, 26, 163, 0, 36, 21, 6, 27, 161, 0, 8, 32, 22, 4, 97]
abbrev dktX8_rowsOf_0 : List UInt8 := dkwX8_rowsOf_0 ++ dktX8_rowsOf_1
theorem dksX8_rowsOf_0 : cX8_rowsOf.data.toList.drop 0 = dktX8_rowsOf_0 := by decide +kernel
theorem dksX8_rowsOf_1 : cX8_rowsOf.data.toList.drop 24 = dktX8_rowsOf_1 := dk_seg dksX8_rowsOf_0 24 rfl rfl
theorem dksX8_rowsOf_2 : cX8_rowsOf.data.toList.drop 48 = dktX8_rowsOf_2 := dk_seg dksX8_rowsOf_1 24 rfl rfl
theorem dX8_rowsOf_0 : decode cX8_rowsOf 0 = .ok (.lconst 0, 1) := dk_9 (dk_at dksX8_rowsOf_0 0 rfl rfl)
theorem dX8_rowsOf_1 : decode cX8_rowsOf 1 = .ok (.lstore_n 2, 1) := dk_65 (dk_at dksX8_rowsOf_0 1 rfl rfl)
theorem dX8_rowsOf_2 : decode cX8_rowsOf 2 = .ok (.lconst 1, 1) := dk_10 (dk_at dksX8_rowsOf_0 2 rfl rfl)
theorem dX8_rowsOf_3 : decode cX8_rowsOf 3 = .ok (.lstore 4, 2) := dk_55 4 (dk_at dksX8_rowsOf_0 3 rfl rfl)
theorem dX8_rowsOf_5 : decode cX8_rowsOf 5 = .ok (.iconst 0, 1) := dk_3 (dk_at dksX8_rowsOf_0 5 rfl rfl)
theorem dX8_rowsOf_6 : decode cX8_rowsOf 6 = .ok (.istore 6, 2) := dk_54 6 (dk_at dksX8_rowsOf_0 6 rfl rfl)
theorem dX8_rowsOf_8 : decode cX8_rowsOf 8 = .ok (.iload 6, 2) := dk_21 6 (dk_at dksX8_rowsOf_0 8 rfl rfl)
theorem dX8_rowsOf_10 : decode cX8_rowsOf 10 = .ok (.iload_n 0, 1) := dk_26 (dk_at dksX8_rowsOf_0 10 rfl rfl)
theorem dX8_rowsOf_11 : decode cX8_rowsOf 11 = .ok (.if_icmp .gt 36, 3) := dk_163 0 36 (dk_at dksX8_rowsOf_0 11 rfl rfl)
theorem dX8_rowsOf_14 : decode cX8_rowsOf 14 = .ok (.iload 6, 2) := dk_21 6 (dk_at dksX8_rowsOf_0 14 rfl rfl)
theorem dX8_rowsOf_16 : decode cX8_rowsOf 16 = .ok (.iload_n 1, 1) := dk_27 (dk_at dksX8_rowsOf_0 16 rfl rfl)
theorem dX8_rowsOf_17 : decode cX8_rowsOf 17 = .ok (.if_icmp .lt 8, 3) := dk_161 0 8 (dk_at dksX8_rowsOf_0 17 rfl rfl)
theorem dX8_rowsOf_20 : decode cX8_rowsOf 20 = .ok (.lload_n 2, 1) := dk_32 (dk_at dksX8_rowsOf_0 20 rfl rfl)
theorem dX8_rowsOf_21 : decode cX8_rowsOf 21 = .ok (.lload 4, 2) := dk_22 4 (dk_at dksX8_rowsOf_0 21 rfl rfl)
theorem dX8_rowsOf_23 : decode cX8_rowsOf 23 = .ok (.ladd, 1) := dk_97 (dk_at dksX8_rowsOf_0 23 rfl rfl)
theorem dX8_rowsOf_24 : decode cX8_rowsOf 24 = .ok (.lstore_n 2, 1) := dk_65 (dk_at dksX8_rowsOf_1 0 rfl rfl)
theorem dX8_rowsOf_25 : decode cX8_rowsOf 25 = .ok (.lload 4, 2) := dk_22 4 (dk_at dksX8_rowsOf_1 1 rfl rfl)
theorem dX8_rowsOf_27 : decode cX8_rowsOf 27 = .ok (.iload_n 0, 1) := dk_26 (dk_at dksX8_rowsOf_1 3 rfl rfl)
theorem dX8_rowsOf_28 : decode cX8_rowsOf 28 = .ok (.iload 6, 2) := dk_21 6 (dk_at dksX8_rowsOf_1 4 rfl rfl)
theorem dX8_rowsOf_30 : decode cX8_rowsOf 30 = .ok (.isub, 1) := dk_100 (dk_at dksX8_rowsOf_1 6 rfl rfl)
theorem dX8_rowsOf_31 : decode cX8_rowsOf 31 = .ok (.i2l, 1) := dk_133 (dk_at dksX8_rowsOf_1 7 rfl rfl)
theorem dX8_rowsOf_32 : decode cX8_rowsOf 32 = .ok (.lmul, 1) := dk_105 (dk_at dksX8_rowsOf_1 8 rfl rfl)
theorem dX8_rowsOf_33 : decode cX8_rowsOf 33 = .ok (.iload 6, 2) := dk_21 6 (dk_at dksX8_rowsOf_1 9 rfl rfl)
theorem dX8_rowsOf_35 : decode cX8_rowsOf 35 = .ok (.iconst 1, 1) := dk_4 (dk_at dksX8_rowsOf_1 11 rfl rfl)
theorem dX8_rowsOf_36 : decode cX8_rowsOf 36 = .ok (.iadd, 1) := dk_96 (dk_at dksX8_rowsOf_1 12 rfl rfl)
theorem dX8_rowsOf_37 : decode cX8_rowsOf 37 = .ok (.i2l, 1) := dk_133 (dk_at dksX8_rowsOf_1 13 rfl rfl)
theorem dX8_rowsOf_38 : decode cX8_rowsOf 38 = .ok (.ldiv, 1) := dk_109 (dk_at dksX8_rowsOf_1 14 rfl rfl)
theorem dX8_rowsOf_39 : decode cX8_rowsOf 39 = .ok (.lstore 4, 2) := dk_55 4 (dk_at dksX8_rowsOf_1 15 rfl rfl)
theorem dX8_rowsOf_41 : decode cX8_rowsOf 41 = .ok (.iinc 6 1, 3) := dk_132 6 1 (dk_at dksX8_rowsOf_1 17 rfl rfl)
theorem dX8_rowsOf_44 : decode cX8_rowsOf 44 = .ok (.goto (-36), 3) := dk_167 255 220 (dk_at dksX8_rowsOf_1 20 rfl rfl)
theorem dX8_rowsOf_47 : decode cX8_rowsOf 47 = .ok (.lload_n 2, 1) := dk_32 (dk_at dksX8_rowsOf_1 23 rfl rfl)
theorem dX8_rowsOf_48 : decode cX8_rowsOf 48 = .ok (.lreturn, 1) := dk_173 (dk_at dksX8_rowsOf_2 0 rfl rfl)
abbrev cX8_side : ByteArray := prog_20_method_103_code
def yX8_side : MethodName := ⟨RX8, "side", "(Z)J"⟩
def dkwX8_side_3 : List UInt8 := [10, 42, 180, 1, 117, 180, 1, 78, 121, 27, 182, 1, 210, 173]
abbrev dktX8_side_3 : List UInt8 := dkwX8_side_3 ++ []
def dkwX8_side_2 : List UInt8 := [167, 0, 4, 3, 96, 61, 132, 3, 1, 167, 255, 222, 42, 42, 180, 1, 117, 180, 1, 78, 28, 184, 2, 26]
abbrev dktX8_side_2 : List UInt8 := dkwX8_side_2 ++ dktX8_side_3
def dkwX8_side_1 : List UInt8 := [42, 180, 1, 117, 180, 1, 78, 162, 0, 29, 28, 42, 180, 1, 117, 180, 1, 90, 29, 46, 154, 0, 7, 4]
abbrev dktX8_side_1 : List UInt8 := dkwX8_side_1 ++ dktX8_side_2
def dkwX8_side_0 : List UInt8 := [42, 3, 181, 0, 53, 42, 180, 1, 117, 199, 0, 10, 42, 4, 182, 0, 59, 133, 173, 3, 61, 3, 62, 29]
abbrev dktX8_side_0 : List UInt8 := dkwX8_side_0 ++ dktX8_side_1
theorem dksX8_side_0 : cX8_side.data.toList.drop 0 = dktX8_side_0 := by decide +kernel
theorem dksX8_side_1 : cX8_side.data.toList.drop 24 = dktX8_side_1 := dk_seg dksX8_side_0 24 rfl rfl
theorem dksX8_side_2 : cX8_side.data.toList.drop 48 = dktX8_side_2 := dk_seg dksX8_side_1 24 rfl rfl
theorem dksX8_side_3 : cX8_side.data.toList.drop 72 = dktX8_side_3 := dk_seg dksX8_side_2 24 rfl rfl
theorem dX8_side_0 : decode cX8_side 0 = .ok (.aload_n 0, 1) := dk_42 (dk_at dksX8_side_0 0 rfl rfl)
theorem dX8_side_1 : decode cX8_side 1 = .ok (.iconst 0, 1) := dk_3 (dk_at dksX8_side_0 1 rfl rfl)
theorem dX8_side_2 : decode cX8_side 2 = .ok (.putfield 53, 3) := dk_181 0 53 (dk_at dksX8_side_0 2 rfl rfl)
theorem dX8_side_5 : decode cX8_side 5 = .ok (.aload_n 0, 1) := dk_42 (dk_at dksX8_side_0 5 rfl rfl)
theorem dX8_side_6 : decode cX8_side 6 = .ok (.getfield 373, 3) := dk_180 1 117 (dk_at dksX8_side_0 6 rfl rfl)
theorem dX8_side_9 : decode cX8_side 9 = .ok (.ifnonnull 10, 3) := dk_199 0 10 (dk_at dksX8_side_0 9 rfl rfl)
theorem dX8_side_12 : decode cX8_side 12 = .ok (.aload_n 0, 1) := dk_42 (dk_at dksX8_side_0 12 rfl rfl)
theorem dX8_side_13 : decode cX8_side 13 = .ok (.iconst 1, 1) := dk_4 (dk_at dksX8_side_0 13 rfl rfl)
theorem dX8_side_14 : decode cX8_side 14 = .ok (.invokevirtual 59, 3) := dk_182 0 59 (dk_at dksX8_side_0 14 rfl rfl)
theorem dX8_side_17 : decode cX8_side 17 = .ok (.i2l, 1) := dk_133 (dk_at dksX8_side_0 17 rfl rfl)
theorem dX8_side_18 : decode cX8_side 18 = .ok (.lreturn, 1) := dk_173 (dk_at dksX8_side_0 18 rfl rfl)
theorem dX8_side_19 : decode cX8_side 19 = .ok (.iconst 0, 1) := dk_3 (dk_at dksX8_side_0 19 rfl rfl)
theorem dX8_side_20 : decode cX8_side 20 = .ok (.istore_n 2, 1) := dk_61 (dk_at dksX8_side_0 20 rfl rfl)
theorem dX8_side_21 : decode cX8_side 21 = .ok (.iconst 0, 1) := dk_3 (dk_at dksX8_side_0 21 rfl rfl)
theorem dX8_side_22 : decode cX8_side 22 = .ok (.istore_n 3, 1) := dk_62 (dk_at dksX8_side_0 22 rfl rfl)
theorem dX8_side_23 : decode cX8_side 23 = .ok (.iload_n 3, 1) := dk_29 (dk_at dksX8_side_0 23 rfl rfl)
theorem dX8_side_24 : decode cX8_side 24 = .ok (.aload_n 0, 1) := dk_42 (dk_at dksX8_side_1 0 rfl rfl)
theorem dX8_side_25 : decode cX8_side 25 = .ok (.getfield 373, 3) := dk_180 1 117 (dk_at dksX8_side_1 1 rfl rfl)
theorem dX8_side_28 : decode cX8_side 28 = .ok (.getfield 334, 3) := dk_180 1 78 (dk_at dksX8_side_1 4 rfl rfl)
theorem dX8_side_31 : decode cX8_side 31 = .ok (.if_icmp .ge 29, 3) := dk_162 0 29 (dk_at dksX8_side_1 7 rfl rfl)
theorem dX8_side_34 : decode cX8_side 34 = .ok (.iload_n 2, 1) := dk_28 (dk_at dksX8_side_1 10 rfl rfl)
theorem dX8_side_35 : decode cX8_side 35 = .ok (.aload_n 0, 1) := dk_42 (dk_at dksX8_side_1 11 rfl rfl)
theorem dX8_side_36 : decode cX8_side 36 = .ok (.getfield 373, 3) := dk_180 1 117 (dk_at dksX8_side_1 12 rfl rfl)
theorem dX8_side_39 : decode cX8_side 39 = .ok (.getfield 346, 3) := dk_180 1 90 (dk_at dksX8_side_1 15 rfl rfl)
theorem dX8_side_42 : decode cX8_side 42 = .ok (.iload_n 3, 1) := dk_29 (dk_at dksX8_side_1 18 rfl rfl)
theorem dX8_side_43 : decode cX8_side 43 = .ok (.iaload, 1) := dk_46 (dk_at dksX8_side_1 19 rfl rfl)
theorem dX8_side_44 : decode cX8_side 44 = .ok (.ifCond .ne 7, 3) := dk_154 0 7 (dk_at dksX8_side_1 20 rfl rfl)
theorem dX8_side_47 : decode cX8_side 47 = .ok (.iconst 1, 1) := dk_4 (dk_at dksX8_side_1 23 rfl rfl)
theorem dX8_side_48 : decode cX8_side 48 = .ok (.goto 4, 3) := dk_167 0 4 (dk_at dksX8_side_2 0 rfl rfl)
theorem dX8_side_51 : decode cX8_side 51 = .ok (.iconst 0, 1) := dk_3 (dk_at dksX8_side_2 3 rfl rfl)
theorem dX8_side_52 : decode cX8_side 52 = .ok (.iadd, 1) := dk_96 (dk_at dksX8_side_2 4 rfl rfl)
theorem dX8_side_53 : decode cX8_side 53 = .ok (.istore_n 2, 1) := dk_61 (dk_at dksX8_side_2 5 rfl rfl)
theorem dX8_side_54 : decode cX8_side 54 = .ok (.iinc 3 1, 3) := dk_132 3 1 (dk_at dksX8_side_2 6 rfl rfl)
theorem dX8_side_57 : decode cX8_side 57 = .ok (.goto (-34), 3) := dk_167 255 222 (dk_at dksX8_side_2 9 rfl rfl)
theorem dX8_side_60 : decode cX8_side 60 = .ok (.aload_n 0, 1) := dk_42 (dk_at dksX8_side_2 12 rfl rfl)
theorem dX8_side_61 : decode cX8_side 61 = .ok (.aload_n 0, 1) := dk_42 (dk_at dksX8_side_2 13 rfl rfl)
theorem dX8_side_62 : decode cX8_side 62 = .ok (.getfield 373, 3) := dk_180 1 117 (dk_at dksX8_side_2 14 rfl rfl)
theorem dX8_side_65 : decode cX8_side 65 = .ok (.getfield 334, 3) := dk_180 1 78 (dk_at dksX8_side_2 17 rfl rfl)
theorem dX8_side_68 : decode cX8_side 68 = .ok (.iload_n 2, 1) := dk_28 (dk_at dksX8_side_2 20 rfl rfl)
theorem dX8_side_69 : decode cX8_side 69 = .ok (.invokestatic 538, 3) := dk_184 2 26 (dk_at dksX8_side_2 21 rfl rfl)
theorem dX8_side_72 : decode cX8_side 72 = .ok (.lconst 1, 1) := dk_10 (dk_at dksX8_side_3 0 rfl rfl)
theorem dX8_side_73 : decode cX8_side 73 = .ok (.aload_n 0, 1) := dk_42 (dk_at dksX8_side_3 1 rfl rfl)
theorem dX8_side_74 : decode cX8_side 74 = .ok (.getfield 373, 3) := dk_180 1 117 (dk_at dksX8_side_3 2 rfl rfl)
theorem dX8_side_77 : decode cX8_side 77 = .ok (.getfield 334, 3) := dk_180 1 78 (dk_at dksX8_side_3 5 rfl rfl)
theorem dX8_side_80 : decode cX8_side 80 = .ok (.lshl, 1) := dk_121 (dk_at dksX8_side_3 8 rfl rfl)
theorem dX8_side_81 : decode cX8_side 81 = .ok (.iload_n 1, 1) := dk_27 (dk_at dksX8_side_3 9 rfl rfl)
theorem dX8_side_82 : decode cX8_side 82 = .ok (.invokevirtual 466, 3) := dk_182 1 210 (dk_at dksX8_side_3 10 rfl rfl)
theorem dX8_side_85 : decode cX8_side 85 = .ok (.lreturn, 1) := dk_173 (dk_at dksX8_side_3 13 rfl rfl)
abbrev cX8_known : ByteArray := prog_20_method_104_code
def yX8_known : MethodName := ⟨RX8, "known", "()I"⟩
def dkwX8_known_3 : List UInt8 := [132, 2, 1, 167, 255, 204, 42, 27, 182, 0, 63, 172]
abbrev dktX8_known_3 : List UInt8 := dkwX8_known_3 ++ []
def dkwX8_known_2 : List UInt8 := [184, 2, 26, 105, 10, 42, 28, 182, 1, 196, 121, 148, 157, 0, 9, 4, 28, 120, 167, 0, 4, 3, 128, 60]
abbrev dktX8_known_2 : List UInt8 := dkwX8_known_2 ++ dktX8_known_3
def dkwX8_known_1 : List UInt8 := [180, 1, 117, 180, 0, 213, 162, 0, 47, 27, 20, 2, 30, 42, 28, 182, 1, 196, 42, 28, 182, 1, 193]
abbrev dktX8_known_1 : List UInt8 := dkwX8_known_1 ++ dktX8_known_2
def dkwX8_known_0 : List UInt8 := [42, 3, 181, 0, 53, 42, 180, 1, 117, 199, 0, 9, 42, 4, 182, 0, 59, 172, 3, 60, 3, 61, 28, 42]
abbrev dktX8_known_0 : List UInt8 := dkwX8_known_0 ++ dktX8_known_1
theorem dksX8_known_0 : cX8_known.data.toList.drop 0 = dktX8_known_0 := by decide +kernel
theorem dksX8_known_1 : cX8_known.data.toList.drop 24 = dktX8_known_1 := dk_seg dksX8_known_0 24 rfl rfl
theorem dksX8_known_2 : cX8_known.data.toList.drop 47 = dktX8_known_2 := dk_seg dksX8_known_1 23 rfl rfl
theorem dksX8_known_3 : cX8_known.data.toList.drop 71 = dktX8_known_3 := dk_seg dksX8_known_2 24 rfl rfl
theorem dX8_known_0 : decode cX8_known 0 = .ok (.aload_n 0, 1) := dk_42 (dk_at dksX8_known_0 0 rfl rfl)
theorem dX8_known_1 : decode cX8_known 1 = .ok (.iconst 0, 1) := dk_3 (dk_at dksX8_known_0 1 rfl rfl)
theorem dX8_known_2 : decode cX8_known 2 = .ok (.putfield 53, 3) := dk_181 0 53 (dk_at dksX8_known_0 2 rfl rfl)
theorem dX8_known_5 : decode cX8_known 5 = .ok (.aload_n 0, 1) := dk_42 (dk_at dksX8_known_0 5 rfl rfl)
theorem dX8_known_6 : decode cX8_known 6 = .ok (.getfield 373, 3) := dk_180 1 117 (dk_at dksX8_known_0 6 rfl rfl)
theorem dX8_known_9 : decode cX8_known 9 = .ok (.ifnonnull 9, 3) := dk_199 0 9 (dk_at dksX8_known_0 9 rfl rfl)
theorem dX8_known_12 : decode cX8_known 12 = .ok (.aload_n 0, 1) := dk_42 (dk_at dksX8_known_0 12 rfl rfl)
theorem dX8_known_13 : decode cX8_known 13 = .ok (.iconst 1, 1) := dk_4 (dk_at dksX8_known_0 13 rfl rfl)
theorem dX8_known_14 : decode cX8_known 14 = .ok (.invokevirtual 59, 3) := dk_182 0 59 (dk_at dksX8_known_0 14 rfl rfl)
theorem dX8_known_17 : decode cX8_known 17 = .ok (.ireturn, 1) := dk_172 (dk_at dksX8_known_0 17 rfl rfl)
theorem dX8_known_18 : decode cX8_known 18 = .ok (.iconst 0, 1) := dk_3 (dk_at dksX8_known_0 18 rfl rfl)
theorem dX8_known_19 : decode cX8_known 19 = .ok (.istore_n 1, 1) := dk_60 (dk_at dksX8_known_0 19 rfl rfl)
theorem dX8_known_20 : decode cX8_known 20 = .ok (.iconst 0, 1) := dk_3 (dk_at dksX8_known_0 20 rfl rfl)
theorem dX8_known_21 : decode cX8_known 21 = .ok (.istore_n 2, 1) := dk_61 (dk_at dksX8_known_0 21 rfl rfl)
theorem dX8_known_22 : decode cX8_known 22 = .ok (.iload_n 2, 1) := dk_28 (dk_at dksX8_known_0 22 rfl rfl)
theorem dX8_known_23 : decode cX8_known 23 = .ok (.aload_n 0, 1) := dk_42 (dk_at dksX8_known_0 23 rfl rfl)
theorem dX8_known_24 : decode cX8_known 24 = .ok (.getfield 373, 3) := dk_180 1 117 (dk_at dksX8_known_1 0 rfl rfl)
theorem dX8_known_27 : decode cX8_known 27 = .ok (.getfield 213, 3) := dk_180 0 213 (dk_at dksX8_known_1 3 rfl rfl)
theorem dX8_known_30 : decode cX8_known 30 = .ok (.if_icmp .ge 47, 3) := dk_162 0 47 (dk_at dksX8_known_1 6 rfl rfl)
theorem dX8_known_33 : decode cX8_known 33 = .ok (.iload_n 1, 1) := dk_27 (dk_at dksX8_known_1 9 rfl rfl)
theorem dX8_known_34 : decode cX8_known 34 = .ok (.ldc2_w 542, 3) := dk_20 2 30 (dk_at dksX8_known_1 10 rfl rfl)
theorem dX8_known_37 : decode cX8_known 37 = .ok (.aload_n 0, 1) := dk_42 (dk_at dksX8_known_1 13 rfl rfl)
theorem dX8_known_38 : decode cX8_known 38 = .ok (.iload_n 2, 1) := dk_28 (dk_at dksX8_known_1 14 rfl rfl)
theorem dX8_known_39 : decode cX8_known 39 = .ok (.invokevirtual 452, 3) := dk_182 1 196 (dk_at dksX8_known_1 15 rfl rfl)
theorem dX8_known_42 : decode cX8_known 42 = .ok (.aload_n 0, 1) := dk_42 (dk_at dksX8_known_1 18 rfl rfl)
theorem dX8_known_43 : decode cX8_known 43 = .ok (.iload_n 2, 1) := dk_28 (dk_at dksX8_known_1 19 rfl rfl)
theorem dX8_known_44 : decode cX8_known 44 = .ok (.invokevirtual 449, 3) := dk_182 1 193 (dk_at dksX8_known_1 20 rfl rfl)
theorem dX8_known_47 : decode cX8_known 47 = .ok (.invokestatic 538, 3) := dk_184 2 26 (dk_at dksX8_known_2 0 rfl rfl)
theorem dX8_known_50 : decode cX8_known 50 = .ok (.lmul, 1) := dk_105 (dk_at dksX8_known_2 3 rfl rfl)
theorem dX8_known_51 : decode cX8_known 51 = .ok (.lconst 1, 1) := dk_10 (dk_at dksX8_known_2 4 rfl rfl)
theorem dX8_known_52 : decode cX8_known 52 = .ok (.aload_n 0, 1) := dk_42 (dk_at dksX8_known_2 5 rfl rfl)
theorem dX8_known_53 : decode cX8_known 53 = .ok (.iload_n 2, 1) := dk_28 (dk_at dksX8_known_2 6 rfl rfl)
theorem dX8_known_54 : decode cX8_known 54 = .ok (.invokevirtual 452, 3) := dk_182 1 196 (dk_at dksX8_known_2 7 rfl rfl)
theorem dX8_known_57 : decode cX8_known 57 = .ok (.lshl, 1) := dk_121 (dk_at dksX8_known_2 10 rfl rfl)
theorem dX8_known_58 : decode cX8_known 58 = .ok (.lcmp, 1) := dk_148 (dk_at dksX8_known_2 11 rfl rfl)
theorem dX8_known_59 : decode cX8_known 59 = .ok (.ifCond .gt 9, 3) := dk_157 0 9 (dk_at dksX8_known_2 12 rfl rfl)
theorem dX8_known_62 : decode cX8_known 62 = .ok (.iconst 1, 1) := dk_4 (dk_at dksX8_known_2 15 rfl rfl)
theorem dX8_known_63 : decode cX8_known 63 = .ok (.iload_n 2, 1) := dk_28 (dk_at dksX8_known_2 16 rfl rfl)
theorem dX8_known_64 : decode cX8_known 64 = .ok (.ishl, 1) := dk_120 (dk_at dksX8_known_2 17 rfl rfl)
theorem dX8_known_65 : decode cX8_known 65 = .ok (.goto 4, 3) := dk_167 0 4 (dk_at dksX8_known_2 18 rfl rfl)
theorem dX8_known_68 : decode cX8_known 68 = .ok (.iconst 0, 1) := dk_3 (dk_at dksX8_known_2 21 rfl rfl)
theorem dX8_known_69 : decode cX8_known 69 = .ok (.ior, 1) := dk_128 (dk_at dksX8_known_2 22 rfl rfl)
theorem dX8_known_70 : decode cX8_known 70 = .ok (.istore_n 1, 1) := dk_60 (dk_at dksX8_known_2 23 rfl rfl)
theorem dX8_known_71 : decode cX8_known 71 = .ok (.iinc 2 1, 3) := dk_132 2 1 (dk_at dksX8_known_3 0 rfl rfl)
theorem dX8_known_74 : decode cX8_known 74 = .ok (.goto (-52), 3) := dk_167 255 204 (dk_at dksX8_known_3 3 rfl rfl)
theorem dX8_known_77 : decode cX8_known 77 = .ok (.aload_n 0, 1) := dk_42 (dk_at dksX8_known_3 6 rfl rfl)
theorem dX8_known_78 : decode cX8_known 78 = .ok (.iload_n 1, 1) := dk_27 (dk_at dksX8_known_3 7 rfl rfl)
theorem dX8_known_79 : decode cX8_known 79 = .ok (.invokevirtual 63, 3) := dk_182 0 63 (dk_at dksX8_known_3 8 rfl rfl)
theorem dX8_known_82 : decode cX8_known 82 = .ok (.ireturn, 1) := dk_172 (dk_at dksX8_known_3 11 rfl rfl)
abbrev cX8_hens : ByteArray := prog_20_method_105_code
def yX8_hens : MethodName := ⟨RX8, "hens", "(I)I"⟩
def dkwX8_hens_2 : List UInt8 := [167, 255, 246, 42, 28, 182, 0, 63, 172]
abbrev dktX8_hens_2 : List UInt8 := dkwX8_hens_2 ++ []
def dkwX8_hens_1 : List UInt8 := [184, 0, 138, 154, 0, 9, 42, 5, 182, 0, 59, 172, 3, 61, 4, 28, 120, 27, 162, 0, 9, 132, 2, 1]
abbrev dktX8_hens_1 : List UInt8 := dkwX8_hens_1 ++ dktX8_hens_2
def dkwX8_hens_0 : List UInt8 := [42, 3, 181, 0, 53, 42, 180, 1, 117, 199, 0, 9, 42, 4, 182, 0, 59, 172, 27, 4, 19, 2, 32]
abbrev dktX8_hens_0 : List UInt8 := dkwX8_hens_0 ++ dktX8_hens_1
theorem dksX8_hens_0 : cX8_hens.data.toList.drop 0 = dktX8_hens_0 := by decide +kernel
theorem dksX8_hens_1 : cX8_hens.data.toList.drop 23 = dktX8_hens_1 := dk_seg dksX8_hens_0 23 rfl rfl
theorem dksX8_hens_2 : cX8_hens.data.toList.drop 47 = dktX8_hens_2 := dk_seg dksX8_hens_1 24 rfl rfl
theorem dX8_hens_0 : decode cX8_hens 0 = .ok (.aload_n 0, 1) := dk_42 (dk_at dksX8_hens_0 0 rfl rfl)
theorem dX8_hens_1 : decode cX8_hens 1 = .ok (.iconst 0, 1) := dk_3 (dk_at dksX8_hens_0 1 rfl rfl)
theorem dX8_hens_2 : decode cX8_hens 2 = .ok (.putfield 53, 3) := dk_181 0 53 (dk_at dksX8_hens_0 2 rfl rfl)
theorem dX8_hens_5 : decode cX8_hens 5 = .ok (.aload_n 0, 1) := dk_42 (dk_at dksX8_hens_0 5 rfl rfl)
theorem dX8_hens_6 : decode cX8_hens 6 = .ok (.getfield 373, 3) := dk_180 1 117 (dk_at dksX8_hens_0 6 rfl rfl)
theorem dX8_hens_9 : decode cX8_hens 9 = .ok (.ifnonnull 9, 3) := dk_199 0 9 (dk_at dksX8_hens_0 9 rfl rfl)
theorem dX8_hens_12 : decode cX8_hens 12 = .ok (.aload_n 0, 1) := dk_42 (dk_at dksX8_hens_0 12 rfl rfl)
theorem dX8_hens_13 : decode cX8_hens 13 = .ok (.iconst 1, 1) := dk_4 (dk_at dksX8_hens_0 13 rfl rfl)
theorem dX8_hens_14 : decode cX8_hens 14 = .ok (.invokevirtual 59, 3) := dk_182 0 59 (dk_at dksX8_hens_0 14 rfl rfl)
theorem dX8_hens_17 : decode cX8_hens 17 = .ok (.ireturn, 1) := dk_172 (dk_at dksX8_hens_0 17 rfl rfl)
theorem dX8_hens_18 : decode cX8_hens 18 = .ok (.iload_n 1, 1) := dk_27 (dk_at dksX8_hens_0 18 rfl rfl)
theorem dX8_hens_19 : decode cX8_hens 19 = .ok (.iconst 1, 1) := dk_4 (dk_at dksX8_hens_0 19 rfl rfl)
theorem dX8_hens_20 : decode cX8_hens 20 = .ok (.ldc_w 544, 3) := dk_19 2 32 (dk_at dksX8_hens_0 20 rfl rfl)
theorem dX8_hens_23 : decode cX8_hens 23 = .ok (.invokestatic 138, 3) := dk_184 0 138 (dk_at dksX8_hens_1 0 rfl rfl)
theorem dX8_hens_26 : decode cX8_hens 26 = .ok (.ifCond .ne 9, 3) := dk_154 0 9 (dk_at dksX8_hens_1 3 rfl rfl)
theorem dX8_hens_29 : decode cX8_hens 29 = .ok (.aload_n 0, 1) := dk_42 (dk_at dksX8_hens_1 6 rfl rfl)
theorem dX8_hens_30 : decode cX8_hens 30 = .ok (.iconst 2, 1) := dk_5 (dk_at dksX8_hens_1 7 rfl rfl)
theorem dX8_hens_31 : decode cX8_hens 31 = .ok (.invokevirtual 59, 3) := dk_182 0 59 (dk_at dksX8_hens_1 8 rfl rfl)
theorem dX8_hens_34 : decode cX8_hens 34 = .ok (.ireturn, 1) := dk_172 (dk_at dksX8_hens_1 11 rfl rfl)
theorem dX8_hens_35 : decode cX8_hens 35 = .ok (.iconst 0, 1) := dk_3 (dk_at dksX8_hens_1 12 rfl rfl)
theorem dX8_hens_36 : decode cX8_hens 36 = .ok (.istore_n 2, 1) := dk_61 (dk_at dksX8_hens_1 13 rfl rfl)
theorem dX8_hens_37 : decode cX8_hens 37 = .ok (.iconst 1, 1) := dk_4 (dk_at dksX8_hens_1 14 rfl rfl)
theorem dX8_hens_38 : decode cX8_hens 38 = .ok (.iload_n 2, 1) := dk_28 (dk_at dksX8_hens_1 15 rfl rfl)
theorem dX8_hens_39 : decode cX8_hens 39 = .ok (.ishl, 1) := dk_120 (dk_at dksX8_hens_1 16 rfl rfl)
theorem dX8_hens_40 : decode cX8_hens 40 = .ok (.iload_n 1, 1) := dk_27 (dk_at dksX8_hens_1 17 rfl rfl)
theorem dX8_hens_41 : decode cX8_hens 41 = .ok (.if_icmp .ge 9, 3) := dk_162 0 9 (dk_at dksX8_hens_1 18 rfl rfl)
theorem dX8_hens_44 : decode cX8_hens 44 = .ok (.iinc 2 1, 3) := dk_132 2 1 (dk_at dksX8_hens_1 21 rfl rfl)
theorem dX8_hens_47 : decode cX8_hens 47 = .ok (.goto (-10), 3) := dk_167 255 246 (dk_at dksX8_hens_2 0 rfl rfl)
theorem dX8_hens_50 : decode cX8_hens 50 = .ok (.aload_n 0, 1) := dk_42 (dk_at dksX8_hens_2 3 rfl rfl)
theorem dX8_hens_51 : decode cX8_hens 51 = .ok (.iload_n 2, 1) := dk_28 (dk_at dksX8_hens_2 4 rfl rfl)
theorem dX8_hens_52 : decode cX8_hens 52 = .ok (.invokevirtual 63, 3) := dk_182 0 63 (dk_at dksX8_hens_2 5 rfl rfl)
theorem dX8_hens_55 : decode cX8_hens 55 = .ok (.ireturn, 1) := dk_172 (dk_at dksX8_hens_2 8 rfl rfl)
abbrev cX8_thumbs : ByteArray := prog_20_method_107_code
def yX8_thumbs : MethodName := ⟨RX8, "thumbs", "(IZ)J"⟩
def dkwX8_thumbs_5 : List UInt8 := [22, 5, 22, 5, 22, 7, 97, 28, 182, 1, 210, 173]
abbrev dktX8_thumbs_5 : List UInt8 := dkwX8_thumbs_5 ++ []
def dkwX8_thumbs_4 : List UInt8 := [46, 100, 133, 42, 42, 180, 1, 117, 180, 1, 107, 27, 46, 29, 21, 4, 182, 2, 33, 105, 55, 7, 42]
abbrev dktX8_thumbs_4 : List UInt8 := dkwX8_thumbs_4 ++ dktX8_thumbs_5
def dkwX8_thumbs_3 : List UInt8 := [180, 1, 104, 27, 46, 29, 21, 4, 182, 2, 33, 105, 55, 5, 16, 100, 42, 180, 1, 117, 180, 1, 60, 27]
abbrev dktX8_thumbs_3 : List UInt8 := dkwX8_thumbs_3 ++ dktX8_thumbs_4
def dkwX8_thumbs_2 : List UInt8 := [27, 182, 1, 196, 29, 100, 54, 4, 42, 180, 1, 117, 180, 1, 60, 27, 46, 133, 42, 42, 180, 1, 117]
abbrev dktX8_thumbs_2 : List UInt8 := dkwX8_thumbs_2 ++ dktX8_thumbs_3
def dkwX8_thumbs_1 : List UInt8 := [180, 1, 60, 27, 46, 2, 160, 0, 11, 42, 16, 6, 182, 0, 59, 133, 173, 42, 27, 182, 1, 193, 62, 42]
abbrev dktX8_thumbs_1 : List UInt8 := dkwX8_thumbs_1 ++ dktX8_thumbs_2
def dkwX8_thumbs_0 : List UInt8 := [42, 3, 181, 0, 53, 42, 27, 182, 1, 185, 154, 0, 10, 42, 4, 182, 0, 59, 133, 173, 42, 180, 1, 117]
abbrev dktX8_thumbs_0 : List UInt8 := dkwX8_thumbs_0 ++ dktX8_thumbs_1
theorem dksX8_thumbs_0 : cX8_thumbs.data.toList.drop 0 = dktX8_thumbs_0 := by decide +kernel
theorem dksX8_thumbs_1 : cX8_thumbs.data.toList.drop 24 = dktX8_thumbs_1 := dk_seg dksX8_thumbs_0 24 rfl rfl
theorem dksX8_thumbs_2 : cX8_thumbs.data.toList.drop 48 = dktX8_thumbs_2 := dk_seg dksX8_thumbs_1 24 rfl rfl
theorem dksX8_thumbs_3 : cX8_thumbs.data.toList.drop 71 = dktX8_thumbs_3 := dk_seg dksX8_thumbs_2 23 rfl rfl
theorem dksX8_thumbs_4 : cX8_thumbs.data.toList.drop 95 = dktX8_thumbs_4 := dk_seg dksX8_thumbs_3 24 rfl rfl
theorem dksX8_thumbs_5 : cX8_thumbs.data.toList.drop 118 = dktX8_thumbs_5 := dk_seg dksX8_thumbs_4 23 rfl rfl
theorem dX8_thumbs_0 : decode cX8_thumbs 0 = .ok (.aload_n 0, 1) := dk_42 (dk_at dksX8_thumbs_0 0 rfl rfl)
theorem dX8_thumbs_1 : decode cX8_thumbs 1 = .ok (.iconst 0, 1) := dk_3 (dk_at dksX8_thumbs_0 1 rfl rfl)
theorem dX8_thumbs_2 : decode cX8_thumbs 2 = .ok (.putfield 53, 3) := dk_181 0 53 (dk_at dksX8_thumbs_0 2 rfl rfl)
theorem dX8_thumbs_5 : decode cX8_thumbs 5 = .ok (.aload_n 0, 1) := dk_42 (dk_at dksX8_thumbs_0 5 rfl rfl)
theorem dX8_thumbs_6 : decode cX8_thumbs 6 = .ok (.iload_n 1, 1) := dk_27 (dk_at dksX8_thumbs_0 6 rfl rfl)
theorem dX8_thumbs_7 : decode cX8_thumbs 7 = .ok (.invokevirtual 441, 3) := dk_182 1 185 (dk_at dksX8_thumbs_0 7 rfl rfl)
theorem dX8_thumbs_10 : decode cX8_thumbs 10 = .ok (.ifCond .ne 10, 3) := dk_154 0 10 (dk_at dksX8_thumbs_0 10 rfl rfl)
theorem dX8_thumbs_13 : decode cX8_thumbs 13 = .ok (.aload_n 0, 1) := dk_42 (dk_at dksX8_thumbs_0 13 rfl rfl)
theorem dX8_thumbs_14 : decode cX8_thumbs 14 = .ok (.iconst 1, 1) := dk_4 (dk_at dksX8_thumbs_0 14 rfl rfl)
theorem dX8_thumbs_15 : decode cX8_thumbs 15 = .ok (.invokevirtual 59, 3) := dk_182 0 59 (dk_at dksX8_thumbs_0 15 rfl rfl)
theorem dX8_thumbs_18 : decode cX8_thumbs 18 = .ok (.i2l, 1) := dk_133 (dk_at dksX8_thumbs_0 18 rfl rfl)
theorem dX8_thumbs_19 : decode cX8_thumbs 19 = .ok (.lreturn, 1) := dk_173 (dk_at dksX8_thumbs_0 19 rfl rfl)
theorem dX8_thumbs_20 : decode cX8_thumbs 20 = .ok (.aload_n 0, 1) := dk_42 (dk_at dksX8_thumbs_0 20 rfl rfl)
theorem dX8_thumbs_21 : decode cX8_thumbs 21 = .ok (.getfield 373, 3) := dk_180 1 117 (dk_at dksX8_thumbs_0 21 rfl rfl)
theorem dX8_thumbs_24 : decode cX8_thumbs 24 = .ok (.getfield 316, 3) := dk_180 1 60 (dk_at dksX8_thumbs_1 0 rfl rfl)
theorem dX8_thumbs_27 : decode cX8_thumbs 27 = .ok (.iload_n 1, 1) := dk_27 (dk_at dksX8_thumbs_1 3 rfl rfl)
theorem dX8_thumbs_28 : decode cX8_thumbs 28 = .ok (.iaload, 1) := dk_46 (dk_at dksX8_thumbs_1 4 rfl rfl)
theorem dX8_thumbs_29 : decode cX8_thumbs 29 = .ok (.iconst (-1), 1) := dk_2 (dk_at dksX8_thumbs_1 5 rfl rfl)
theorem dX8_thumbs_30 : decode cX8_thumbs 30 = .ok (.if_icmp .ne 11, 3) := dk_160 0 11 (dk_at dksX8_thumbs_1 6 rfl rfl)
theorem dX8_thumbs_33 : decode cX8_thumbs 33 = .ok (.aload_n 0, 1) := dk_42 (dk_at dksX8_thumbs_1 9 rfl rfl)
theorem dX8_thumbs_34 : decode cX8_thumbs 34 = .ok (.bipush 6, 2) := dk_16 6 (dk_at dksX8_thumbs_1 10 rfl rfl)
theorem dX8_thumbs_36 : decode cX8_thumbs 36 = .ok (.invokevirtual 59, 3) := dk_182 0 59 (dk_at dksX8_thumbs_1 12 rfl rfl)
theorem dX8_thumbs_39 : decode cX8_thumbs 39 = .ok (.i2l, 1) := dk_133 (dk_at dksX8_thumbs_1 15 rfl rfl)
theorem dX8_thumbs_40 : decode cX8_thumbs 40 = .ok (.lreturn, 1) := dk_173 (dk_at dksX8_thumbs_1 16 rfl rfl)
theorem dX8_thumbs_41 : decode cX8_thumbs 41 = .ok (.aload_n 0, 1) := dk_42 (dk_at dksX8_thumbs_1 17 rfl rfl)
theorem dX8_thumbs_42 : decode cX8_thumbs 42 = .ok (.iload_n 1, 1) := dk_27 (dk_at dksX8_thumbs_1 18 rfl rfl)
theorem dX8_thumbs_43 : decode cX8_thumbs 43 = .ok (.invokevirtual 449, 3) := dk_182 1 193 (dk_at dksX8_thumbs_1 19 rfl rfl)
theorem dX8_thumbs_46 : decode cX8_thumbs 46 = .ok (.istore_n 3, 1) := dk_62 (dk_at dksX8_thumbs_1 22 rfl rfl)
theorem dX8_thumbs_47 : decode cX8_thumbs 47 = .ok (.aload_n 0, 1) := dk_42 (dk_at dksX8_thumbs_1 23 rfl rfl)
theorem dX8_thumbs_48 : decode cX8_thumbs 48 = .ok (.iload_n 1, 1) := dk_27 (dk_at dksX8_thumbs_2 0 rfl rfl)
theorem dX8_thumbs_49 : decode cX8_thumbs 49 = .ok (.invokevirtual 452, 3) := dk_182 1 196 (dk_at dksX8_thumbs_2 1 rfl rfl)
theorem dX8_thumbs_52 : decode cX8_thumbs 52 = .ok (.iload_n 3, 1) := dk_29 (dk_at dksX8_thumbs_2 4 rfl rfl)
theorem dX8_thumbs_53 : decode cX8_thumbs 53 = .ok (.isub, 1) := dk_100 (dk_at dksX8_thumbs_2 5 rfl rfl)
theorem dX8_thumbs_54 : decode cX8_thumbs 54 = .ok (.istore 4, 2) := dk_54 4 (dk_at dksX8_thumbs_2 6 rfl rfl)
theorem dX8_thumbs_56 : decode cX8_thumbs 56 = .ok (.aload_n 0, 1) := dk_42 (dk_at dksX8_thumbs_2 8 rfl rfl)
theorem dX8_thumbs_57 : decode cX8_thumbs 57 = .ok (.getfield 373, 3) := dk_180 1 117 (dk_at dksX8_thumbs_2 9 rfl rfl)
theorem dX8_thumbs_60 : decode cX8_thumbs 60 = .ok (.getfield 316, 3) := dk_180 1 60 (dk_at dksX8_thumbs_2 12 rfl rfl)
theorem dX8_thumbs_63 : decode cX8_thumbs 63 = .ok (.iload_n 1, 1) := dk_27 (dk_at dksX8_thumbs_2 15 rfl rfl)
theorem dX8_thumbs_64 : decode cX8_thumbs 64 = .ok (.iaload, 1) := dk_46 (dk_at dksX8_thumbs_2 16 rfl rfl)
theorem dX8_thumbs_65 : decode cX8_thumbs 65 = .ok (.i2l, 1) := dk_133 (dk_at dksX8_thumbs_2 17 rfl rfl)
theorem dX8_thumbs_66 : decode cX8_thumbs 66 = .ok (.aload_n 0, 1) := dk_42 (dk_at dksX8_thumbs_2 18 rfl rfl)
theorem dX8_thumbs_67 : decode cX8_thumbs 67 = .ok (.aload_n 0, 1) := dk_42 (dk_at dksX8_thumbs_2 19 rfl rfl)
theorem dX8_thumbs_68 : decode cX8_thumbs 68 = .ok (.getfield 373, 3) := dk_180 1 117 (dk_at dksX8_thumbs_2 20 rfl rfl)
theorem dX8_thumbs_71 : decode cX8_thumbs 71 = .ok (.getfield 360, 3) := dk_180 1 104 (dk_at dksX8_thumbs_3 0 rfl rfl)
theorem dX8_thumbs_74 : decode cX8_thumbs 74 = .ok (.iload_n 1, 1) := dk_27 (dk_at dksX8_thumbs_3 3 rfl rfl)
theorem dX8_thumbs_75 : decode cX8_thumbs 75 = .ok (.iaload, 1) := dk_46 (dk_at dksX8_thumbs_3 4 rfl rfl)
theorem dX8_thumbs_76 : decode cX8_thumbs 76 = .ok (.iload_n 3, 1) := dk_29 (dk_at dksX8_thumbs_3 5 rfl rfl)
theorem dX8_thumbs_77 : decode cX8_thumbs 77 = .ok (.iload 4, 2) := dk_21 4 (dk_at dksX8_thumbs_3 6 rfl rfl)
theorem dX8_thumbs_79 : decode cX8_thumbs 79 = .ok (.invokevirtual 545, 3) := dk_182 2 33 (dk_at dksX8_thumbs_3 8 rfl rfl)
theorem dX8_thumbs_82 : decode cX8_thumbs 82 = .ok (.lmul, 1) := dk_105 (dk_at dksX8_thumbs_3 11 rfl rfl)
theorem dX8_thumbs_83 : decode cX8_thumbs 83 = .ok (.lstore 5, 2) := dk_55 5 (dk_at dksX8_thumbs_3 12 rfl rfl)
theorem dX8_thumbs_85 : decode cX8_thumbs 85 = .ok (.bipush 100, 2) := dk_16 100 (dk_at dksX8_thumbs_3 14 rfl rfl)
theorem dX8_thumbs_87 : decode cX8_thumbs 87 = .ok (.aload_n 0, 1) := dk_42 (dk_at dksX8_thumbs_3 16 rfl rfl)
theorem dX8_thumbs_88 : decode cX8_thumbs 88 = .ok (.getfield 373, 3) := dk_180 1 117 (dk_at dksX8_thumbs_3 17 rfl rfl)
theorem dX8_thumbs_91 : decode cX8_thumbs 91 = .ok (.getfield 316, 3) := dk_180 1 60 (dk_at dksX8_thumbs_3 20 rfl rfl)
theorem dX8_thumbs_94 : decode cX8_thumbs 94 = .ok (.iload_n 1, 1) := dk_27 (dk_at dksX8_thumbs_3 23 rfl rfl)
theorem dX8_thumbs_95 : decode cX8_thumbs 95 = .ok (.iaload, 1) := dk_46 (dk_at dksX8_thumbs_4 0 rfl rfl)
theorem dX8_thumbs_96 : decode cX8_thumbs 96 = .ok (.isub, 1) := dk_100 (dk_at dksX8_thumbs_4 1 rfl rfl)
theorem dX8_thumbs_97 : decode cX8_thumbs 97 = .ok (.i2l, 1) := dk_133 (dk_at dksX8_thumbs_4 2 rfl rfl)
theorem dX8_thumbs_98 : decode cX8_thumbs 98 = .ok (.aload_n 0, 1) := dk_42 (dk_at dksX8_thumbs_4 3 rfl rfl)
theorem dX8_thumbs_99 : decode cX8_thumbs 99 = .ok (.aload_n 0, 1) := dk_42 (dk_at dksX8_thumbs_4 4 rfl rfl)
theorem dX8_thumbs_100 : decode cX8_thumbs 100 = .ok (.getfield 373, 3) := dk_180 1 117 (dk_at dksX8_thumbs_4 5 rfl rfl)
theorem dX8_thumbs_103 : decode cX8_thumbs 103 = .ok (.getfield 363, 3) := dk_180 1 107 (dk_at dksX8_thumbs_4 8 rfl rfl)
theorem dX8_thumbs_106 : decode cX8_thumbs 106 = .ok (.iload_n 1, 1) := dk_27 (dk_at dksX8_thumbs_4 11 rfl rfl)
theorem dX8_thumbs_107 : decode cX8_thumbs 107 = .ok (.iaload, 1) := dk_46 (dk_at dksX8_thumbs_4 12 rfl rfl)
theorem dX8_thumbs_108 : decode cX8_thumbs 108 = .ok (.iload_n 3, 1) := dk_29 (dk_at dksX8_thumbs_4 13 rfl rfl)
theorem dX8_thumbs_109 : decode cX8_thumbs 109 = .ok (.iload 4, 2) := dk_21 4 (dk_at dksX8_thumbs_4 14 rfl rfl)
theorem dX8_thumbs_111 : decode cX8_thumbs 111 = .ok (.invokevirtual 545, 3) := dk_182 2 33 (dk_at dksX8_thumbs_4 16 rfl rfl)
theorem dX8_thumbs_114 : decode cX8_thumbs 114 = .ok (.lmul, 1) := dk_105 (dk_at dksX8_thumbs_4 19 rfl rfl)
theorem dX8_thumbs_115 : decode cX8_thumbs 115 = .ok (.lstore 7, 2) := dk_55 7 (dk_at dksX8_thumbs_4 20 rfl rfl)
theorem dX8_thumbs_117 : decode cX8_thumbs 117 = .ok (.aload_n 0, 1) := dk_42 (dk_at dksX8_thumbs_4 22 rfl rfl)
theorem dX8_thumbs_118 : decode cX8_thumbs 118 = .ok (.lload 5, 2) := dk_22 5 (dk_at dksX8_thumbs_5 0 rfl rfl)
theorem dX8_thumbs_120 : decode cX8_thumbs 120 = .ok (.lload 5, 2) := dk_22 5 (dk_at dksX8_thumbs_5 2 rfl rfl)
theorem dX8_thumbs_122 : decode cX8_thumbs 122 = .ok (.lload 7, 2) := dk_22 7 (dk_at dksX8_thumbs_5 4 rfl rfl)
theorem dX8_thumbs_124 : decode cX8_thumbs 124 = .ok (.ladd, 1) := dk_97 (dk_at dksX8_thumbs_5 6 rfl rfl)
theorem dX8_thumbs_125 : decode cX8_thumbs 125 = .ok (.iload_n 2, 1) := dk_28 (dk_at dksX8_thumbs_5 7 rfl rfl)
theorem dX8_thumbs_126 : decode cX8_thumbs 126 = .ok (.invokevirtual 466, 3) := dk_182 1 210 (dk_at dksX8_thumbs_5 8 rfl rfl)
theorem dX8_thumbs_129 : decode cX8_thumbs 129 = .ok (.lreturn, 1) := dk_173 (dk_at dksX8_thumbs_5 11 rfl rfl)
abbrev cX8_byTenths : ByteArray := prog_20_method_106_code
def yX8_byTenths : MethodName := ⟨RX8, "byTenths", "(III)J"⟩
def dkwX8_byTenths_2 : List UInt8 := [132, 6, 1, 167, 255, 237, 22, 4, 173]
abbrev dktX8_byTenths_2 : List UInt8 := dkwX8_byTenths_2 ++ []
def dkwX8_byTenths_1 : List UInt8 := [167, 255, 240, 3, 54, 6, 21, 6, 29, 162, 0, 19, 22, 4, 16, 10, 27, 100, 133, 105, 55, 4]
abbrev dktX8_byTenths_1 : List UInt8 := dkwX8_byTenths_1 ++ dktX8_byTenths_2
def dkwX8_byTenths_0 : List UInt8 := [10, 55, 4, 3, 54, 6, 21, 6, 28, 162, 0, 16, 22, 4, 27, 133, 105, 55, 4, 132, 6, 1]
abbrev dktX8_byTenths_0 : List UInt8 := dkwX8_byTenths_0 ++ dktX8_byTenths_1
theorem dksX8_byTenths_0 : cX8_byTenths.data.toList.drop 0 = dktX8_byTenths_0 := by decide +kernel
theorem dksX8_byTenths_1 : cX8_byTenths.data.toList.drop 22 = dktX8_byTenths_1 := dk_seg dksX8_byTenths_0 22 rfl rfl
theorem dksX8_byTenths_2 : cX8_byTenths.data.toList.drop 44 = dktX8_byTenths_2 := dk_seg dksX8_byTenths_1 22 rfl rfl
theorem dX8_byTenths_0 : decode cX8_byTenths 0 = .ok (.lconst 1, 1) := dk_10 (dk_at dksX8_byTenths_0 0 rfl rfl)
theorem dX8_byTenths_1 : decode cX8_byTenths 1 = .ok (.lstore 4, 2) := dk_55 4 (dk_at dksX8_byTenths_0 1 rfl rfl)
theorem dX8_byTenths_3 : decode cX8_byTenths 3 = .ok (.iconst 0, 1) := dk_3 (dk_at dksX8_byTenths_0 3 rfl rfl)
theorem dX8_byTenths_4 : decode cX8_byTenths 4 = .ok (.istore 6, 2) := dk_54 6 (dk_at dksX8_byTenths_0 4 rfl rfl)
theorem dX8_byTenths_6 : decode cX8_byTenths 6 = .ok (.iload 6, 2) := dk_21 6 (dk_at dksX8_byTenths_0 6 rfl rfl)
theorem dX8_byTenths_8 : decode cX8_byTenths 8 = .ok (.iload_n 2, 1) := dk_28 (dk_at dksX8_byTenths_0 8 rfl rfl)
theorem dX8_byTenths_9 : decode cX8_byTenths 9 = .ok (.if_icmp .ge 16, 3) := dk_162 0 16 (dk_at dksX8_byTenths_0 9 rfl rfl)
theorem dX8_byTenths_12 : decode cX8_byTenths 12 = .ok (.lload 4, 2) := dk_22 4 (dk_at dksX8_byTenths_0 12 rfl rfl)
theorem dX8_byTenths_14 : decode cX8_byTenths 14 = .ok (.iload_n 1, 1) := dk_27 (dk_at dksX8_byTenths_0 14 rfl rfl)
theorem dX8_byTenths_15 : decode cX8_byTenths 15 = .ok (.i2l, 1) := dk_133 (dk_at dksX8_byTenths_0 15 rfl rfl)
theorem dX8_byTenths_16 : decode cX8_byTenths 16 = .ok (.lmul, 1) := dk_105 (dk_at dksX8_byTenths_0 16 rfl rfl)
theorem dX8_byTenths_17 : decode cX8_byTenths 17 = .ok (.lstore 4, 2) := dk_55 4 (dk_at dksX8_byTenths_0 17 rfl rfl)
theorem dX8_byTenths_19 : decode cX8_byTenths 19 = .ok (.iinc 6 1, 3) := dk_132 6 1 (dk_at dksX8_byTenths_0 19 rfl rfl)
theorem dX8_byTenths_22 : decode cX8_byTenths 22 = .ok (.goto (-16), 3) := dk_167 255 240 (dk_at dksX8_byTenths_1 0 rfl rfl)
theorem dX8_byTenths_25 : decode cX8_byTenths 25 = .ok (.iconst 0, 1) := dk_3 (dk_at dksX8_byTenths_1 3 rfl rfl)
theorem dX8_byTenths_26 : decode cX8_byTenths 26 = .ok (.istore 6, 2) := dk_54 6 (dk_at dksX8_byTenths_1 4 rfl rfl)
theorem dX8_byTenths_28 : decode cX8_byTenths 28 = .ok (.iload 6, 2) := dk_21 6 (dk_at dksX8_byTenths_1 6 rfl rfl)
theorem dX8_byTenths_30 : decode cX8_byTenths 30 = .ok (.iload_n 3, 1) := dk_29 (dk_at dksX8_byTenths_1 8 rfl rfl)
theorem dX8_byTenths_31 : decode cX8_byTenths 31 = .ok (.if_icmp .ge 19, 3) := dk_162 0 19 (dk_at dksX8_byTenths_1 9 rfl rfl)
theorem dX8_byTenths_34 : decode cX8_byTenths 34 = .ok (.lload 4, 2) := dk_22 4 (dk_at dksX8_byTenths_1 12 rfl rfl)
theorem dX8_byTenths_36 : decode cX8_byTenths 36 = .ok (.bipush 10, 2) := dk_16 10 (dk_at dksX8_byTenths_1 14 rfl rfl)
theorem dX8_byTenths_38 : decode cX8_byTenths 38 = .ok (.iload_n 1, 1) := dk_27 (dk_at dksX8_byTenths_1 16 rfl rfl)
theorem dX8_byTenths_39 : decode cX8_byTenths 39 = .ok (.isub, 1) := dk_100 (dk_at dksX8_byTenths_1 17 rfl rfl)
theorem dX8_byTenths_40 : decode cX8_byTenths 40 = .ok (.i2l, 1) := dk_133 (dk_at dksX8_byTenths_1 18 rfl rfl)
theorem dX8_byTenths_41 : decode cX8_byTenths 41 = .ok (.lmul, 1) := dk_105 (dk_at dksX8_byTenths_1 19 rfl rfl)
theorem dX8_byTenths_42 : decode cX8_byTenths 42 = .ok (.lstore 4, 2) := dk_55 4 (dk_at dksX8_byTenths_1 20 rfl rfl)
theorem dX8_byTenths_44 : decode cX8_byTenths 44 = .ok (.iinc 6 1, 3) := dk_132 6 1 (dk_at dksX8_byTenths_2 0 rfl rfl)
theorem dX8_byTenths_47 : decode cX8_byTenths 47 = .ok (.goto (-19), 3) := dk_167 255 237 (dk_at dksX8_byTenths_2 3 rfl rfl)
theorem dX8_byTenths_50 : decode cX8_byTenths 50 = .ok (.lload 4, 2) := dk_22 4 (dk_at dksX8_byTenths_2 6 rfl rfl)
theorem dX8_byTenths_52 : decode cX8_byTenths 52 = .ok (.lreturn, 1) := dk_173 (dk_at dksX8_byTenths_2 8 rfl rfl)
abbrev cX8_let : ByteArray := prog_20_method_109_code
def yX8_let : MethodName := ⟨RX8, "let", "(II)I"⟩
def dkwX8_let_2 : List UInt8 := [21, 4, 182, 2, 37, 42, 29, 182, 2, 37, 164, 0, 8, 21, 4, 167, 0, 4, 29, 182, 0, 63, 172]
abbrev dktX8_let_2 : List UInt8 := dkwX8_let_2 ++ []
def dkwX8_let_1 : List UInt8 := [162, 0, 7, 27, 167, 0, 4, 28, 62, 27, 28, 162, 0, 7, 28, 167, 0, 4, 27, 54, 4, 42, 42]
abbrev dktX8_let_1 : List UInt8 := dkwX8_let_1 ++ dktX8_let_2
def dkwX8_let_0 : List UInt8 := [42, 3, 181, 0, 53, 42, 27, 28, 182, 1, 199, 154, 0, 9, 42, 4, 182, 0, 59, 172, 27, 28]
abbrev dktX8_let_0 : List UInt8 := dkwX8_let_0 ++ dktX8_let_1
theorem dksX8_let_0 : cX8_let.data.toList.drop 0 = dktX8_let_0 := by decide +kernel
theorem dksX8_let_1 : cX8_let.data.toList.drop 22 = dktX8_let_1 := dk_seg dksX8_let_0 22 rfl rfl
theorem dksX8_let_2 : cX8_let.data.toList.drop 45 = dktX8_let_2 := dk_seg dksX8_let_1 23 rfl rfl
theorem dX8_let_0 : decode cX8_let 0 = .ok (.aload_n 0, 1) := dk_42 (dk_at dksX8_let_0 0 rfl rfl)
theorem dX8_let_1 : decode cX8_let 1 = .ok (.iconst 0, 1) := dk_3 (dk_at dksX8_let_0 1 rfl rfl)
theorem dX8_let_2 : decode cX8_let 2 = .ok (.putfield 53, 3) := dk_181 0 53 (dk_at dksX8_let_0 2 rfl rfl)
theorem dX8_let_5 : decode cX8_let 5 = .ok (.aload_n 0, 1) := dk_42 (dk_at dksX8_let_0 5 rfl rfl)
theorem dX8_let_6 : decode cX8_let 6 = .ok (.iload_n 1, 1) := dk_27 (dk_at dksX8_let_0 6 rfl rfl)
theorem dX8_let_7 : decode cX8_let 7 = .ok (.iload_n 2, 1) := dk_28 (dk_at dksX8_let_0 7 rfl rfl)
theorem dX8_let_8 : decode cX8_let 8 = .ok (.invokevirtual 455, 3) := dk_182 1 199 (dk_at dksX8_let_0 8 rfl rfl)
theorem dX8_let_11 : decode cX8_let 11 = .ok (.ifCond .ne 9, 3) := dk_154 0 9 (dk_at dksX8_let_0 11 rfl rfl)
theorem dX8_let_14 : decode cX8_let 14 = .ok (.aload_n 0, 1) := dk_42 (dk_at dksX8_let_0 14 rfl rfl)
theorem dX8_let_15 : decode cX8_let 15 = .ok (.iconst 1, 1) := dk_4 (dk_at dksX8_let_0 15 rfl rfl)
theorem dX8_let_16 : decode cX8_let 16 = .ok (.invokevirtual 59, 3) := dk_182 0 59 (dk_at dksX8_let_0 16 rfl rfl)
theorem dX8_let_19 : decode cX8_let 19 = .ok (.ireturn, 1) := dk_172 (dk_at dksX8_let_0 19 rfl rfl)
theorem dX8_let_20 : decode cX8_let 20 = .ok (.iload_n 1, 1) := dk_27 (dk_at dksX8_let_0 20 rfl rfl)
theorem dX8_let_21 : decode cX8_let 21 = .ok (.iload_n 2, 1) := dk_28 (dk_at dksX8_let_0 21 rfl rfl)
theorem dX8_let_22 : decode cX8_let 22 = .ok (.if_icmp .ge 7, 3) := dk_162 0 7 (dk_at dksX8_let_1 0 rfl rfl)
theorem dX8_let_25 : decode cX8_let 25 = .ok (.iload_n 1, 1) := dk_27 (dk_at dksX8_let_1 3 rfl rfl)
theorem dX8_let_26 : decode cX8_let 26 = .ok (.goto 4, 3) := dk_167 0 4 (dk_at dksX8_let_1 4 rfl rfl)
theorem dX8_let_29 : decode cX8_let 29 = .ok (.iload_n 2, 1) := dk_28 (dk_at dksX8_let_1 7 rfl rfl)
theorem dX8_let_30 : decode cX8_let 30 = .ok (.istore_n 3, 1) := dk_62 (dk_at dksX8_let_1 8 rfl rfl)
theorem dX8_let_31 : decode cX8_let 31 = .ok (.iload_n 1, 1) := dk_27 (dk_at dksX8_let_1 9 rfl rfl)
theorem dX8_let_32 : decode cX8_let 32 = .ok (.iload_n 2, 1) := dk_28 (dk_at dksX8_let_1 10 rfl rfl)
theorem dX8_let_33 : decode cX8_let 33 = .ok (.if_icmp .ge 7, 3) := dk_162 0 7 (dk_at dksX8_let_1 11 rfl rfl)
theorem dX8_let_36 : decode cX8_let 36 = .ok (.iload_n 2, 1) := dk_28 (dk_at dksX8_let_1 14 rfl rfl)
theorem dX8_let_37 : decode cX8_let 37 = .ok (.goto 4, 3) := dk_167 0 4 (dk_at dksX8_let_1 15 rfl rfl)
theorem dX8_let_40 : decode cX8_let 40 = .ok (.iload_n 1, 1) := dk_27 (dk_at dksX8_let_1 18 rfl rfl)
theorem dX8_let_41 : decode cX8_let 41 = .ok (.istore 4, 2) := dk_54 4 (dk_at dksX8_let_1 19 rfl rfl)
theorem dX8_let_43 : decode cX8_let 43 = .ok (.aload_n 0, 1) := dk_42 (dk_at dksX8_let_1 21 rfl rfl)
theorem dX8_let_44 : decode cX8_let 44 = .ok (.aload_n 0, 1) := dk_42 (dk_at dksX8_let_1 22 rfl rfl)
theorem dX8_let_45 : decode cX8_let 45 = .ok (.iload 4, 2) := dk_21 4 (dk_at dksX8_let_2 0 rfl rfl)
theorem dX8_let_47 : decode cX8_let 47 = .ok (.invokevirtual 549, 3) := dk_182 2 37 (dk_at dksX8_let_2 2 rfl rfl)
theorem dX8_let_50 : decode cX8_let 50 = .ok (.aload_n 0, 1) := dk_42 (dk_at dksX8_let_2 5 rfl rfl)
theorem dX8_let_51 : decode cX8_let 51 = .ok (.iload_n 3, 1) := dk_29 (dk_at dksX8_let_2 6 rfl rfl)
theorem dX8_let_52 : decode cX8_let 52 = .ok (.invokevirtual 549, 3) := dk_182 2 37 (dk_at dksX8_let_2 7 rfl rfl)
theorem dX8_let_55 : decode cX8_let 55 = .ok (.if_icmp .le 8, 3) := dk_164 0 8 (dk_at dksX8_let_2 10 rfl rfl)
theorem dX8_let_58 : decode cX8_let 58 = .ok (.iload 4, 2) := dk_21 4 (dk_at dksX8_let_2 13 rfl rfl)
theorem dX8_let_60 : decode cX8_let 60 = .ok (.goto 4, 3) := dk_167 0 4 (dk_at dksX8_let_2 15 rfl rfl)
theorem dX8_let_63 : decode cX8_let 63 = .ok (.iload_n 3, 1) := dk_29 (dk_at dksX8_let_2 18 rfl rfl)
theorem dX8_let_64 : decode cX8_let 64 = .ok (.invokevirtual 63, 3) := dk_182 0 63 (dk_at dksX8_let_2 19 rfl rfl)
theorem dX8_let_67 : decode cX8_let 67 = .ok (.ireturn, 1) := dk_172 (dk_at dksX8_let_2 22 rfl rfl)
abbrev cX8_worthOf : ByteArray := prog_20_method_108_code
def yX8_worthOf : MethodName := ⟨RX8, "worthOf", "(I)I"⟩
def dkwX8_worthOf_0 : List UInt8 := [42, 180, 1, 117, 180, 1, 58, 27, 46, 42, 180, 1, 117, 180, 1, 75, 27, 46, 96, 172]
abbrev dktX8_worthOf_0 : List UInt8 := dkwX8_worthOf_0 ++ []
theorem dksX8_worthOf_0 : cX8_worthOf.data.toList.drop 0 = dktX8_worthOf_0 := by decide +kernel
theorem dX8_worthOf_0 : decode cX8_worthOf 0 = .ok (.aload_n 0, 1) := dk_42 (dk_at dksX8_worthOf_0 0 rfl rfl)
theorem dX8_worthOf_1 : decode cX8_worthOf 1 = .ok (.getfield 373, 3) := dk_180 1 117 (dk_at dksX8_worthOf_0 1 rfl rfl)
theorem dX8_worthOf_4 : decode cX8_worthOf 4 = .ok (.getfield 314, 3) := dk_180 1 58 (dk_at dksX8_worthOf_0 4 rfl rfl)
theorem dX8_worthOf_7 : decode cX8_worthOf 7 = .ok (.iload_n 1, 1) := dk_27 (dk_at dksX8_worthOf_0 7 rfl rfl)
theorem dX8_worthOf_8 : decode cX8_worthOf 8 = .ok (.iaload, 1) := dk_46 (dk_at dksX8_worthOf_0 8 rfl rfl)
theorem dX8_worthOf_9 : decode cX8_worthOf 9 = .ok (.aload_n 0, 1) := dk_42 (dk_at dksX8_worthOf_0 9 rfl rfl)
theorem dX8_worthOf_10 : decode cX8_worthOf 10 = .ok (.getfield 373, 3) := dk_180 1 117 (dk_at dksX8_worthOf_0 10 rfl rfl)
theorem dX8_worthOf_13 : decode cX8_worthOf 13 = .ok (.getfield 331, 3) := dk_180 1 75 (dk_at dksX8_worthOf_0 13 rfl rfl)
theorem dX8_worthOf_16 : decode cX8_worthOf 16 = .ok (.iload_n 1, 1) := dk_27 (dk_at dksX8_worthOf_0 16 rfl rfl)
theorem dX8_worthOf_17 : decode cX8_worthOf 17 = .ok (.iaload, 1) := dk_46 (dk_at dksX8_worthOf_0 17 rfl rfl)
theorem dX8_worthOf_18 : decode cX8_worthOf 18 = .ok (.iadd, 1) := dk_96 (dk_at dksX8_worthOf_0 18 rfl rfl)
theorem dX8_worthOf_19 : decode cX8_worthOf 19 = .ok (.ireturn, 1) := dk_172 (dk_at dksX8_worthOf_0 19 rfl rfl)
abbrev cX8_worth : ByteArray := prog_20_method_110_code
def yX8_worth : MethodName := ⟨RX8, "worth", "(I)I"⟩
def dkwX8_worth_1 : List UInt8 := [167, 0, 8, 42, 4, 182, 0, 59, 172]
abbrev dktX8_worth_1 : List UInt8 := dkwX8_worth_1 ++ []
def dkwX8_worth_0 : List UInt8 := [42, 3, 181, 0, 53, 42, 27, 182, 1, 185, 153, 0, 15, 42, 42, 27, 182, 2, 37, 182, 0, 63]
abbrev dktX8_worth_0 : List UInt8 := dkwX8_worth_0 ++ dktX8_worth_1
theorem dksX8_worth_0 : cX8_worth.data.toList.drop 0 = dktX8_worth_0 := by decide +kernel
theorem dksX8_worth_1 : cX8_worth.data.toList.drop 22 = dktX8_worth_1 := dk_seg dksX8_worth_0 22 rfl rfl
theorem dX8_worth_0 : decode cX8_worth 0 = .ok (.aload_n 0, 1) := dk_42 (dk_at dksX8_worth_0 0 rfl rfl)
theorem dX8_worth_1 : decode cX8_worth 1 = .ok (.iconst 0, 1) := dk_3 (dk_at dksX8_worth_0 1 rfl rfl)
theorem dX8_worth_2 : decode cX8_worth 2 = .ok (.putfield 53, 3) := dk_181 0 53 (dk_at dksX8_worth_0 2 rfl rfl)
theorem dX8_worth_5 : decode cX8_worth 5 = .ok (.aload_n 0, 1) := dk_42 (dk_at dksX8_worth_0 5 rfl rfl)
theorem dX8_worth_6 : decode cX8_worth 6 = .ok (.iload_n 1, 1) := dk_27 (dk_at dksX8_worth_0 6 rfl rfl)
theorem dX8_worth_7 : decode cX8_worth 7 = .ok (.invokevirtual 441, 3) := dk_182 1 185 (dk_at dksX8_worth_0 7 rfl rfl)
theorem dX8_worth_10 : decode cX8_worth 10 = .ok (.ifCond .eq 15, 3) := dk_153 0 15 (dk_at dksX8_worth_0 10 rfl rfl)
theorem dX8_worth_13 : decode cX8_worth 13 = .ok (.aload_n 0, 1) := dk_42 (dk_at dksX8_worth_0 13 rfl rfl)
theorem dX8_worth_14 : decode cX8_worth 14 = .ok (.aload_n 0, 1) := dk_42 (dk_at dksX8_worth_0 14 rfl rfl)
theorem dX8_worth_15 : decode cX8_worth 15 = .ok (.iload_n 1, 1) := dk_27 (dk_at dksX8_worth_0 15 rfl rfl)
theorem dX8_worth_16 : decode cX8_worth 16 = .ok (.invokevirtual 549, 3) := dk_182 2 37 (dk_at dksX8_worth_0 16 rfl rfl)
theorem dX8_worth_19 : decode cX8_worth 19 = .ok (.invokevirtual 63, 3) := dk_182 0 63 (dk_at dksX8_worth_0 19 rfl rfl)
theorem dX8_worth_22 : decode cX8_worth 22 = .ok (.goto 8, 3) := dk_167 0 8 (dk_at dksX8_worth_1 0 rfl rfl)
theorem dX8_worth_25 : decode cX8_worth 25 = .ok (.aload_n 0, 1) := dk_42 (dk_at dksX8_worth_1 3 rfl rfl)
theorem dX8_worth_26 : decode cX8_worth 26 = .ok (.iconst 1, 1) := dk_4 (dk_at dksX8_worth_1 4 rfl rfl)
theorem dX8_worth_27 : decode cX8_worth 27 = .ok (.invokevirtual 59, 3) := dk_182 0 59 (dk_at dksX8_worth_1 5 rfl rfl)
theorem dX8_worth_30 : decode cX8_worth 30 = .ok (.ireturn, 1) := dk_172 (dk_at dksX8_worth_1 8 rfl rfl)
abbrev cX8_knob : ByteArray := prog_20_method_113_code
def yX8_knob : MethodName := ⟨RX8, "knob", "(I)I"⟩
def dkwX8_knob_1 : List UInt8 := [167, 0, 8, 42, 4, 182, 0, 59, 172]
abbrev dktX8_knob_1 : List UInt8 := dkwX8_knob_1 ++ []
def dkwX8_knob_0 : List UInt8 := [42, 3, 181, 0, 53, 42, 27, 182, 2, 43, 153, 0, 15, 42, 42, 27, 182, 2, 46, 182, 0, 63]
abbrev dktX8_knob_0 : List UInt8 := dkwX8_knob_0 ++ dktX8_knob_1
theorem dksX8_knob_0 : cX8_knob.data.toList.drop 0 = dktX8_knob_0 := by decide +kernel
theorem dksX8_knob_1 : cX8_knob.data.toList.drop 22 = dktX8_knob_1 := dk_seg dksX8_knob_0 22 rfl rfl
theorem dX8_knob_0 : decode cX8_knob 0 = .ok (.aload_n 0, 1) := dk_42 (dk_at dksX8_knob_0 0 rfl rfl)
theorem dX8_knob_1 : decode cX8_knob 1 = .ok (.iconst 0, 1) := dk_3 (dk_at dksX8_knob_0 1 rfl rfl)
theorem dX8_knob_2 : decode cX8_knob 2 = .ok (.putfield 53, 3) := dk_181 0 53 (dk_at dksX8_knob_0 2 rfl rfl)
theorem dX8_knob_5 : decode cX8_knob 5 = .ok (.aload_n 0, 1) := dk_42 (dk_at dksX8_knob_0 5 rfl rfl)
theorem dX8_knob_6 : decode cX8_knob 6 = .ok (.iload_n 1, 1) := dk_27 (dk_at dksX8_knob_0 6 rfl rfl)
theorem dX8_knob_7 : decode cX8_knob 7 = .ok (.invokevirtual 555, 3) := dk_182 2 43 (dk_at dksX8_knob_0 7 rfl rfl)
theorem dX8_knob_10 : decode cX8_knob 10 = .ok (.ifCond .eq 15, 3) := dk_153 0 15 (dk_at dksX8_knob_0 10 rfl rfl)
theorem dX8_knob_13 : decode cX8_knob 13 = .ok (.aload_n 0, 1) := dk_42 (dk_at dksX8_knob_0 13 rfl rfl)
theorem dX8_knob_14 : decode cX8_knob 14 = .ok (.aload_n 0, 1) := dk_42 (dk_at dksX8_knob_0 14 rfl rfl)
theorem dX8_knob_15 : decode cX8_knob 15 = .ok (.iload_n 1, 1) := dk_27 (dk_at dksX8_knob_0 15 rfl rfl)
theorem dX8_knob_16 : decode cX8_knob 16 = .ok (.invokevirtual 558, 3) := dk_182 2 46 (dk_at dksX8_knob_0 16 rfl rfl)
theorem dX8_knob_19 : decode cX8_knob 19 = .ok (.invokevirtual 63, 3) := dk_182 0 63 (dk_at dksX8_knob_0 19 rfl rfl)
theorem dX8_knob_22 : decode cX8_knob 22 = .ok (.goto 8, 3) := dk_167 0 8 (dk_at dksX8_knob_1 0 rfl rfl)
theorem dX8_knob_25 : decode cX8_knob 25 = .ok (.aload_n 0, 1) := dk_42 (dk_at dksX8_knob_1 3 rfl rfl)
theorem dX8_knob_26 : decode cX8_knob 26 = .ok (.iconst 1, 1) := dk_4 (dk_at dksX8_knob_1 4 rfl rfl)
theorem dX8_knob_27 : decode cX8_knob 27 = .ok (.invokevirtual 59, 3) := dk_182 0 59 (dk_at dksX8_knob_1 5 rfl rfl)
theorem dX8_knob_30 : decode cX8_knob 30 = .ok (.ireturn, 1) := dk_172 (dk_at dksX8_knob_1 8 rfl rfl)
abbrev cX8_isPiece : ByteArray := prog_20_method_112_code
def yX8_isPiece : MethodName := ⟨RX8, "isPiece", "(I)Z"⟩
def dkwX8_isPiece_1 : List UInt8 := [167, 0, 4, 3, 172]
abbrev dktX8_isPiece_1 : List UInt8 := dkwX8_isPiece_1 ++ []
def dkwX8_isPiece_0 : List UInt8 := [42, 180, 1, 117, 198, 0, 22, 27, 155, 0, 18, 27, 42, 180, 1, 117, 180, 1, 93, 162, 0, 7, 4]
abbrev dktX8_isPiece_0 : List UInt8 := dkwX8_isPiece_0 ++ dktX8_isPiece_1
theorem dksX8_isPiece_0 : cX8_isPiece.data.toList.drop 0 = dktX8_isPiece_0 := by decide +kernel
theorem dksX8_isPiece_1 : cX8_isPiece.data.toList.drop 23 = dktX8_isPiece_1 := dk_seg dksX8_isPiece_0 23 rfl rfl
theorem dX8_isPiece_0 : decode cX8_isPiece 0 = .ok (.aload_n 0, 1) := dk_42 (dk_at dksX8_isPiece_0 0 rfl rfl)
theorem dX8_isPiece_1 : decode cX8_isPiece 1 = .ok (.getfield 373, 3) := dk_180 1 117 (dk_at dksX8_isPiece_0 1 rfl rfl)
theorem dX8_isPiece_4 : decode cX8_isPiece 4 = .ok (.ifnull 22, 3) := dk_198 0 22 (dk_at dksX8_isPiece_0 4 rfl rfl)
theorem dX8_isPiece_7 : decode cX8_isPiece 7 = .ok (.iload_n 1, 1) := dk_27 (dk_at dksX8_isPiece_0 7 rfl rfl)
theorem dX8_isPiece_8 : decode cX8_isPiece 8 = .ok (.ifCond .lt 18, 3) := dk_155 0 18 (dk_at dksX8_isPiece_0 8 rfl rfl)
theorem dX8_isPiece_11 : decode cX8_isPiece 11 = .ok (.iload_n 1, 1) := dk_27 (dk_at dksX8_isPiece_0 11 rfl rfl)
theorem dX8_isPiece_12 : decode cX8_isPiece 12 = .ok (.aload_n 0, 1) := dk_42 (dk_at dksX8_isPiece_0 12 rfl rfl)
theorem dX8_isPiece_13 : decode cX8_isPiece 13 = .ok (.getfield 373, 3) := dk_180 1 117 (dk_at dksX8_isPiece_0 13 rfl rfl)
theorem dX8_isPiece_16 : decode cX8_isPiece 16 = .ok (.getfield 349, 3) := dk_180 1 93 (dk_at dksX8_isPiece_0 16 rfl rfl)
theorem dX8_isPiece_19 : decode cX8_isPiece 19 = .ok (.if_icmp .ge 7, 3) := dk_162 0 7 (dk_at dksX8_isPiece_0 19 rfl rfl)
theorem dX8_isPiece_22 : decode cX8_isPiece 22 = .ok (.iconst 1, 1) := dk_4 (dk_at dksX8_isPiece_0 22 rfl rfl)
theorem dX8_isPiece_23 : decode cX8_isPiece 23 = .ok (.goto 4, 3) := dk_167 0 4 (dk_at dksX8_isPiece_1 0 rfl rfl)
theorem dX8_isPiece_26 : decode cX8_isPiece 26 = .ok (.iconst 0, 1) := dk_3 (dk_at dksX8_isPiece_1 3 rfl rfl)
theorem dX8_isPiece_27 : decode cX8_isPiece 27 = .ok (.ireturn, 1) := dk_172 (dk_at dksX8_isPiece_1 4 rfl rfl)
abbrev cX8_knobs : ByteArray := prog_20_method_111_code
def yX8_knobs : MethodName := ⟨RX8, "knobs", "(I)I"⟩
def dkwX8_knobs_6 : List UInt8 := [167, 255, 155, 132, 4, 1, 167, 255, 134, 132, 3, 1, 167, 255, 114, 28, 172]
abbrev dktX8_knobs_6 : List UInt8 := dkwX8_knobs_6 ++ []
def dkwX8_knobs_5 : List UInt8 := [21, 6, 154, 0, 8, 21, 4, 167, 0, 5, 21, 5, 120, 128, 181, 2, 40, 132, 2, 1, 132, 5, 1]
abbrev dktX8_knobs_5 : List UInt8 := dkwX8_knobs_5 ++ dktX8_knobs_6
def dkwX8_knobs_4 : List UInt8 := [180, 1, 171, 42, 180, 1, 117, 180, 1, 99, 27, 46, 159, 0, 6, 167, 0, 29, 42, 89, 180, 2, 40, 4]
abbrev dktX8_knobs_4 : List UInt8 := dkwX8_knobs_4 ++ dktX8_knobs_5
def dkwX8_knobs_3 : List UInt8 := [182, 1, 177, 54, 6, 42, 180, 1, 163, 42, 180, 1, 117, 180, 1, 96, 27, 46, 160, 0, 48, 42]
abbrev dktX8_knobs_3 : List UInt8 := dkwX8_knobs_3 ++ dktX8_knobs_4
def dkwX8_knobs_2 : List UInt8 := [162, 0, 95, 21, 4, 21, 5, 160, 0, 6, 167, 0, 79, 42, 29, 21, 4, 21, 5, 182, 1, 233, 42]
abbrev dktX8_knobs_2 : List UInt8 := dkwX8_knobs_2 ++ dktX8_knobs_3
def dkwX8_knobs_1 : List UInt8 := [21, 4, 42, 180, 1, 117, 180, 0, 213, 162, 0, 116, 3, 54, 5, 21, 5, 42, 180, 1, 117, 180, 0, 213]
abbrev dktX8_knobs_1 : List UInt8 := dkwX8_knobs_1 ++ dktX8_knobs_2
def dkwX8_knobs_0 : List UInt8 := [3, 61, 42, 3, 181, 2, 40, 3, 62, 29, 42, 180, 1, 117, 180, 0, 210, 162, 0, 137, 3, 54, 4]
abbrev dktX8_knobs_0 : List UInt8 := dkwX8_knobs_0 ++ dktX8_knobs_1
theorem dksX8_knobs_0 : cX8_knobs.data.toList.drop 0 = dktX8_knobs_0 := by decide +kernel
theorem dksX8_knobs_1 : cX8_knobs.data.toList.drop 23 = dktX8_knobs_1 := dk_seg dksX8_knobs_0 23 rfl rfl
theorem dksX8_knobs_2 : cX8_knobs.data.toList.drop 47 = dktX8_knobs_2 := dk_seg dksX8_knobs_1 24 rfl rfl
theorem dksX8_knobs_3 : cX8_knobs.data.toList.drop 70 = dktX8_knobs_3 := dk_seg dksX8_knobs_2 23 rfl rfl
theorem dksX8_knobs_4 : cX8_knobs.data.toList.drop 92 = dktX8_knobs_4 := dk_seg dksX8_knobs_3 22 rfl rfl
theorem dksX8_knobs_5 : cX8_knobs.data.toList.drop 116 = dktX8_knobs_5 := dk_seg dksX8_knobs_4 24 rfl rfl
theorem dksX8_knobs_6 : cX8_knobs.data.toList.drop 139 = dktX8_knobs_6 := dk_seg dksX8_knobs_5 23 rfl rfl
theorem dX8_knobs_0 : decode cX8_knobs 0 = .ok (.iconst 0, 1) := dk_3 (dk_at dksX8_knobs_0 0 rfl rfl)
theorem dX8_knobs_1 : decode cX8_knobs 1 = .ok (.istore_n 2, 1) := dk_61 (dk_at dksX8_knobs_0 1 rfl rfl)
theorem dX8_knobs_2 : decode cX8_knobs 2 = .ok (.aload_n 0, 1) := dk_42 (dk_at dksX8_knobs_0 2 rfl rfl)
theorem dX8_knobs_3 : decode cX8_knobs 3 = .ok (.iconst 0, 1) := dk_3 (dk_at dksX8_knobs_0 3 rfl rfl)
theorem dX8_knobs_4 : decode cX8_knobs 4 = .ok (.putfield 552, 3) := dk_181 2 40 (dk_at dksX8_knobs_0 4 rfl rfl)
theorem dX8_knobs_7 : decode cX8_knobs 7 = .ok (.iconst 0, 1) := dk_3 (dk_at dksX8_knobs_0 7 rfl rfl)
theorem dX8_knobs_8 : decode cX8_knobs 8 = .ok (.istore_n 3, 1) := dk_62 (dk_at dksX8_knobs_0 8 rfl rfl)
theorem dX8_knobs_9 : decode cX8_knobs 9 = .ok (.iload_n 3, 1) := dk_29 (dk_at dksX8_knobs_0 9 rfl rfl)
theorem dX8_knobs_10 : decode cX8_knobs 10 = .ok (.aload_n 0, 1) := dk_42 (dk_at dksX8_knobs_0 10 rfl rfl)
theorem dX8_knobs_11 : decode cX8_knobs 11 = .ok (.getfield 373, 3) := dk_180 1 117 (dk_at dksX8_knobs_0 11 rfl rfl)
theorem dX8_knobs_14 : decode cX8_knobs 14 = .ok (.getfield 210, 3) := dk_180 0 210 (dk_at dksX8_knobs_0 14 rfl rfl)
theorem dX8_knobs_17 : decode cX8_knobs 17 = .ok (.if_icmp .ge 137, 3) := dk_162 0 137 (dk_at dksX8_knobs_0 17 rfl rfl)
theorem dX8_knobs_20 : decode cX8_knobs 20 = .ok (.iconst 0, 1) := dk_3 (dk_at dksX8_knobs_0 20 rfl rfl)
theorem dX8_knobs_21 : decode cX8_knobs 21 = .ok (.istore 4, 2) := dk_54 4 (dk_at dksX8_knobs_0 21 rfl rfl)
theorem dX8_knobs_23 : decode cX8_knobs 23 = .ok (.iload 4, 2) := dk_21 4 (dk_at dksX8_knobs_1 0 rfl rfl)
theorem dX8_knobs_25 : decode cX8_knobs 25 = .ok (.aload_n 0, 1) := dk_42 (dk_at dksX8_knobs_1 2 rfl rfl)
theorem dX8_knobs_26 : decode cX8_knobs 26 = .ok (.getfield 373, 3) := dk_180 1 117 (dk_at dksX8_knobs_1 3 rfl rfl)
theorem dX8_knobs_29 : decode cX8_knobs 29 = .ok (.getfield 213, 3) := dk_180 0 213 (dk_at dksX8_knobs_1 6 rfl rfl)
theorem dX8_knobs_32 : decode cX8_knobs 32 = .ok (.if_icmp .ge 116, 3) := dk_162 0 116 (dk_at dksX8_knobs_1 9 rfl rfl)
theorem dX8_knobs_35 : decode cX8_knobs 35 = .ok (.iconst 0, 1) := dk_3 (dk_at dksX8_knobs_1 12 rfl rfl)
theorem dX8_knobs_36 : decode cX8_knobs 36 = .ok (.istore 5, 2) := dk_54 5 (dk_at dksX8_knobs_1 13 rfl rfl)
theorem dX8_knobs_38 : decode cX8_knobs 38 = .ok (.iload 5, 2) := dk_21 5 (dk_at dksX8_knobs_1 15 rfl rfl)
theorem dX8_knobs_40 : decode cX8_knobs 40 = .ok (.aload_n 0, 1) := dk_42 (dk_at dksX8_knobs_1 17 rfl rfl)
theorem dX8_knobs_41 : decode cX8_knobs 41 = .ok (.getfield 373, 3) := dk_180 1 117 (dk_at dksX8_knobs_1 18 rfl rfl)
theorem dX8_knobs_44 : decode cX8_knobs 44 = .ok (.getfield 213, 3) := dk_180 0 213 (dk_at dksX8_knobs_1 21 rfl rfl)
theorem dX8_knobs_47 : decode cX8_knobs 47 = .ok (.if_icmp .ge 95, 3) := dk_162 0 95 (dk_at dksX8_knobs_2 0 rfl rfl)
theorem dX8_knobs_50 : decode cX8_knobs 50 = .ok (.iload 4, 2) := dk_21 4 (dk_at dksX8_knobs_2 3 rfl rfl)
theorem dX8_knobs_52 : decode cX8_knobs 52 = .ok (.iload 5, 2) := dk_21 5 (dk_at dksX8_knobs_2 5 rfl rfl)
theorem dX8_knobs_54 : decode cX8_knobs 54 = .ok (.if_icmp .ne 6, 3) := dk_160 0 6 (dk_at dksX8_knobs_2 7 rfl rfl)
theorem dX8_knobs_57 : decode cX8_knobs 57 = .ok (.goto 79, 3) := dk_167 0 79 (dk_at dksX8_knobs_2 10 rfl rfl)
theorem dX8_knobs_60 : decode cX8_knobs 60 = .ok (.aload_n 0, 1) := dk_42 (dk_at dksX8_knobs_2 13 rfl rfl)
theorem dX8_knobs_61 : decode cX8_knobs 61 = .ok (.iload_n 3, 1) := dk_29 (dk_at dksX8_knobs_2 14 rfl rfl)
theorem dX8_knobs_62 : decode cX8_knobs 62 = .ok (.iload 4, 2) := dk_21 4 (dk_at dksX8_knobs_2 15 rfl rfl)
theorem dX8_knobs_64 : decode cX8_knobs 64 = .ok (.iload 5, 2) := dk_21 5 (dk_at dksX8_knobs_2 17 rfl rfl)
theorem dX8_knobs_66 : decode cX8_knobs 66 = .ok (.invokevirtual 489, 3) := dk_182 1 233 (dk_at dksX8_knobs_2 19 rfl rfl)
theorem dX8_knobs_69 : decode cX8_knobs 69 = .ok (.aload_n 0, 1) := dk_42 (dk_at dksX8_knobs_2 22 rfl rfl)
theorem dX8_knobs_70 : decode cX8_knobs 70 = .ok (.invokevirtual 433, 3) := dk_182 1 177 (dk_at dksX8_knobs_3 0 rfl rfl)
theorem dX8_knobs_73 : decode cX8_knobs 73 = .ok (.istore 6, 2) := dk_54 6 (dk_at dksX8_knobs_3 3 rfl rfl)
theorem dX8_knobs_75 : decode cX8_knobs 75 = .ok (.aload_n 0, 1) := dk_42 (dk_at dksX8_knobs_3 5 rfl rfl)
theorem dX8_knobs_76 : decode cX8_knobs 76 = .ok (.getfield 419, 3) := dk_180 1 163 (dk_at dksX8_knobs_3 6 rfl rfl)
theorem dX8_knobs_79 : decode cX8_knobs 79 = .ok (.aload_n 0, 1) := dk_42 (dk_at dksX8_knobs_3 9 rfl rfl)
theorem dX8_knobs_80 : decode cX8_knobs 80 = .ok (.getfield 373, 3) := dk_180 1 117 (dk_at dksX8_knobs_3 10 rfl rfl)
theorem dX8_knobs_83 : decode cX8_knobs 83 = .ok (.getfield 352, 3) := dk_180 1 96 (dk_at dksX8_knobs_3 13 rfl rfl)
theorem dX8_knobs_86 : decode cX8_knobs 86 = .ok (.iload_n 1, 1) := dk_27 (dk_at dksX8_knobs_3 16 rfl rfl)
theorem dX8_knobs_87 : decode cX8_knobs 87 = .ok (.iaload, 1) := dk_46 (dk_at dksX8_knobs_3 17 rfl rfl)
theorem dX8_knobs_88 : decode cX8_knobs 88 = .ok (.if_icmp .ne 48, 3) := dk_160 0 48 (dk_at dksX8_knobs_3 18 rfl rfl)
theorem dX8_knobs_91 : decode cX8_knobs 91 = .ok (.aload_n 0, 1) := dk_42 (dk_at dksX8_knobs_3 21 rfl rfl)
theorem dX8_knobs_92 : decode cX8_knobs 92 = .ok (.getfield 427, 3) := dk_180 1 171 (dk_at dksX8_knobs_4 0 rfl rfl)
theorem dX8_knobs_95 : decode cX8_knobs 95 = .ok (.aload_n 0, 1) := dk_42 (dk_at dksX8_knobs_4 3 rfl rfl)
theorem dX8_knobs_96 : decode cX8_knobs 96 = .ok (.getfield 373, 3) := dk_180 1 117 (dk_at dksX8_knobs_4 4 rfl rfl)
theorem dX8_knobs_99 : decode cX8_knobs 99 = .ok (.getfield 355, 3) := dk_180 1 99 (dk_at dksX8_knobs_4 7 rfl rfl)
theorem dX8_knobs_102 : decode cX8_knobs 102 = .ok (.iload_n 1, 1) := dk_27 (dk_at dksX8_knobs_4 10 rfl rfl)
theorem dX8_knobs_103 : decode cX8_knobs 103 = .ok (.iaload, 1) := dk_46 (dk_at dksX8_knobs_4 11 rfl rfl)
theorem dX8_knobs_104 : decode cX8_knobs 104 = .ok (.if_icmp .eq 6, 3) := dk_159 0 6 (dk_at dksX8_knobs_4 12 rfl rfl)
theorem dX8_knobs_107 : decode cX8_knobs 107 = .ok (.goto 29, 3) := dk_167 0 29 (dk_at dksX8_knobs_4 15 rfl rfl)
theorem dX8_knobs_110 : decode cX8_knobs 110 = .ok (.aload_n 0, 1) := dk_42 (dk_at dksX8_knobs_4 18 rfl rfl)
theorem dX8_knobs_111 : decode cX8_knobs 111 = .ok (.dup, 1) := dk_89 (dk_at dksX8_knobs_4 19 rfl rfl)
theorem dX8_knobs_112 : decode cX8_knobs 112 = .ok (.getfield 552, 3) := dk_180 2 40 (dk_at dksX8_knobs_4 20 rfl rfl)
theorem dX8_knobs_115 : decode cX8_knobs 115 = .ok (.iconst 1, 1) := dk_4 (dk_at dksX8_knobs_4 23 rfl rfl)
theorem dX8_knobs_116 : decode cX8_knobs 116 = .ok (.iload 6, 2) := dk_21 6 (dk_at dksX8_knobs_5 0 rfl rfl)
theorem dX8_knobs_118 : decode cX8_knobs 118 = .ok (.ifCond .ne 8, 3) := dk_154 0 8 (dk_at dksX8_knobs_5 2 rfl rfl)
theorem dX8_knobs_121 : decode cX8_knobs 121 = .ok (.iload 4, 2) := dk_21 4 (dk_at dksX8_knobs_5 5 rfl rfl)
theorem dX8_knobs_123 : decode cX8_knobs 123 = .ok (.goto 5, 3) := dk_167 0 5 (dk_at dksX8_knobs_5 7 rfl rfl)
theorem dX8_knobs_126 : decode cX8_knobs 126 = .ok (.iload 5, 2) := dk_21 5 (dk_at dksX8_knobs_5 10 rfl rfl)
theorem dX8_knobs_128 : decode cX8_knobs 128 = .ok (.ishl, 1) := dk_120 (dk_at dksX8_knobs_5 12 rfl rfl)
theorem dX8_knobs_129 : decode cX8_knobs 129 = .ok (.ior, 1) := dk_128 (dk_at dksX8_knobs_5 13 rfl rfl)
theorem dX8_knobs_130 : decode cX8_knobs 130 = .ok (.putfield 552, 3) := dk_181 2 40 (dk_at dksX8_knobs_5 14 rfl rfl)
theorem dX8_knobs_133 : decode cX8_knobs 133 = .ok (.iinc 2 1, 3) := dk_132 2 1 (dk_at dksX8_knobs_5 17 rfl rfl)
theorem dX8_knobs_136 : decode cX8_knobs 136 = .ok (.iinc 5 1, 3) := dk_132 5 1 (dk_at dksX8_knobs_5 20 rfl rfl)
theorem dX8_knobs_139 : decode cX8_knobs 139 = .ok (.goto (-101), 3) := dk_167 255 155 (dk_at dksX8_knobs_6 0 rfl rfl)
theorem dX8_knobs_142 : decode cX8_knobs 142 = .ok (.iinc 4 1, 3) := dk_132 4 1 (dk_at dksX8_knobs_6 3 rfl rfl)
theorem dX8_knobs_145 : decode cX8_knobs 145 = .ok (.goto (-122), 3) := dk_167 255 134 (dk_at dksX8_knobs_6 6 rfl rfl)
theorem dX8_knobs_148 : decode cX8_knobs 148 = .ok (.iinc 3 1, 3) := dk_132 3 1 (dk_at dksX8_knobs_6 9 rfl rfl)
theorem dX8_knobs_151 : decode cX8_knobs 151 = .ok (.goto (-142), 3) := dk_167 255 114 (dk_at dksX8_knobs_6 12 rfl rfl)
theorem dX8_knobs_154 : decode cX8_knobs 154 = .ok (.iload_n 2, 1) := dk_28 (dk_at dksX8_knobs_6 15 rfl rfl)
theorem dX8_knobs_155 : decode cX8_knobs 155 = .ok (.ireturn, 1) := dk_172 (dk_at dksX8_knobs_6 16 rfl rfl)
abbrev cX8_owners : ByteArray := prog_20_method_114_code
def yX8_owners : MethodName := ⟨RX8, "owners", "(I)I"⟩
def dkwX8_owners_1 : List UInt8 := [87, 42, 42, 180, 2, 40, 182, 0, 63, 172]
abbrev dktX8_owners_1 : List UInt8 := dkwX8_owners_1 ++ []
def dkwX8_owners_0 : List UInt8 := [42, 3, 181, 0, 53, 42, 27, 182, 2, 43, 154, 0, 9, 42, 4, 182, 0, 59, 172, 42, 27, 182, 2, 46]
abbrev dktX8_owners_0 : List UInt8 := dkwX8_owners_0 ++ dktX8_owners_1
theorem dksX8_owners_0 : cX8_owners.data.toList.drop 0 = dktX8_owners_0 := by decide +kernel
theorem dksX8_owners_1 : cX8_owners.data.toList.drop 24 = dktX8_owners_1 := dk_seg dksX8_owners_0 24 rfl rfl
theorem dX8_owners_0 : decode cX8_owners 0 = .ok (.aload_n 0, 1) := dk_42 (dk_at dksX8_owners_0 0 rfl rfl)
theorem dX8_owners_1 : decode cX8_owners 1 = .ok (.iconst 0, 1) := dk_3 (dk_at dksX8_owners_0 1 rfl rfl)
theorem dX8_owners_2 : decode cX8_owners 2 = .ok (.putfield 53, 3) := dk_181 0 53 (dk_at dksX8_owners_0 2 rfl rfl)
theorem dX8_owners_5 : decode cX8_owners 5 = .ok (.aload_n 0, 1) := dk_42 (dk_at dksX8_owners_0 5 rfl rfl)
theorem dX8_owners_6 : decode cX8_owners 6 = .ok (.iload_n 1, 1) := dk_27 (dk_at dksX8_owners_0 6 rfl rfl)
theorem dX8_owners_7 : decode cX8_owners 7 = .ok (.invokevirtual 555, 3) := dk_182 2 43 (dk_at dksX8_owners_0 7 rfl rfl)
theorem dX8_owners_10 : decode cX8_owners 10 = .ok (.ifCond .ne 9, 3) := dk_154 0 9 (dk_at dksX8_owners_0 10 rfl rfl)
theorem dX8_owners_13 : decode cX8_owners 13 = .ok (.aload_n 0, 1) := dk_42 (dk_at dksX8_owners_0 13 rfl rfl)
theorem dX8_owners_14 : decode cX8_owners 14 = .ok (.iconst 1, 1) := dk_4 (dk_at dksX8_owners_0 14 rfl rfl)
theorem dX8_owners_15 : decode cX8_owners 15 = .ok (.invokevirtual 59, 3) := dk_182 0 59 (dk_at dksX8_owners_0 15 rfl rfl)
theorem dX8_owners_18 : decode cX8_owners 18 = .ok (.ireturn, 1) := dk_172 (dk_at dksX8_owners_0 18 rfl rfl)
theorem dX8_owners_19 : decode cX8_owners 19 = .ok (.aload_n 0, 1) := dk_42 (dk_at dksX8_owners_0 19 rfl rfl)
theorem dX8_owners_20 : decode cX8_owners 20 = .ok (.iload_n 1, 1) := dk_27 (dk_at dksX8_owners_0 20 rfl rfl)
theorem dX8_owners_21 : decode cX8_owners 21 = .ok (.invokevirtual 558, 3) := dk_182 2 46 (dk_at dksX8_owners_0 21 rfl rfl)
theorem dX8_owners_24 : decode cX8_owners 24 = .ok (.pop, 1) := dk_87 (dk_at dksX8_owners_1 0 rfl rfl)
theorem dX8_owners_25 : decode cX8_owners 25 = .ok (.aload_n 0, 1) := dk_42 (dk_at dksX8_owners_1 1 rfl rfl)
theorem dX8_owners_26 : decode cX8_owners 26 = .ok (.aload_n 0, 1) := dk_42 (dk_at dksX8_owners_1 2 rfl rfl)
theorem dX8_owners_27 : decode cX8_owners 27 = .ok (.getfield 552, 3) := dk_180 2 40 (dk_at dksX8_owners_1 3 rfl rfl)
theorem dX8_owners_30 : decode cX8_owners 30 = .ok (.invokevirtual 63, 3) := dk_182 0 63 (dk_at dksX8_owners_1 6 rfl rfl)
theorem dX8_owners_33 : decode cX8_owners 33 = .ok (.ireturn, 1) := dk_172 (dk_at dksX8_owners_1 9 rfl rfl)
abbrev cX8_wins : ByteArray := prog_20_method_119_code
def yX8_wins : MethodName := ⟨RX8, "wins", "(III)I"⟩
def dkwX8_wins_1 : List UInt8 := [21, 4, 182, 0, 59, 172, 42, 28, 29, 182, 2, 75, 42, 42, 180, 0, 50, 27, 46, 182, 0, 63, 172]
abbrev dktX8_wins_1 : List UInt8 := dkwX8_wins_1 ++ []
def dkwX8_wins_0 : List UInt8 := [42, 3, 181, 0, 53, 42, 42, 27, 182, 1, 185, 28, 29, 182, 2, 71, 54, 4, 21, 4, 158, 0, 10, 42]
abbrev dktX8_wins_0 : List UInt8 := dkwX8_wins_0 ++ dktX8_wins_1
theorem dksX8_wins_0 : cX8_wins.data.toList.drop 0 = dktX8_wins_0 := by decide +kernel
theorem dksX8_wins_1 : cX8_wins.data.toList.drop 24 = dktX8_wins_1 := dk_seg dksX8_wins_0 24 rfl rfl
theorem dX8_wins_0 : decode cX8_wins 0 = .ok (.aload_n 0, 1) := dk_42 (dk_at dksX8_wins_0 0 rfl rfl)
theorem dX8_wins_1 : decode cX8_wins 1 = .ok (.iconst 0, 1) := dk_3 (dk_at dksX8_wins_0 1 rfl rfl)
theorem dX8_wins_2 : decode cX8_wins 2 = .ok (.putfield 53, 3) := dk_181 0 53 (dk_at dksX8_wins_0 2 rfl rfl)
theorem dX8_wins_5 : decode cX8_wins 5 = .ok (.aload_n 0, 1) := dk_42 (dk_at dksX8_wins_0 5 rfl rfl)
theorem dX8_wins_6 : decode cX8_wins 6 = .ok (.aload_n 0, 1) := dk_42 (dk_at dksX8_wins_0 6 rfl rfl)
theorem dX8_wins_7 : decode cX8_wins 7 = .ok (.iload_n 1, 1) := dk_27 (dk_at dksX8_wins_0 7 rfl rfl)
theorem dX8_wins_8 : decode cX8_wins 8 = .ok (.invokevirtual 441, 3) := dk_182 1 185 (dk_at dksX8_wins_0 8 rfl rfl)
theorem dX8_wins_11 : decode cX8_wins 11 = .ok (.iload_n 2, 1) := dk_28 (dk_at dksX8_wins_0 11 rfl rfl)
theorem dX8_wins_12 : decode cX8_wins 12 = .ok (.iload_n 3, 1) := dk_29 (dk_at dksX8_wins_0 12 rfl rfl)
theorem dX8_wins_13 : decode cX8_wins 13 = .ok (.invokevirtual 583, 3) := dk_182 2 71 (dk_at dksX8_wins_0 13 rfl rfl)
theorem dX8_wins_16 : decode cX8_wins 16 = .ok (.istore 4, 2) := dk_54 4 (dk_at dksX8_wins_0 16 rfl rfl)
theorem dX8_wins_18 : decode cX8_wins 18 = .ok (.iload 4, 2) := dk_21 4 (dk_at dksX8_wins_0 18 rfl rfl)
theorem dX8_wins_20 : decode cX8_wins 20 = .ok (.ifCond .le 10, 3) := dk_158 0 10 (dk_at dksX8_wins_0 20 rfl rfl)
theorem dX8_wins_23 : decode cX8_wins 23 = .ok (.aload_n 0, 1) := dk_42 (dk_at dksX8_wins_0 23 rfl rfl)
theorem dX8_wins_24 : decode cX8_wins 24 = .ok (.iload 4, 2) := dk_21 4 (dk_at dksX8_wins_1 0 rfl rfl)
theorem dX8_wins_26 : decode cX8_wins 26 = .ok (.invokevirtual 59, 3) := dk_182 0 59 (dk_at dksX8_wins_1 2 rfl rfl)
theorem dX8_wins_29 : decode cX8_wins 29 = .ok (.ireturn, 1) := dk_172 (dk_at dksX8_wins_1 5 rfl rfl)
theorem dX8_wins_30 : decode cX8_wins 30 = .ok (.aload_n 0, 1) := dk_42 (dk_at dksX8_wins_1 6 rfl rfl)
theorem dX8_wins_31 : decode cX8_wins 31 = .ok (.iload_n 2, 1) := dk_28 (dk_at dksX8_wins_1 7 rfl rfl)
theorem dX8_wins_32 : decode cX8_wins 32 = .ok (.iload_n 3, 1) := dk_29 (dk_at dksX8_wins_1 8 rfl rfl)
theorem dX8_wins_33 : decode cX8_wins 33 = .ok (.invokevirtual 587, 3) := dk_182 2 75 (dk_at dksX8_wins_1 9 rfl rfl)
theorem dX8_wins_36 : decode cX8_wins 36 = .ok (.aload_n 0, 1) := dk_42 (dk_at dksX8_wins_1 12 rfl rfl)
theorem dX8_wins_37 : decode cX8_wins 37 = .ok (.aload_n 0, 1) := dk_42 (dk_at dksX8_wins_1 13 rfl rfl)
theorem dX8_wins_38 : decode cX8_wins 38 = .ok (.getfield 50, 3) := dk_180 0 50 (dk_at dksX8_wins_1 14 rfl rfl)
theorem dX8_wins_41 : decode cX8_wins 41 = .ok (.iload_n 1, 1) := dk_27 (dk_at dksX8_wins_1 17 rfl rfl)
theorem dX8_wins_42 : decode cX8_wins 42 = .ok (.iaload, 1) := dk_46 (dk_at dksX8_wins_1 18 rfl rfl)
theorem dX8_wins_43 : decode cX8_wins 43 = .ok (.invokevirtual 63, 3) := dk_182 0 63 (dk_at dksX8_wins_1 19 rfl rfl)
theorem dX8_wins_46 : decode cX8_wins 46 = .ok (.ireturn, 1) := dk_172 (dk_at dksX8_wins_1 22 rfl rfl)
abbrev cX8_refusesYear : ByteArray := prog_20_method_118_code
def yX8_refusesYear : MethodName := ⟨RX8, "refusesYear", "(ZII)I"⟩
def dkwX8_refusesYear_1 : List UInt8 := [184, 0, 138, 153, 0, 7, 3, 167, 0, 4, 5, 172]
abbrev dktX8_refusesYear_1 : List UInt8 := dkwX8_refusesYear_1 ++ []
def dkwX8_refusesYear_0 : List UInt8 := [27, 154, 0, 7, 4, 167, 0, 30, 28, 3, 19, 2, 70, 184, 0, 138, 153, 0, 18, 29, 3, 17, 0, 200]
abbrev dktX8_refusesYear_0 : List UInt8 := dkwX8_refusesYear_0 ++ dktX8_refusesYear_1
theorem dksX8_refusesYear_0 : cX8_refusesYear.data.toList.drop 0 = dktX8_refusesYear_0 := by decide +kernel
theorem dksX8_refusesYear_1 : cX8_refusesYear.data.toList.drop 24 = dktX8_refusesYear_1 := dk_seg dksX8_refusesYear_0 24 rfl rfl
theorem dX8_refusesYear_0 : decode cX8_refusesYear 0 = .ok (.iload_n 1, 1) := dk_27 (dk_at dksX8_refusesYear_0 0 rfl rfl)
theorem dX8_refusesYear_1 : decode cX8_refusesYear 1 = .ok (.ifCond .ne 7, 3) := dk_154 0 7 (dk_at dksX8_refusesYear_0 1 rfl rfl)
theorem dX8_refusesYear_4 : decode cX8_refusesYear 4 = .ok (.iconst 1, 1) := dk_4 (dk_at dksX8_refusesYear_0 4 rfl rfl)
theorem dX8_refusesYear_5 : decode cX8_refusesYear 5 = .ok (.goto 30, 3) := dk_167 0 30 (dk_at dksX8_refusesYear_0 5 rfl rfl)
theorem dX8_refusesYear_8 : decode cX8_refusesYear 8 = .ok (.iload_n 2, 1) := dk_28 (dk_at dksX8_refusesYear_0 8 rfl rfl)
theorem dX8_refusesYear_9 : decode cX8_refusesYear 9 = .ok (.iconst 0, 1) := dk_3 (dk_at dksX8_refusesYear_0 9 rfl rfl)
theorem dX8_refusesYear_10 : decode cX8_refusesYear 10 = .ok (.ldc_w 582, 3) := dk_19 2 70 (dk_at dksX8_refusesYear_0 10 rfl rfl)
theorem dX8_refusesYear_13 : decode cX8_refusesYear 13 = .ok (.invokestatic 138, 3) := dk_184 0 138 (dk_at dksX8_refusesYear_0 13 rfl rfl)
theorem dX8_refusesYear_16 : decode cX8_refusesYear 16 = .ok (.ifCond .eq 18, 3) := dk_153 0 18 (dk_at dksX8_refusesYear_0 16 rfl rfl)
theorem dX8_refusesYear_19 : decode cX8_refusesYear 19 = .ok (.iload_n 3, 1) := dk_29 (dk_at dksX8_refusesYear_0 19 rfl rfl)
theorem dX8_refusesYear_20 : decode cX8_refusesYear 20 = .ok (.iconst 0, 1) := dk_3 (dk_at dksX8_refusesYear_0 20 rfl rfl)
theorem dX8_refusesYear_21 : decode cX8_refusesYear 21 = .ok (.sipush 200, 3) := dk_17 0 200 (dk_at dksX8_refusesYear_0 21 rfl rfl)
theorem dX8_refusesYear_24 : decode cX8_refusesYear 24 = .ok (.invokestatic 138, 3) := dk_184 0 138 (dk_at dksX8_refusesYear_1 0 rfl rfl)
theorem dX8_refusesYear_27 : decode cX8_refusesYear 27 = .ok (.ifCond .eq 7, 3) := dk_153 0 7 (dk_at dksX8_refusesYear_1 3 rfl rfl)
theorem dX8_refusesYear_30 : decode cX8_refusesYear 30 = .ok (.iconst 0, 1) := dk_3 (dk_at dksX8_refusesYear_1 6 rfl rfl)
theorem dX8_refusesYear_31 : decode cX8_refusesYear 31 = .ok (.goto 4, 3) := dk_167 0 4 (dk_at dksX8_refusesYear_1 7 rfl rfl)
theorem dX8_refusesYear_34 : decode cX8_refusesYear 34 = .ok (.iconst 2, 1) := dk_5 (dk_at dksX8_refusesYear_1 10 rfl rfl)
theorem dX8_refusesYear_35 : decode cX8_refusesYear 35 = .ok (.ireturn, 1) := dk_172 (dk_at dksX8_refusesYear_1 11 rfl rfl)
abbrev cX8_year : ByteArray := prog_20_method_117_code
def yX8_year : MethodName := ⟨RX8, "year", "(II)V"⟩
def dkwX8_year_8 : List UInt8 := [160, 0, 14, 42, 180, 0, 50, 21, 6, 92, 46, 4, 96, 79, 132, 3, 1, 167, 255, 94, 177]
abbrev dktX8_year_8 : List UInt8 := dkwX8_year_8 ++ []
def dkwX8_year_7 : List UInt8 := [21, 7, 154, 0, 17, 42, 180, 0, 50, 21, 5, 92, 46, 4, 96, 79, 167, 0, 20, 21, 7, 4]
abbrev dktX8_year_7 : List UInt8 := dkwX8_year_7 ++ dktX8_year_8
def dkwX8_year_6 : List UInt8 := [181, 2, 61, 42, 89, 180, 2, 64, 21, 7, 6, 160, 0, 7, 4, 167, 0, 4, 3, 96, 181, 2, 64]
abbrev dktX8_year_6 : List UInt8 := dkwX8_year_6 ++ dktX8_year_7
def dkwX8_year_5 : List UInt8 := [182, 1, 177, 54, 7, 42, 89, 180, 2, 61, 21, 7, 5, 160, 0, 7, 4, 167, 0, 4, 3, 96]
abbrev dktX8_year_5 : List UInt8 := dkwX8_year_5 ++ dktX8_year_6
def dkwX8_year_4 : List UInt8 := [167, 0, 4, 3, 96, 54, 6, 42, 21, 4, 21, 5, 21, 6, 182, 1, 233, 42, 182, 2, 67, 42]
abbrev dktX8_year_4 : List UInt8 := dkwX8_year_4 ++ dktX8_year_5
def dkwX8_year_3 : List UInt8 := [180, 1, 117, 180, 0, 213, 4, 100, 182, 2, 58, 54, 6, 21, 6, 21, 6, 21, 5, 161, 0, 7, 4]
abbrev dktX8_year_3 : List UInt8 := dkwX8_year_3 ++ dktX8_year_4
def dkwX8_year_2 : List UInt8 := [180, 0, 210, 182, 2, 58, 54, 4, 42, 42, 180, 1, 117, 180, 0, 213, 182, 2, 58, 54, 5, 42, 42]
abbrev dktX8_year_2 : List UInt8 := dkwX8_year_2 ++ dktX8_year_3
def dkwX8_year_1 : List UInt8 := [180, 0, 50, 29, 3, 79, 132, 3, 1, 167, 255, 240, 3, 62, 29, 28, 162, 0, 163, 42, 42, 180, 1, 117]
abbrev dktX8_year_1 : List UInt8 := dkwX8_year_1 ++ dktX8_year_2
def dkwX8_year_0 : List UInt8 := [42, 27, 181, 2, 51, 42, 3, 181, 2, 61, 42, 3, 181, 2, 64, 3, 62, 29, 16, 6, 162, 0, 16, 42]
abbrev dktX8_year_0 : List UInt8 := dkwX8_year_0 ++ dktX8_year_1
theorem dksX8_year_0 : cX8_year.data.toList.drop 0 = dktX8_year_0 := by decide +kernel
theorem dksX8_year_1 : cX8_year.data.toList.drop 24 = dktX8_year_1 := dk_seg dksX8_year_0 24 rfl rfl
theorem dksX8_year_2 : cX8_year.data.toList.drop 48 = dktX8_year_2 := dk_seg dksX8_year_1 24 rfl rfl
theorem dksX8_year_3 : cX8_year.data.toList.drop 71 = dktX8_year_3 := dk_seg dksX8_year_2 23 rfl rfl
theorem dksX8_year_4 : cX8_year.data.toList.drop 94 = dktX8_year_4 := dk_seg dksX8_year_3 23 rfl rfl
theorem dksX8_year_5 : cX8_year.data.toList.drop 116 = dktX8_year_5 := dk_seg dksX8_year_4 22 rfl rfl
theorem dksX8_year_6 : cX8_year.data.toList.drop 138 = dktX8_year_6 := dk_seg dksX8_year_5 22 rfl rfl
theorem dksX8_year_7 : cX8_year.data.toList.drop 161 = dktX8_year_7 := dk_seg dksX8_year_6 23 rfl rfl
theorem dksX8_year_8 : cX8_year.data.toList.drop 183 = dktX8_year_8 := dk_seg dksX8_year_7 22 rfl rfl
theorem dX8_year_0 : decode cX8_year 0 = .ok (.aload_n 0, 1) := dk_42 (dk_at dksX8_year_0 0 rfl rfl)
theorem dX8_year_1 : decode cX8_year 1 = .ok (.iload_n 1, 1) := dk_27 (dk_at dksX8_year_0 1 rfl rfl)
theorem dX8_year_2 : decode cX8_year 2 = .ok (.putfield 563, 3) := dk_181 2 51 (dk_at dksX8_year_0 2 rfl rfl)
theorem dX8_year_5 : decode cX8_year 5 = .ok (.aload_n 0, 1) := dk_42 (dk_at dksX8_year_0 5 rfl rfl)
theorem dX8_year_6 : decode cX8_year 6 = .ok (.iconst 0, 1) := dk_3 (dk_at dksX8_year_0 6 rfl rfl)
theorem dX8_year_7 : decode cX8_year 7 = .ok (.putfield 573, 3) := dk_181 2 61 (dk_at dksX8_year_0 7 rfl rfl)
theorem dX8_year_10 : decode cX8_year 10 = .ok (.aload_n 0, 1) := dk_42 (dk_at dksX8_year_0 10 rfl rfl)
theorem dX8_year_11 : decode cX8_year 11 = .ok (.iconst 0, 1) := dk_3 (dk_at dksX8_year_0 11 rfl rfl)
theorem dX8_year_12 : decode cX8_year 12 = .ok (.putfield 576, 3) := dk_181 2 64 (dk_at dksX8_year_0 12 rfl rfl)
theorem dX8_year_15 : decode cX8_year 15 = .ok (.iconst 0, 1) := dk_3 (dk_at dksX8_year_0 15 rfl rfl)
theorem dX8_year_16 : decode cX8_year 16 = .ok (.istore_n 3, 1) := dk_62 (dk_at dksX8_year_0 16 rfl rfl)
theorem dX8_year_17 : decode cX8_year 17 = .ok (.iload_n 3, 1) := dk_29 (dk_at dksX8_year_0 17 rfl rfl)
theorem dX8_year_18 : decode cX8_year 18 = .ok (.bipush 6, 2) := dk_16 6 (dk_at dksX8_year_0 18 rfl rfl)
theorem dX8_year_20 : decode cX8_year 20 = .ok (.if_icmp .ge 16, 3) := dk_162 0 16 (dk_at dksX8_year_0 20 rfl rfl)
theorem dX8_year_23 : decode cX8_year 23 = .ok (.aload_n 0, 1) := dk_42 (dk_at dksX8_year_0 23 rfl rfl)
theorem dX8_year_24 : decode cX8_year 24 = .ok (.getfield 50, 3) := dk_180 0 50 (dk_at dksX8_year_1 0 rfl rfl)
theorem dX8_year_27 : decode cX8_year 27 = .ok (.iload_n 3, 1) := dk_29 (dk_at dksX8_year_1 3 rfl rfl)
theorem dX8_year_28 : decode cX8_year 28 = .ok (.iconst 0, 1) := dk_3 (dk_at dksX8_year_1 4 rfl rfl)
theorem dX8_year_29 : decode cX8_year 29 = .ok (.iastore, 1) := dk_79 (dk_at dksX8_year_1 5 rfl rfl)
theorem dX8_year_30 : decode cX8_year 30 = .ok (.iinc 3 1, 3) := dk_132 3 1 (dk_at dksX8_year_1 6 rfl rfl)
theorem dX8_year_33 : decode cX8_year 33 = .ok (.goto (-16), 3) := dk_167 255 240 (dk_at dksX8_year_1 9 rfl rfl)
theorem dX8_year_36 : decode cX8_year 36 = .ok (.iconst 0, 1) := dk_3 (dk_at dksX8_year_1 12 rfl rfl)
theorem dX8_year_37 : decode cX8_year 37 = .ok (.istore_n 3, 1) := dk_62 (dk_at dksX8_year_1 13 rfl rfl)
theorem dX8_year_38 : decode cX8_year 38 = .ok (.iload_n 3, 1) := dk_29 (dk_at dksX8_year_1 14 rfl rfl)
theorem dX8_year_39 : decode cX8_year 39 = .ok (.iload_n 2, 1) := dk_28 (dk_at dksX8_year_1 15 rfl rfl)
theorem dX8_year_40 : decode cX8_year 40 = .ok (.if_icmp .ge 163, 3) := dk_162 0 163 (dk_at dksX8_year_1 16 rfl rfl)
theorem dX8_year_43 : decode cX8_year 43 = .ok (.aload_n 0, 1) := dk_42 (dk_at dksX8_year_1 19 rfl rfl)
theorem dX8_year_44 : decode cX8_year 44 = .ok (.aload_n 0, 1) := dk_42 (dk_at dksX8_year_1 20 rfl rfl)
theorem dX8_year_45 : decode cX8_year 45 = .ok (.getfield 373, 3) := dk_180 1 117 (dk_at dksX8_year_1 21 rfl rfl)
theorem dX8_year_48 : decode cX8_year 48 = .ok (.getfield 210, 3) := dk_180 0 210 (dk_at dksX8_year_2 0 rfl rfl)
theorem dX8_year_51 : decode cX8_year 51 = .ok (.invokevirtual 570, 3) := dk_182 2 58 (dk_at dksX8_year_2 3 rfl rfl)
theorem dX8_year_54 : decode cX8_year 54 = .ok (.istore 4, 2) := dk_54 4 (dk_at dksX8_year_2 6 rfl rfl)
theorem dX8_year_56 : decode cX8_year 56 = .ok (.aload_n 0, 1) := dk_42 (dk_at dksX8_year_2 8 rfl rfl)
theorem dX8_year_57 : decode cX8_year 57 = .ok (.aload_n 0, 1) := dk_42 (dk_at dksX8_year_2 9 rfl rfl)
theorem dX8_year_58 : decode cX8_year 58 = .ok (.getfield 373, 3) := dk_180 1 117 (dk_at dksX8_year_2 10 rfl rfl)
theorem dX8_year_61 : decode cX8_year 61 = .ok (.getfield 213, 3) := dk_180 0 213 (dk_at dksX8_year_2 13 rfl rfl)
theorem dX8_year_64 : decode cX8_year 64 = .ok (.invokevirtual 570, 3) := dk_182 2 58 (dk_at dksX8_year_2 16 rfl rfl)
theorem dX8_year_67 : decode cX8_year 67 = .ok (.istore 5, 2) := dk_54 5 (dk_at dksX8_year_2 19 rfl rfl)
theorem dX8_year_69 : decode cX8_year 69 = .ok (.aload_n 0, 1) := dk_42 (dk_at dksX8_year_2 21 rfl rfl)
theorem dX8_year_70 : decode cX8_year 70 = .ok (.aload_n 0, 1) := dk_42 (dk_at dksX8_year_2 22 rfl rfl)
theorem dX8_year_71 : decode cX8_year 71 = .ok (.getfield 373, 3) := dk_180 1 117 (dk_at dksX8_year_3 0 rfl rfl)
theorem dX8_year_74 : decode cX8_year 74 = .ok (.getfield 213, 3) := dk_180 0 213 (dk_at dksX8_year_3 3 rfl rfl)
theorem dX8_year_77 : decode cX8_year 77 = .ok (.iconst 1, 1) := dk_4 (dk_at dksX8_year_3 6 rfl rfl)
theorem dX8_year_78 : decode cX8_year 78 = .ok (.isub, 1) := dk_100 (dk_at dksX8_year_3 7 rfl rfl)
theorem dX8_year_79 : decode cX8_year 79 = .ok (.invokevirtual 570, 3) := dk_182 2 58 (dk_at dksX8_year_3 8 rfl rfl)
theorem dX8_year_82 : decode cX8_year 82 = .ok (.istore 6, 2) := dk_54 6 (dk_at dksX8_year_3 11 rfl rfl)
theorem dX8_year_84 : decode cX8_year 84 = .ok (.iload 6, 2) := dk_21 6 (dk_at dksX8_year_3 13 rfl rfl)
theorem dX8_year_86 : decode cX8_year 86 = .ok (.iload 6, 2) := dk_21 6 (dk_at dksX8_year_3 15 rfl rfl)
theorem dX8_year_88 : decode cX8_year 88 = .ok (.iload 5, 2) := dk_21 5 (dk_at dksX8_year_3 17 rfl rfl)
theorem dX8_year_90 : decode cX8_year 90 = .ok (.if_icmp .lt 7, 3) := dk_161 0 7 (dk_at dksX8_year_3 19 rfl rfl)
theorem dX8_year_93 : decode cX8_year 93 = .ok (.iconst 1, 1) := dk_4 (dk_at dksX8_year_3 22 rfl rfl)
theorem dX8_year_94 : decode cX8_year 94 = .ok (.goto 4, 3) := dk_167 0 4 (dk_at dksX8_year_4 0 rfl rfl)
theorem dX8_year_97 : decode cX8_year 97 = .ok (.iconst 0, 1) := dk_3 (dk_at dksX8_year_4 3 rfl rfl)
theorem dX8_year_98 : decode cX8_year 98 = .ok (.iadd, 1) := dk_96 (dk_at dksX8_year_4 4 rfl rfl)
theorem dX8_year_99 : decode cX8_year 99 = .ok (.istore 6, 2) := dk_54 6 (dk_at dksX8_year_4 5 rfl rfl)
theorem dX8_year_101 : decode cX8_year 101 = .ok (.aload_n 0, 1) := dk_42 (dk_at dksX8_year_4 7 rfl rfl)
theorem dX8_year_102 : decode cX8_year 102 = .ok (.iload 4, 2) := dk_21 4 (dk_at dksX8_year_4 8 rfl rfl)
theorem dX8_year_104 : decode cX8_year 104 = .ok (.iload 5, 2) := dk_21 5 (dk_at dksX8_year_4 10 rfl rfl)
theorem dX8_year_106 : decode cX8_year 106 = .ok (.iload 6, 2) := dk_21 6 (dk_at dksX8_year_4 12 rfl rfl)
theorem dX8_year_108 : decode cX8_year 108 = .ok (.invokevirtual 489, 3) := dk_182 1 233 (dk_at dksX8_year_4 14 rfl rfl)
theorem dX8_year_111 : decode cX8_year 111 = .ok (.aload_n 0, 1) := dk_42 (dk_at dksX8_year_4 17 rfl rfl)
theorem dX8_year_112 : decode cX8_year 112 = .ok (.invokevirtual 579, 3) := dk_182 2 67 (dk_at dksX8_year_4 18 rfl rfl)
theorem dX8_year_115 : decode cX8_year 115 = .ok (.aload_n 0, 1) := dk_42 (dk_at dksX8_year_4 21 rfl rfl)
theorem dX8_year_116 : decode cX8_year 116 = .ok (.invokevirtual 433, 3) := dk_182 1 177 (dk_at dksX8_year_5 0 rfl rfl)
theorem dX8_year_119 : decode cX8_year 119 = .ok (.istore 7, 2) := dk_54 7 (dk_at dksX8_year_5 3 rfl rfl)
theorem dX8_year_121 : decode cX8_year 121 = .ok (.aload_n 0, 1) := dk_42 (dk_at dksX8_year_5 5 rfl rfl)
theorem dX8_year_122 : decode cX8_year 122 = .ok (.dup, 1) := dk_89 (dk_at dksX8_year_5 6 rfl rfl)
theorem dX8_year_123 : decode cX8_year 123 = .ok (.getfield 573, 3) := dk_180 2 61 (dk_at dksX8_year_5 7 rfl rfl)
theorem dX8_year_126 : decode cX8_year 126 = .ok (.iload 7, 2) := dk_21 7 (dk_at dksX8_year_5 10 rfl rfl)
theorem dX8_year_128 : decode cX8_year 128 = .ok (.iconst 2, 1) := dk_5 (dk_at dksX8_year_5 12 rfl rfl)
theorem dX8_year_129 : decode cX8_year 129 = .ok (.if_icmp .ne 7, 3) := dk_160 0 7 (dk_at dksX8_year_5 13 rfl rfl)
theorem dX8_year_132 : decode cX8_year 132 = .ok (.iconst 1, 1) := dk_4 (dk_at dksX8_year_5 16 rfl rfl)
theorem dX8_year_133 : decode cX8_year 133 = .ok (.goto 4, 3) := dk_167 0 4 (dk_at dksX8_year_5 17 rfl rfl)
theorem dX8_year_136 : decode cX8_year 136 = .ok (.iconst 0, 1) := dk_3 (dk_at dksX8_year_5 20 rfl rfl)
theorem dX8_year_137 : decode cX8_year 137 = .ok (.iadd, 1) := dk_96 (dk_at dksX8_year_5 21 rfl rfl)
theorem dX8_year_138 : decode cX8_year 138 = .ok (.putfield 573, 3) := dk_181 2 61 (dk_at dksX8_year_6 0 rfl rfl)
theorem dX8_year_141 : decode cX8_year 141 = .ok (.aload_n 0, 1) := dk_42 (dk_at dksX8_year_6 3 rfl rfl)
theorem dX8_year_142 : decode cX8_year 142 = .ok (.dup, 1) := dk_89 (dk_at dksX8_year_6 4 rfl rfl)
theorem dX8_year_143 : decode cX8_year 143 = .ok (.getfield 576, 3) := dk_180 2 64 (dk_at dksX8_year_6 5 rfl rfl)
theorem dX8_year_146 : decode cX8_year 146 = .ok (.iload 7, 2) := dk_21 7 (dk_at dksX8_year_6 8 rfl rfl)
theorem dX8_year_148 : decode cX8_year 148 = .ok (.iconst 3, 1) := dk_6 (dk_at dksX8_year_6 10 rfl rfl)
theorem dX8_year_149 : decode cX8_year 149 = .ok (.if_icmp .ne 7, 3) := dk_160 0 7 (dk_at dksX8_year_6 11 rfl rfl)
theorem dX8_year_152 : decode cX8_year 152 = .ok (.iconst 1, 1) := dk_4 (dk_at dksX8_year_6 14 rfl rfl)
theorem dX8_year_153 : decode cX8_year 153 = .ok (.goto 4, 3) := dk_167 0 4 (dk_at dksX8_year_6 15 rfl rfl)
theorem dX8_year_156 : decode cX8_year 156 = .ok (.iconst 0, 1) := dk_3 (dk_at dksX8_year_6 18 rfl rfl)
theorem dX8_year_157 : decode cX8_year 157 = .ok (.iadd, 1) := dk_96 (dk_at dksX8_year_6 19 rfl rfl)
theorem dX8_year_158 : decode cX8_year 158 = .ok (.putfield 576, 3) := dk_181 2 64 (dk_at dksX8_year_6 20 rfl rfl)
theorem dX8_year_161 : decode cX8_year 161 = .ok (.iload 7, 2) := dk_21 7 (dk_at dksX8_year_7 0 rfl rfl)
theorem dX8_year_163 : decode cX8_year 163 = .ok (.ifCond .ne 17, 3) := dk_154 0 17 (dk_at dksX8_year_7 2 rfl rfl)
theorem dX8_year_166 : decode cX8_year 166 = .ok (.aload_n 0, 1) := dk_42 (dk_at dksX8_year_7 5 rfl rfl)
theorem dX8_year_167 : decode cX8_year 167 = .ok (.getfield 50, 3) := dk_180 0 50 (dk_at dksX8_year_7 6 rfl rfl)
theorem dX8_year_170 : decode cX8_year 170 = .ok (.iload 5, 2) := dk_21 5 (dk_at dksX8_year_7 9 rfl rfl)
theorem dX8_year_172 : decode cX8_year 172 = .ok (.dup2, 1) := dk_92 (dk_at dksX8_year_7 11 rfl rfl)
theorem dX8_year_173 : decode cX8_year 173 = .ok (.iaload, 1) := dk_46 (dk_at dksX8_year_7 12 rfl rfl)
theorem dX8_year_174 : decode cX8_year 174 = .ok (.iconst 1, 1) := dk_4 (dk_at dksX8_year_7 13 rfl rfl)
theorem dX8_year_175 : decode cX8_year 175 = .ok (.iadd, 1) := dk_96 (dk_at dksX8_year_7 14 rfl rfl)
theorem dX8_year_176 : decode cX8_year 176 = .ok (.iastore, 1) := dk_79 (dk_at dksX8_year_7 15 rfl rfl)
theorem dX8_year_177 : decode cX8_year 177 = .ok (.goto 20, 3) := dk_167 0 20 (dk_at dksX8_year_7 16 rfl rfl)
theorem dX8_year_180 : decode cX8_year 180 = .ok (.iload 7, 2) := dk_21 7 (dk_at dksX8_year_7 19 rfl rfl)
theorem dX8_year_182 : decode cX8_year 182 = .ok (.iconst 1, 1) := dk_4 (dk_at dksX8_year_7 21 rfl rfl)
theorem dX8_year_183 : decode cX8_year 183 = .ok (.if_icmp .ne 14, 3) := dk_160 0 14 (dk_at dksX8_year_8 0 rfl rfl)
theorem dX8_year_186 : decode cX8_year 186 = .ok (.aload_n 0, 1) := dk_42 (dk_at dksX8_year_8 3 rfl rfl)
theorem dX8_year_187 : decode cX8_year 187 = .ok (.getfield 50, 3) := dk_180 0 50 (dk_at dksX8_year_8 4 rfl rfl)
theorem dX8_year_190 : decode cX8_year 190 = .ok (.iload 6, 2) := dk_21 6 (dk_at dksX8_year_8 7 rfl rfl)
theorem dX8_year_192 : decode cX8_year 192 = .ok (.dup2, 1) := dk_92 (dk_at dksX8_year_8 9 rfl rfl)
theorem dX8_year_193 : decode cX8_year 193 = .ok (.iaload, 1) := dk_46 (dk_at dksX8_year_8 10 rfl rfl)
theorem dX8_year_194 : decode cX8_year 194 = .ok (.iconst 1, 1) := dk_4 (dk_at dksX8_year_8 11 rfl rfl)
theorem dX8_year_195 : decode cX8_year 195 = .ok (.iadd, 1) := dk_96 (dk_at dksX8_year_8 12 rfl rfl)
theorem dX8_year_196 : decode cX8_year 196 = .ok (.iastore, 1) := dk_79 (dk_at dksX8_year_8 13 rfl rfl)
theorem dX8_year_197 : decode cX8_year 197 = .ok (.iinc 3 1, 3) := dk_132 3 1 (dk_at dksX8_year_8 14 rfl rfl)
theorem dX8_year_200 : decode cX8_year 200 = .ok (.goto (-162), 3) := dk_167 255 94 (dk_at dksX8_year_8 17 rfl rfl)
theorem dX8_year_203 : decode cX8_year 203 = .ok (.return_, 1) := dk_177 (dk_at dksX8_year_8 20 rfl rfl)
abbrev cX8_drawn : ByteArray := prog_20_method_115_code
def yX8_drawn : MethodName := ⟨RX8, "drawn", "(I)I"⟩
def dkwX8_drawn_1 : List UInt8 := [180, 2, 51, 27, 112, 172]
abbrev dktX8_drawn_1 : List UInt8 := dkwX8_drawn_1 ++ []
def dkwX8_drawn_0 : List UInt8 := [42, 20, 2, 49, 42, 180, 2, 51, 133, 105, 20, 2, 54, 97, 20, 2, 56, 113, 136, 181, 2, 51, 42]
abbrev dktX8_drawn_0 : List UInt8 := dkwX8_drawn_0 ++ dktX8_drawn_1
theorem dksX8_drawn_0 : cX8_drawn.data.toList.drop 0 = dktX8_drawn_0 := by decide +kernel
theorem dksX8_drawn_1 : cX8_drawn.data.toList.drop 23 = dktX8_drawn_1 := dk_seg dksX8_drawn_0 23 rfl rfl
theorem dX8_drawn_0 : decode cX8_drawn 0 = .ok (.aload_n 0, 1) := dk_42 (dk_at dksX8_drawn_0 0 rfl rfl)
theorem dX8_drawn_1 : decode cX8_drawn 1 = .ok (.ldc2_w 561, 3) := dk_20 2 49 (dk_at dksX8_drawn_0 1 rfl rfl)
theorem dX8_drawn_4 : decode cX8_drawn 4 = .ok (.aload_n 0, 1) := dk_42 (dk_at dksX8_drawn_0 4 rfl rfl)
theorem dX8_drawn_5 : decode cX8_drawn 5 = .ok (.getfield 563, 3) := dk_180 2 51 (dk_at dksX8_drawn_0 5 rfl rfl)
theorem dX8_drawn_8 : decode cX8_drawn 8 = .ok (.i2l, 1) := dk_133 (dk_at dksX8_drawn_0 8 rfl rfl)
theorem dX8_drawn_9 : decode cX8_drawn 9 = .ok (.lmul, 1) := dk_105 (dk_at dksX8_drawn_0 9 rfl rfl)
theorem dX8_drawn_10 : decode cX8_drawn 10 = .ok (.ldc2_w 566, 3) := dk_20 2 54 (dk_at dksX8_drawn_0 10 rfl rfl)
theorem dX8_drawn_13 : decode cX8_drawn 13 = .ok (.ladd, 1) := dk_97 (dk_at dksX8_drawn_0 13 rfl rfl)
theorem dX8_drawn_14 : decode cX8_drawn 14 = .ok (.ldc2_w 568, 3) := dk_20 2 56 (dk_at dksX8_drawn_0 14 rfl rfl)
theorem dX8_drawn_17 : decode cX8_drawn 17 = .ok (.lrem, 1) := dk_113 (dk_at dksX8_drawn_0 17 rfl rfl)
theorem dX8_drawn_18 : decode cX8_drawn 18 = .ok (.l2i, 1) := dk_136 (dk_at dksX8_drawn_0 18 rfl rfl)
theorem dX8_drawn_19 : decode cX8_drawn 19 = .ok (.putfield 563, 3) := dk_181 2 51 (dk_at dksX8_drawn_0 19 rfl rfl)
theorem dX8_drawn_22 : decode cX8_drawn 22 = .ok (.aload_n 0, 1) := dk_42 (dk_at dksX8_drawn_0 22 rfl rfl)
theorem dX8_drawn_23 : decode cX8_drawn 23 = .ok (.getfield 563, 3) := dk_180 2 51 (dk_at dksX8_drawn_1 0 rfl rfl)
theorem dX8_drawn_26 : decode cX8_drawn 26 = .ok (.iload_n 1, 1) := dk_27 (dk_at dksX8_drawn_1 3 rfl rfl)
theorem dX8_drawn_27 : decode cX8_drawn 27 = .ok (.irem, 1) := dk_112 (dk_at dksX8_drawn_1 4 rfl rfl)
theorem dX8_drawn_28 : decode cX8_drawn 28 = .ok (.ireturn, 1) := dk_172 (dk_at dksX8_drawn_1 5 rfl rfl)
abbrev cX8_flawsByDraws : ByteArray := prog_20_method_116_code
def yX8_flawsByDraws : MethodName := ⟨RX8, "flawsByDraws", "()V"⟩
def dkwX8_flawsByDraws_1 : List UInt8 := [182, 1, 174, 182, 2, 58, 182, 1, 182, 177]
abbrev dktX8_flawsByDraws_1 : List UInt8 := dkwX8_flawsByDraws_1 ++ []
def dkwX8_flawsByDraws_0 : List UInt8 := [42, 2, 181, 1, 133, 42, 16, 100, 182, 2, 58, 42, 180, 1, 117, 180, 1, 2, 162, 0, 15, 42, 42, 42]
abbrev dktX8_flawsByDraws_0 : List UInt8 := dkwX8_flawsByDraws_0 ++ dktX8_flawsByDraws_1
theorem dksX8_flawsByDraws_0 : cX8_flawsByDraws.data.toList.drop 0 = dktX8_flawsByDraws_0 := by decide +kernel
theorem dksX8_flawsByDraws_1 : cX8_flawsByDraws.data.toList.drop 24 = dktX8_flawsByDraws_1 := dk_seg dksX8_flawsByDraws_0 24 rfl rfl
theorem dX8_flawsByDraws_0 : decode cX8_flawsByDraws 0 = .ok (.aload_n 0, 1) := dk_42 (dk_at dksX8_flawsByDraws_0 0 rfl rfl)
theorem dX8_flawsByDraws_1 : decode cX8_flawsByDraws 1 = .ok (.iconst (-1), 1) := dk_2 (dk_at dksX8_flawsByDraws_0 1 rfl rfl)
theorem dX8_flawsByDraws_2 : decode cX8_flawsByDraws 2 = .ok (.putfield 389, 3) := dk_181 1 133 (dk_at dksX8_flawsByDraws_0 2 rfl rfl)
theorem dX8_flawsByDraws_5 : decode cX8_flawsByDraws 5 = .ok (.aload_n 0, 1) := dk_42 (dk_at dksX8_flawsByDraws_0 5 rfl rfl)
theorem dX8_flawsByDraws_6 : decode cX8_flawsByDraws 6 = .ok (.bipush 100, 2) := dk_16 100 (dk_at dksX8_flawsByDraws_0 6 rfl rfl)
theorem dX8_flawsByDraws_8 : decode cX8_flawsByDraws 8 = .ok (.invokevirtual 570, 3) := dk_182 2 58 (dk_at dksX8_flawsByDraws_0 8 rfl rfl)
theorem dX8_flawsByDraws_11 : decode cX8_flawsByDraws 11 = .ok (.aload_n 0, 1) := dk_42 (dk_at dksX8_flawsByDraws_0 11 rfl rfl)
theorem dX8_flawsByDraws_12 : decode cX8_flawsByDraws 12 = .ok (.getfield 373, 3) := dk_180 1 117 (dk_at dksX8_flawsByDraws_0 12 rfl rfl)
theorem dX8_flawsByDraws_15 : decode cX8_flawsByDraws 15 = .ok (.getfield 258, 3) := dk_180 1 2 (dk_at dksX8_flawsByDraws_0 15 rfl rfl)
theorem dX8_flawsByDraws_18 : decode cX8_flawsByDraws 18 = .ok (.if_icmp .ge 15, 3) := dk_162 0 15 (dk_at dksX8_flawsByDraws_0 18 rfl rfl)
theorem dX8_flawsByDraws_21 : decode cX8_flawsByDraws 21 = .ok (.aload_n 0, 1) := dk_42 (dk_at dksX8_flawsByDraws_0 21 rfl rfl)
theorem dX8_flawsByDraws_22 : decode cX8_flawsByDraws 22 = .ok (.aload_n 0, 1) := dk_42 (dk_at dksX8_flawsByDraws_0 22 rfl rfl)
theorem dX8_flawsByDraws_23 : decode cX8_flawsByDraws 23 = .ok (.aload_n 0, 1) := dk_42 (dk_at dksX8_flawsByDraws_0 23 rfl rfl)
theorem dX8_flawsByDraws_24 : decode cX8_flawsByDraws 24 = .ok (.invokevirtual 430, 3) := dk_182 1 174 (dk_at dksX8_flawsByDraws_1 0 rfl rfl)
theorem dX8_flawsByDraws_27 : decode cX8_flawsByDraws 27 = .ok (.invokevirtual 570, 3) := dk_182 2 58 (dk_at dksX8_flawsByDraws_1 3 rfl rfl)
theorem dX8_flawsByDraws_30 : decode cX8_flawsByDraws 30 = .ok (.invokevirtual 438, 3) := dk_182 1 182 (dk_at dksX8_flawsByDraws_1 6 rfl rfl)
theorem dX8_flawsByDraws_33 : decode cX8_flawsByDraws 33 = .ok (.return_, 1) := dk_177 (dk_at dksX8_flawsByDraws_1 9 rfl rfl)
abbrev cX8_spoilt : ByteArray := prog_20_method_120_code
def yX8_spoilt : MethodName := ⟨RX8, "spoilt", "(IIZ)I"⟩
def dkwX8_spoilt_2 : List UInt8 := [153, 0, 10, 42, 180, 2, 64, 167, 0, 7, 42, 180, 2, 61, 182, 0, 63, 172]
abbrev dktX8_spoilt_2 : List UInt8 := dkwX8_spoilt_2 ++ []
def dkwX8_spoilt_1 : List UInt8 := [54, 4, 21, 4, 158, 0, 10, 42, 21, 4, 182, 0, 59, 172, 42, 27, 28, 182, 2, 75, 42, 29]
abbrev dktX8_spoilt_1 : List UInt8 := dkwX8_spoilt_1 ++ dktX8_spoilt_2
def dkwX8_spoilt_0 : List UInt8 := [42, 3, 181, 0, 53, 42, 42, 180, 1, 117, 198, 0, 7, 4, 167, 0, 4, 3, 27, 28, 182, 2, 71]
abbrev dktX8_spoilt_0 : List UInt8 := dkwX8_spoilt_0 ++ dktX8_spoilt_1
theorem dksX8_spoilt_0 : cX8_spoilt.data.toList.drop 0 = dktX8_spoilt_0 := by decide +kernel
theorem dksX8_spoilt_1 : cX8_spoilt.data.toList.drop 23 = dktX8_spoilt_1 := dk_seg dksX8_spoilt_0 23 rfl rfl
theorem dksX8_spoilt_2 : cX8_spoilt.data.toList.drop 45 = dktX8_spoilt_2 := dk_seg dksX8_spoilt_1 22 rfl rfl
theorem dX8_spoilt_0 : decode cX8_spoilt 0 = .ok (.aload_n 0, 1) := dk_42 (dk_at dksX8_spoilt_0 0 rfl rfl)
theorem dX8_spoilt_1 : decode cX8_spoilt 1 = .ok (.iconst 0, 1) := dk_3 (dk_at dksX8_spoilt_0 1 rfl rfl)
theorem dX8_spoilt_2 : decode cX8_spoilt 2 = .ok (.putfield 53, 3) := dk_181 0 53 (dk_at dksX8_spoilt_0 2 rfl rfl)
theorem dX8_spoilt_5 : decode cX8_spoilt 5 = .ok (.aload_n 0, 1) := dk_42 (dk_at dksX8_spoilt_0 5 rfl rfl)
theorem dX8_spoilt_6 : decode cX8_spoilt 6 = .ok (.aload_n 0, 1) := dk_42 (dk_at dksX8_spoilt_0 6 rfl rfl)
theorem dX8_spoilt_7 : decode cX8_spoilt 7 = .ok (.getfield 373, 3) := dk_180 1 117 (dk_at dksX8_spoilt_0 7 rfl rfl)
theorem dX8_spoilt_10 : decode cX8_spoilt 10 = .ok (.ifnull 7, 3) := dk_198 0 7 (dk_at dksX8_spoilt_0 10 rfl rfl)
theorem dX8_spoilt_13 : decode cX8_spoilt 13 = .ok (.iconst 1, 1) := dk_4 (dk_at dksX8_spoilt_0 13 rfl rfl)
theorem dX8_spoilt_14 : decode cX8_spoilt 14 = .ok (.goto 4, 3) := dk_167 0 4 (dk_at dksX8_spoilt_0 14 rfl rfl)
theorem dX8_spoilt_17 : decode cX8_spoilt 17 = .ok (.iconst 0, 1) := dk_3 (dk_at dksX8_spoilt_0 17 rfl rfl)
theorem dX8_spoilt_18 : decode cX8_spoilt 18 = .ok (.iload_n 1, 1) := dk_27 (dk_at dksX8_spoilt_0 18 rfl rfl)
theorem dX8_spoilt_19 : decode cX8_spoilt 19 = .ok (.iload_n 2, 1) := dk_28 (dk_at dksX8_spoilt_0 19 rfl rfl)
theorem dX8_spoilt_20 : decode cX8_spoilt 20 = .ok (.invokevirtual 583, 3) := dk_182 2 71 (dk_at dksX8_spoilt_0 20 rfl rfl)
theorem dX8_spoilt_23 : decode cX8_spoilt 23 = .ok (.istore 4, 2) := dk_54 4 (dk_at dksX8_spoilt_1 0 rfl rfl)
theorem dX8_spoilt_25 : decode cX8_spoilt 25 = .ok (.iload 4, 2) := dk_21 4 (dk_at dksX8_spoilt_1 2 rfl rfl)
theorem dX8_spoilt_27 : decode cX8_spoilt 27 = .ok (.ifCond .le 10, 3) := dk_158 0 10 (dk_at dksX8_spoilt_1 4 rfl rfl)
theorem dX8_spoilt_30 : decode cX8_spoilt 30 = .ok (.aload_n 0, 1) := dk_42 (dk_at dksX8_spoilt_1 7 rfl rfl)
theorem dX8_spoilt_31 : decode cX8_spoilt 31 = .ok (.iload 4, 2) := dk_21 4 (dk_at dksX8_spoilt_1 8 rfl rfl)
theorem dX8_spoilt_33 : decode cX8_spoilt 33 = .ok (.invokevirtual 59, 3) := dk_182 0 59 (dk_at dksX8_spoilt_1 10 rfl rfl)
theorem dX8_spoilt_36 : decode cX8_spoilt 36 = .ok (.ireturn, 1) := dk_172 (dk_at dksX8_spoilt_1 13 rfl rfl)
theorem dX8_spoilt_37 : decode cX8_spoilt 37 = .ok (.aload_n 0, 1) := dk_42 (dk_at dksX8_spoilt_1 14 rfl rfl)
theorem dX8_spoilt_38 : decode cX8_spoilt 38 = .ok (.iload_n 1, 1) := dk_27 (dk_at dksX8_spoilt_1 15 rfl rfl)
theorem dX8_spoilt_39 : decode cX8_spoilt 39 = .ok (.iload_n 2, 1) := dk_28 (dk_at dksX8_spoilt_1 16 rfl rfl)
theorem dX8_spoilt_40 : decode cX8_spoilt 40 = .ok (.invokevirtual 587, 3) := dk_182 2 75 (dk_at dksX8_spoilt_1 17 rfl rfl)
theorem dX8_spoilt_43 : decode cX8_spoilt 43 = .ok (.aload_n 0, 1) := dk_42 (dk_at dksX8_spoilt_1 20 rfl rfl)
theorem dX8_spoilt_44 : decode cX8_spoilt 44 = .ok (.iload_n 3, 1) := dk_29 (dk_at dksX8_spoilt_1 21 rfl rfl)
theorem dX8_spoilt_45 : decode cX8_spoilt 45 = .ok (.ifCond .eq 10, 3) := dk_153 0 10 (dk_at dksX8_spoilt_2 0 rfl rfl)
theorem dX8_spoilt_48 : decode cX8_spoilt 48 = .ok (.aload_n 0, 1) := dk_42 (dk_at dksX8_spoilt_2 3 rfl rfl)
theorem dX8_spoilt_49 : decode cX8_spoilt 49 = .ok (.getfield 576, 3) := dk_180 2 64 (dk_at dksX8_spoilt_2 4 rfl rfl)
theorem dX8_spoilt_52 : decode cX8_spoilt 52 = .ok (.goto 7, 3) := dk_167 0 7 (dk_at dksX8_spoilt_2 7 rfl rfl)
theorem dX8_spoilt_55 : decode cX8_spoilt 55 = .ok (.aload_n 0, 1) := dk_42 (dk_at dksX8_spoilt_2 10 rfl rfl)
theorem dX8_spoilt_56 : decode cX8_spoilt 56 = .ok (.getfield 573, 3) := dk_180 2 61 (dk_at dksX8_spoilt_2 11 rfl rfl)
theorem dX8_spoilt_59 : decode cX8_spoilt 59 = .ok (.invokevirtual 63, 3) := dk_182 0 63 (dk_at dksX8_spoilt_2 14 rfl rfl)
theorem dX8_spoilt_62 : decode cX8_spoilt 62 = .ok (.ireturn, 1) := dk_172 (dk_at dksX8_spoilt_2 17 rfl rfl)
abbrev cX8_dry : ByteArray := prog_20_method_122_code
def yX8_dry : MethodName := ⟨RX8, "dry", "(I)Z"⟩
def dkwX8_dry_4 : List UInt8 := [180, 0, 17, 8, 28, 96, 46, 27, 96, 79, 132, 2, 1, 167, 255, 190, 42, 182, 2, 84, 172]
abbrev dktX8_dry_4 : List UInt8 := dkwX8_dry_4 ++ []
def dkwX8_dry_3 : List UInt8 := [8, 28, 96, 42, 180, 0, 17, 8, 28, 96, 46, 27, 96, 16, 24, 164, 0, 8, 16, 24, 167, 0, 13, 42]
abbrev dktX8_dry_3 : List UInt8 := dkwX8_dry_3 ++ dktX8_dry_4
def dkwX8_dry_2 : List UInt8 := [180, 0, 210, 162, 0, 61, 42, 180, 0, 17, 16, 10, 46, 28, 184, 1, 71, 154, 0, 41, 42, 180, 0, 17]
abbrev dktX8_dry_2 : List UInt8 := dkwX8_dry_2 ++ dktX8_dry_3
def dkwX8_dry_1 : List UInt8 := [184, 0, 138, 154, 0, 9, 42, 5, 182, 2, 78, 172, 42, 182, 2, 81, 3, 61, 28, 42, 180, 1, 117]
abbrev dktX8_dry_1 : List UInt8 := dkwX8_dry_1 ++ dktX8_dry_2
def dkwX8_dry_0 : List UInt8 := [42, 3, 181, 0, 53, 42, 180, 1, 117, 199, 0, 9, 42, 4, 182, 2, 78, 172, 27, 4, 16, 24]
abbrev dktX8_dry_0 : List UInt8 := dkwX8_dry_0 ++ dktX8_dry_1
theorem dksX8_dry_0 : cX8_dry.data.toList.drop 0 = dktX8_dry_0 := by decide +kernel
theorem dksX8_dry_1 : cX8_dry.data.toList.drop 22 = dktX8_dry_1 := dk_seg dksX8_dry_0 22 rfl rfl
theorem dksX8_dry_2 : cX8_dry.data.toList.drop 45 = dktX8_dry_2 := dk_seg dksX8_dry_1 23 rfl rfl
theorem dksX8_dry_3 : cX8_dry.data.toList.drop 69 = dktX8_dry_3 := dk_seg dksX8_dry_2 24 rfl rfl
theorem dksX8_dry_4 : cX8_dry.data.toList.drop 93 = dktX8_dry_4 := dk_seg dksX8_dry_3 24 rfl rfl
theorem dX8_dry_0 : decode cX8_dry 0 = .ok (.aload_n 0, 1) := dk_42 (dk_at dksX8_dry_0 0 rfl rfl)
theorem dX8_dry_1 : decode cX8_dry 1 = .ok (.iconst 0, 1) := dk_3 (dk_at dksX8_dry_0 1 rfl rfl)
theorem dX8_dry_2 : decode cX8_dry 2 = .ok (.putfield 53, 3) := dk_181 0 53 (dk_at dksX8_dry_0 2 rfl rfl)
theorem dX8_dry_5 : decode cX8_dry 5 = .ok (.aload_n 0, 1) := dk_42 (dk_at dksX8_dry_0 5 rfl rfl)
theorem dX8_dry_6 : decode cX8_dry 6 = .ok (.getfield 373, 3) := dk_180 1 117 (dk_at dksX8_dry_0 6 rfl rfl)
theorem dX8_dry_9 : decode cX8_dry 9 = .ok (.ifnonnull 9, 3) := dk_199 0 9 (dk_at dksX8_dry_0 9 rfl rfl)
theorem dX8_dry_12 : decode cX8_dry 12 = .ok (.aload_n 0, 1) := dk_42 (dk_at dksX8_dry_0 12 rfl rfl)
theorem dX8_dry_13 : decode cX8_dry 13 = .ok (.iconst 1, 1) := dk_4 (dk_at dksX8_dry_0 13 rfl rfl)
theorem dX8_dry_14 : decode cX8_dry 14 = .ok (.invokevirtual 590, 3) := dk_182 2 78 (dk_at dksX8_dry_0 14 rfl rfl)
theorem dX8_dry_17 : decode cX8_dry 17 = .ok (.ireturn, 1) := dk_172 (dk_at dksX8_dry_0 17 rfl rfl)
theorem dX8_dry_18 : decode cX8_dry 18 = .ok (.iload_n 1, 1) := dk_27 (dk_at dksX8_dry_0 18 rfl rfl)
theorem dX8_dry_19 : decode cX8_dry 19 = .ok (.iconst 1, 1) := dk_4 (dk_at dksX8_dry_0 19 rfl rfl)
theorem dX8_dry_20 : decode cX8_dry 20 = .ok (.bipush 24, 2) := dk_16 24 (dk_at dksX8_dry_0 20 rfl rfl)
theorem dX8_dry_22 : decode cX8_dry 22 = .ok (.invokestatic 138, 3) := dk_184 0 138 (dk_at dksX8_dry_1 0 rfl rfl)
theorem dX8_dry_25 : decode cX8_dry 25 = .ok (.ifCond .ne 9, 3) := dk_154 0 9 (dk_at dksX8_dry_1 3 rfl rfl)
theorem dX8_dry_28 : decode cX8_dry 28 = .ok (.aload_n 0, 1) := dk_42 (dk_at dksX8_dry_1 6 rfl rfl)
theorem dX8_dry_29 : decode cX8_dry 29 = .ok (.iconst 2, 1) := dk_5 (dk_at dksX8_dry_1 7 rfl rfl)
theorem dX8_dry_30 : decode cX8_dry 30 = .ok (.invokevirtual 590, 3) := dk_182 2 78 (dk_at dksX8_dry_1 8 rfl rfl)
theorem dX8_dry_33 : decode cX8_dry 33 = .ok (.ireturn, 1) := dk_172 (dk_at dksX8_dry_1 11 rfl rfl)
theorem dX8_dry_34 : decode cX8_dry 34 = .ok (.aload_n 0, 1) := dk_42 (dk_at dksX8_dry_1 12 rfl rfl)
theorem dX8_dry_35 : decode cX8_dry 35 = .ok (.invokevirtual 593, 3) := dk_182 2 81 (dk_at dksX8_dry_1 13 rfl rfl)
theorem dX8_dry_38 : decode cX8_dry 38 = .ok (.iconst 0, 1) := dk_3 (dk_at dksX8_dry_1 16 rfl rfl)
theorem dX8_dry_39 : decode cX8_dry 39 = .ok (.istore_n 2, 1) := dk_61 (dk_at dksX8_dry_1 17 rfl rfl)
theorem dX8_dry_40 : decode cX8_dry 40 = .ok (.iload_n 2, 1) := dk_28 (dk_at dksX8_dry_1 18 rfl rfl)
theorem dX8_dry_41 : decode cX8_dry 41 = .ok (.aload_n 0, 1) := dk_42 (dk_at dksX8_dry_1 19 rfl rfl)
theorem dX8_dry_42 : decode cX8_dry 42 = .ok (.getfield 373, 3) := dk_180 1 117 (dk_at dksX8_dry_1 20 rfl rfl)
theorem dX8_dry_45 : decode cX8_dry 45 = .ok (.getfield 210, 3) := dk_180 0 210 (dk_at dksX8_dry_2 0 rfl rfl)
theorem dX8_dry_48 : decode cX8_dry 48 = .ok (.if_icmp .ge 61, 3) := dk_162 0 61 (dk_at dksX8_dry_2 3 rfl rfl)
theorem dX8_dry_51 : decode cX8_dry 51 = .ok (.aload_n 0, 1) := dk_42 (dk_at dksX8_dry_2 6 rfl rfl)
theorem dX8_dry_52 : decode cX8_dry 52 = .ok (.getfield 17, 3) := dk_180 0 17 (dk_at dksX8_dry_2 7 rfl rfl)
theorem dX8_dry_55 : decode cX8_dry 55 = .ok (.bipush 10, 2) := dk_16 10 (dk_at dksX8_dry_2 10 rfl rfl)
theorem dX8_dry_57 : decode cX8_dry 57 = .ok (.iaload, 1) := dk_46 (dk_at dksX8_dry_2 12 rfl rfl)
theorem dX8_dry_58 : decode cX8_dry 58 = .ok (.iload_n 2, 1) := dk_28 (dk_at dksX8_dry_2 13 rfl rfl)
theorem dX8_dry_59 : decode cX8_dry 59 = .ok (.invokestatic 327, 3) := dk_184 1 71 (dk_at dksX8_dry_2 14 rfl rfl)
theorem dX8_dry_62 : decode cX8_dry 62 = .ok (.ifCond .ne 41, 3) := dk_154 0 41 (dk_at dksX8_dry_2 17 rfl rfl)
theorem dX8_dry_65 : decode cX8_dry 65 = .ok (.aload_n 0, 1) := dk_42 (dk_at dksX8_dry_2 20 rfl rfl)
theorem dX8_dry_66 : decode cX8_dry 66 = .ok (.getfield 17, 3) := dk_180 0 17 (dk_at dksX8_dry_2 21 rfl rfl)
theorem dX8_dry_69 : decode cX8_dry 69 = .ok (.iconst 5, 1) := dk_8 (dk_at dksX8_dry_3 0 rfl rfl)
theorem dX8_dry_70 : decode cX8_dry 70 = .ok (.iload_n 2, 1) := dk_28 (dk_at dksX8_dry_3 1 rfl rfl)
theorem dX8_dry_71 : decode cX8_dry 71 = .ok (.iadd, 1) := dk_96 (dk_at dksX8_dry_3 2 rfl rfl)
theorem dX8_dry_72 : decode cX8_dry 72 = .ok (.aload_n 0, 1) := dk_42 (dk_at dksX8_dry_3 3 rfl rfl)
theorem dX8_dry_73 : decode cX8_dry 73 = .ok (.getfield 17, 3) := dk_180 0 17 (dk_at dksX8_dry_3 4 rfl rfl)
theorem dX8_dry_76 : decode cX8_dry 76 = .ok (.iconst 5, 1) := dk_8 (dk_at dksX8_dry_3 7 rfl rfl)
theorem dX8_dry_77 : decode cX8_dry 77 = .ok (.iload_n 2, 1) := dk_28 (dk_at dksX8_dry_3 8 rfl rfl)
theorem dX8_dry_78 : decode cX8_dry 78 = .ok (.iadd, 1) := dk_96 (dk_at dksX8_dry_3 9 rfl rfl)
theorem dX8_dry_79 : decode cX8_dry 79 = .ok (.iaload, 1) := dk_46 (dk_at dksX8_dry_3 10 rfl rfl)
theorem dX8_dry_80 : decode cX8_dry 80 = .ok (.iload_n 1, 1) := dk_27 (dk_at dksX8_dry_3 11 rfl rfl)
theorem dX8_dry_81 : decode cX8_dry 81 = .ok (.iadd, 1) := dk_96 (dk_at dksX8_dry_3 12 rfl rfl)
theorem dX8_dry_82 : decode cX8_dry 82 = .ok (.bipush 24, 2) := dk_16 24 (dk_at dksX8_dry_3 13 rfl rfl)
theorem dX8_dry_84 : decode cX8_dry 84 = .ok (.if_icmp .le 8, 3) := dk_164 0 8 (dk_at dksX8_dry_3 15 rfl rfl)
theorem dX8_dry_87 : decode cX8_dry 87 = .ok (.bipush 24, 2) := dk_16 24 (dk_at dksX8_dry_3 18 rfl rfl)
theorem dX8_dry_89 : decode cX8_dry 89 = .ok (.goto 13, 3) := dk_167 0 13 (dk_at dksX8_dry_3 20 rfl rfl)
theorem dX8_dry_92 : decode cX8_dry 92 = .ok (.aload_n 0, 1) := dk_42 (dk_at dksX8_dry_3 23 rfl rfl)
theorem dX8_dry_93 : decode cX8_dry 93 = .ok (.getfield 17, 3) := dk_180 0 17 (dk_at dksX8_dry_4 0 rfl rfl)
theorem dX8_dry_96 : decode cX8_dry 96 = .ok (.iconst 5, 1) := dk_8 (dk_at dksX8_dry_4 3 rfl rfl)
theorem dX8_dry_97 : decode cX8_dry 97 = .ok (.iload_n 2, 1) := dk_28 (dk_at dksX8_dry_4 4 rfl rfl)
theorem dX8_dry_98 : decode cX8_dry 98 = .ok (.iadd, 1) := dk_96 (dk_at dksX8_dry_4 5 rfl rfl)
theorem dX8_dry_99 : decode cX8_dry 99 = .ok (.iaload, 1) := dk_46 (dk_at dksX8_dry_4 6 rfl rfl)
theorem dX8_dry_100 : decode cX8_dry 100 = .ok (.iload_n 1, 1) := dk_27 (dk_at dksX8_dry_4 7 rfl rfl)
theorem dX8_dry_101 : decode cX8_dry 101 = .ok (.iadd, 1) := dk_96 (dk_at dksX8_dry_4 8 rfl rfl)
theorem dX8_dry_102 : decode cX8_dry 102 = .ok (.iastore, 1) := dk_79 (dk_at dksX8_dry_4 9 rfl rfl)
theorem dX8_dry_103 : decode cX8_dry 103 = .ok (.iinc 2 1, 3) := dk_132 2 1 (dk_at dksX8_dry_4 10 rfl rfl)
theorem dX8_dry_106 : decode cX8_dry 106 = .ok (.goto (-66), 3) := dk_167 255 190 (dk_at dksX8_dry_4 13 rfl rfl)
theorem dX8_dry_109 : decode cX8_dry 109 = .ok (.aload_n 0, 1) := dk_42 (dk_at dksX8_dry_4 16 rfl rfl)
theorem dX8_dry_110 : decode cX8_dry 110 = .ok (.invokevirtual 596, 3) := dk_182 2 84 (dk_at dksX8_dry_4 17 rfl rfl)
theorem dX8_dry_113 : decode cX8_dry 113 = .ok (.ireturn, 1) := dk_172 (dk_at dksX8_dry_4 20 rfl rfl)
