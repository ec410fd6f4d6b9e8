set_option maxRecDepth 100000
abbrev cX8_denied : ByteArray := prog_20_method_4_code
def yX8_denied : MethodName := ⟨RX8, "denied", "(I)Z"⟩
def dkwX8_denied_0 : List UInt8 := [42, 27, 182, 0, 59, 87, 3, 172]
abbrev dktX8_denied_0 : List UInt8 := dkwX8_denied_0 ++ []
theorem dksX8_denied_0 : cX8_denied.data.toList.drop 0 = dktX8_denied_0 := by decide +kernel
theorem dX8_denied_0 : decode cX8_denied 0 = .ok (.aload_n 0, 1) := dk_42 (dk_at dksX8_denied_0 0 rfl rfl)
theorem dX8_denied_1 : decode cX8_denied 1 = .ok (.iload_n 1, 1) := dk_27 (dk_at dksX8_denied_0 1 rfl rfl)
theorem dX8_denied_2 : decode cX8_denied 2 = .ok (.invokevirtual 59, 3) := dk_182 0 59 (dk_at dksX8_denied_0 2 rfl rfl)
theorem dX8_denied_5 : decode cX8_denied 5 = .ok (.pop, 1) := dk_87 (dk_at dksX8_denied_0 5 rfl rfl)
theorem dX8_denied_6 : decode cX8_denied 6 = .ok (.iconst 0, 1) := dk_3 (dk_at dksX8_denied_0 6 rfl rfl)
theorem dX8_denied_7 : decode cX8_denied 7 = .ok (.ireturn, 1) := dk_172 (dk_at dksX8_denied_0 7 rfl rfl)
abbrev cX8_keeps : ByteArray := prog_20_method_121_code
def yX8_keeps : MethodName := ⟨RX8, "keeps", "()V"⟩
def dkwX8_keeps_3 : List UInt8 := [42, 180, 0, 17, 27, 46, 79, 132, 1, 1, 167, 255, 227, 42, 89, 180, 1, 119, 4, 96, 181, 1, 119, 177]
abbrev dktX8_keeps_3 : List UInt8 := dkwX8_keeps_3 ++ []
def dkwX8_keeps_2 : List UInt8 := [181, 1, 119, 3, 60, 27, 16, 18, 162, 0, 29, 42, 180, 0, 21, 16, 18, 42, 180, 1, 119, 104, 27, 96]
abbrev dktX8_keeps_2 : List UInt8 := dkwX8_keeps_2 ++ dktX8_keeps_3
def dkwX8_keeps_1 : List UInt8 := [180, 0, 21, 27, 16, 18, 96, 46, 79, 132, 1, 1, 167, 255, 231, 42, 89, 180, 1, 119, 4, 100]
abbrev dktX8_keeps_1 : List UInt8 := dkwX8_keeps_1 ++ dktX8_keeps_2
def dkwX8_keeps_0 : List UInt8 := [42, 180, 1, 119, 16, 16, 160, 0, 43, 3, 60, 27, 17, 1, 14, 162, 0, 24, 42, 180, 0, 21, 27, 42]
abbrev dktX8_keeps_0 : List UInt8 := dkwX8_keeps_0 ++ dktX8_keeps_1
theorem dksX8_keeps_0 : cX8_keeps.data.toList.drop 0 = dktX8_keeps_0 := by decide +kernel
theorem dksX8_keeps_1 : cX8_keeps.data.toList.drop 24 = dktX8_keeps_1 := dk_seg dksX8_keeps_0 24 rfl rfl
theorem dksX8_keeps_2 : cX8_keeps.data.toList.drop 46 = dktX8_keeps_2 := dk_seg dksX8_keeps_1 22 rfl rfl
theorem dksX8_keeps_3 : cX8_keeps.data.toList.drop 70 = dktX8_keeps_3 := dk_seg dksX8_keeps_2 24 rfl rfl
theorem dX8_keeps_0 : decode cX8_keeps 0 = .ok (.aload_n 0, 1) := dk_42 (dk_at dksX8_keeps_0 0 rfl rfl)
theorem dX8_keeps_1 : decode cX8_keeps 1 = .ok (.getfield 375, 3) := dk_180 1 119 (dk_at dksX8_keeps_0 1 rfl rfl)
theorem dX8_keeps_4 : decode cX8_keeps 4 = .ok (.bipush 16, 2) := dk_16 16 (dk_at dksX8_keeps_0 4 rfl rfl)
theorem dX8_keeps_6 : decode cX8_keeps 6 = .ok (.if_icmp .ne 43, 3) := dk_160 0 43 (dk_at dksX8_keeps_0 6 rfl rfl)
theorem dX8_keeps_9 : decode cX8_keeps 9 = .ok (.iconst 0, 1) := dk_3 (dk_at dksX8_keeps_0 9 rfl rfl)
theorem dX8_keeps_10 : decode cX8_keeps 10 = .ok (.istore_n 1, 1) := dk_60 (dk_at dksX8_keeps_0 10 rfl rfl)
theorem dX8_keeps_11 : decode cX8_keeps 11 = .ok (.iload_n 1, 1) := dk_27 (dk_at dksX8_keeps_0 11 rfl rfl)
theorem dX8_keeps_12 : decode cX8_keeps 12 = .ok (.sipush 270, 3) := dk_17 1 14 (dk_at dksX8_keeps_0 12 rfl rfl)
theorem dX8_keeps_15 : decode cX8_keeps 15 = .ok (.if_icmp .ge 24, 3) := dk_162 0 24 (dk_at dksX8_keeps_0 15 rfl rfl)
theorem dX8_keeps_18 : decode cX8_keeps 18 = .ok (.aload_n 0, 1) := dk_42 (dk_at dksX8_keeps_0 18 rfl rfl)
theorem dX8_keeps_19 : decode cX8_keeps 19 = .ok (.getfield 21, 3) := dk_180 0 21 (dk_at dksX8_keeps_0 19 rfl rfl)
theorem dX8_keeps_22 : decode cX8_keeps 22 = .ok (.iload_n 1, 1) := dk_27 (dk_at dksX8_keeps_0 22 rfl rfl)
theorem dX8_keeps_23 : decode cX8_keeps 23 = .ok (.aload_n 0, 1) := dk_42 (dk_at dksX8_keeps_0 23 rfl rfl)
theorem dX8_keeps_24 : decode cX8_keeps 24 = .ok (.getfield 21, 3) := dk_180 0 21 (dk_at dksX8_keeps_1 0 rfl rfl)
theorem dX8_keeps_27 : decode cX8_keeps 27 = .ok (.iload_n 1, 1) := dk_27 (dk_at dksX8_keeps_1 3 rfl rfl)
theorem dX8_keeps_28 : decode cX8_keeps 28 = .ok (.bipush 18, 2) := dk_16 18 (dk_at dksX8_keeps_1 4 rfl rfl)
theorem dX8_keeps_30 : decode cX8_keeps 30 = .ok (.iadd, 1) := dk_96 (dk_at dksX8_keeps_1 6 rfl rfl)
theorem dX8_keeps_31 : decode cX8_keeps 31 = .ok (.iaload, 1) := dk_46 (dk_at dksX8_keeps_1 7 rfl rfl)
theorem dX8_keeps_32 : decode cX8_keeps 32 = .ok (.iastore, 1) := dk_79 (dk_at dksX8_keeps_1 8 rfl rfl)
theorem dX8_keeps_33 : decode cX8_keeps 33 = .ok (.iinc 1 1, 3) := dk_132 1 1 (dk_at dksX8_keeps_1 9 rfl rfl)
theorem dX8_keeps_36 : decode cX8_keeps 36 = .ok (.goto (-25), 3) := dk_167 255 231 (dk_at dksX8_keeps_1 12 rfl rfl)
theorem dX8_keeps_39 : decode cX8_keeps 39 = .ok (.aload_n 0, 1) := dk_42 (dk_at dksX8_keeps_1 15 rfl rfl)
theorem dX8_keeps_40 : decode cX8_keeps 40 = .ok (.dup, 1) := dk_89 (dk_at dksX8_keeps_1 16 rfl rfl)
theorem dX8_keeps_41 : decode cX8_keeps 41 = .ok (.getfield 375, 3) := dk_180 1 119 (dk_at dksX8_keeps_1 17 rfl rfl)
theorem dX8_keeps_44 : decode cX8_keeps 44 = .ok (.iconst 1, 1) := dk_4 (dk_at dksX8_keeps_1 20 rfl rfl)
theorem dX8_keeps_45 : decode cX8_keeps 45 = .ok (.isub, 1) := dk_100 (dk_at dksX8_keeps_1 21 rfl rfl)
theorem dX8_keeps_46 : decode cX8_keeps 46 = .ok (.putfield 375, 3) := dk_181 1 119 (dk_at dksX8_keeps_2 0 rfl rfl)
theorem dX8_keeps_49 : decode cX8_keeps 49 = .ok (.iconst 0, 1) := dk_3 (dk_at dksX8_keeps_2 3 rfl rfl)
theorem dX8_keeps_50 : decode cX8_keeps 50 = .ok (.istore_n 1, 1) := dk_60 (dk_at dksX8_keeps_2 4 rfl rfl)
theorem dX8_keeps_51 : decode cX8_keeps 51 = .ok (.iload_n 1, 1) := dk_27 (dk_at dksX8_keeps_2 5 rfl rfl)
theorem dX8_keeps_52 : decode cX8_keeps 52 = .ok (.bipush 18, 2) := dk_16 18 (dk_at dksX8_keeps_2 6 rfl rfl)
theorem dX8_keeps_54 : decode cX8_keeps 54 = .ok (.if_icmp .ge 29, 3) := dk_162 0 29 (dk_at dksX8_keeps_2 8 rfl rfl)
theorem dX8_keeps_57 : decode cX8_keeps 57 = .ok (.aload_n 0, 1) := dk_42 (dk_at dksX8_keeps_2 11 rfl rfl)
theorem dX8_keeps_58 : decode cX8_keeps 58 = .ok (.getfield 21, 3) := dk_180 0 21 (dk_at dksX8_keeps_2 12 rfl rfl)
theorem dX8_keeps_61 : decode cX8_keeps 61 = .ok (.bipush 18, 2) := dk_16 18 (dk_at dksX8_keeps_2 15 rfl rfl)
theorem dX8_keeps_63 : decode cX8_keeps 63 = .ok (.aload_n 0, 1) := dk_42 (dk_at dksX8_keeps_2 17 rfl rfl)
theorem dX8_keeps_64 : decode cX8_keeps 64 = .ok (.getfield 375, 3) := dk_180 1 119 (dk_at dksX8_keeps_2 18 rfl rfl)
theorem dX8_keeps_67 : decode cX8_keeps 67 = .ok (.imul, 1) := dk_104 (dk_at dksX8_keeps_2 21 rfl rfl)
theorem dX8_keeps_68 : decode cX8_keeps 68 = .ok (.iload_n 1, 1) := dk_27 (dk_at dksX8_keeps_2 22 rfl rfl)
theorem dX8_keeps_69 : decode cX8_keeps 69 = .ok (.iadd, 1) := dk_96 (dk_at dksX8_keeps_2 23 rfl rfl)
theorem dX8_keeps_70 : decode cX8_keeps 70 = .ok (.aload_n 0, 1) := dk_42 (dk_at dksX8_keeps_3 0 rfl rfl)
theorem dX8_keeps_71 : decode cX8_keeps 71 = .ok (.getfield 17, 3) := dk_180 0 17 (dk_at dksX8_keeps_3 1 rfl rfl)
theorem dX8_keeps_74 : decode cX8_keeps 74 = .ok (.iload_n 1, 1) := dk_27 (dk_at dksX8_keeps_3 4 rfl rfl)
theorem dX8_keeps_75 : decode cX8_keeps 75 = .ok (.iaload, 1) := dk_46 (dk_at dksX8_keeps_3 5 rfl rfl)
theorem dX8_keeps_76 : decode cX8_keeps 76 = .ok (.iastore, 1) := dk_79 (dk_at dksX8_keeps_3 6 rfl rfl)
theorem dX8_keeps_77 : decode cX8_keeps 77 = .ok (.iinc 1 1, 3) := dk_132 1 1 (dk_at dksX8_keeps_3 7 rfl rfl)
theorem dX8_keeps_80 : decode cX8_keeps 80 = .ok (.goto (-29), 3) := dk_167 255 227 (dk_at dksX8_keeps_3 10 rfl rfl)
theorem dX8_keeps_83 : decode cX8_keeps 83 = .ok (.aload_n 0, 1) := dk_42 (dk_at dksX8_keeps_3 13 rfl rfl)
theorem dX8_keeps_84 : decode cX8_keeps 84 = .ok (.dup, 1) := dk_89 (dk_at dksX8_keeps_3 14 rfl rfl)
theorem dX8_keeps_85 : decode cX8_keeps 85 = .ok (.getfield 375, 3) := dk_180 1 119 (dk_at dksX8_keeps_3 15 rfl rfl)
theorem dX8_keeps_88 : decode cX8_keeps 88 = .ok (.iconst 1, 1) := dk_4 (dk_at dksX8_keeps_3 18 rfl rfl)
theorem dX8_keeps_89 : decode cX8_keeps 89 = .ok (.iadd, 1) := dk_96 (dk_at dksX8_keeps_3 19 rfl rfl)
theorem dX8_keeps_90 : decode cX8_keeps 90 = .ok (.putfield 375, 3) := dk_181 1 119 (dk_at dksX8_keeps_3 20 rfl rfl)
theorem dX8_keeps_93 : decode cX8_keeps 93 = .ok (.return_, 1) := dk_177 (dk_at dksX8_keeps_3 23 rfl rfl)
abbrev cX8_granted : ByteArray := prog_20_method_6_code
def yX8_granted : MethodName := ⟨RX8, "granted", "()Z"⟩
def dkwX8_granted_0 : List UInt8 := [42, 3, 182, 0, 63, 87, 4, 172]
abbrev dktX8_granted_0 : List UInt8 := dkwX8_granted_0 ++ []
theorem dksX8_granted_0 : cX8_granted.data.toList.drop 0 = dktX8_granted_0 := by decide +kernel
theorem dX8_granted_0 : decode cX8_granted 0 = .ok (.aload_n 0, 1) := dk_42 (dk_at dksX8_granted_0 0 rfl rfl)
theorem dX8_granted_1 : decode cX8_granted 1 = .ok (.iconst 0, 1) := dk_3 (dk_at dksX8_granted_0 1 rfl rfl)
theorem dX8_granted_2 : decode cX8_granted 2 = .ok (.invokevirtual 63, 3) := dk_182 0 63 (dk_at dksX8_granted_0 2 rfl rfl)
theorem dX8_granted_5 : decode cX8_granted 5 = .ok (.pop, 1) := dk_87 (dk_at dksX8_granted_0 5 rfl rfl)
theorem dX8_granted_6 : decode cX8_granted 6 = .ok (.iconst 1, 1) := dk_4 (dk_at dksX8_granted_0 6 rfl rfl)
theorem dX8_granted_7 : decode cX8_granted 7 = .ok (.ireturn, 1) := dk_172 (dk_at dksX8_granted_0 7 rfl rfl)
abbrev cX8_boil : ByteArray := prog_20_method_123_code
def yX8_boil : MethodName := ⟨RX8, "boil", "(I)Z"⟩
def dkwX8_boil_2 : List UInt8 := [182, 2, 78, 172, 42, 182, 2, 81, 42, 180, 0, 17, 3, 27, 96, 5, 79, 42, 182, 2, 84, 172]
abbrev dktX8_boil_2 : List UInt8 := dkwX8_boil_2 ++ []
def dkwX8_boil_1 : List UInt8 := [16, 10, 46, 27, 184, 1, 71, 154, 0, 15, 42, 180, 0, 17, 3, 27, 96, 46, 5, 160, 0, 9, 42, 8]
abbrev dktX8_boil_1 : List UInt8 := dkwX8_boil_1 ++ dktX8_boil_2
def dkwX8_boil_0 : List UInt8 := [42, 3, 181, 0, 53, 42, 27, 182, 1, 188, 154, 0, 9, 42, 4, 182, 2, 78, 172, 42, 180, 0, 17]
abbrev dktX8_boil_0 : List UInt8 := dkwX8_boil_0 ++ dktX8_boil_1
theorem dksX8_boil_0 : cX8_boil.data.toList.drop 0 = dktX8_boil_0 := by decide +kernel
theorem dksX8_boil_1 : cX8_boil.data.toList.drop 23 = dktX8_boil_1 := dk_seg dksX8_boil_0 23 rfl rfl
theorem dksX8_boil_2 : cX8_boil.data.toList.drop 47 = dktX8_boil_2 := dk_seg dksX8_boil_1 24 rfl rfl
theorem dX8_boil_0 : decode cX8_boil 0 = .ok (.aload_n 0, 1) := dk_42 (dk_at dksX8_boil_0 0 rfl rfl)
theorem dX8_boil_1 : decode cX8_boil 1 = .ok (.iconst 0, 1) := dk_3 (dk_at dksX8_boil_0 1 rfl rfl)
theorem dX8_boil_2 : decode cX8_boil 2 = .ok (.putfield 53, 3) := dk_181 0 53 (dk_at dksX8_boil_0 2 rfl rfl)
theorem dX8_boil_5 : decode cX8_boil 5 = .ok (.aload_n 0, 1) := dk_42 (dk_at dksX8_boil_0 5 rfl rfl)
theorem dX8_boil_6 : decode cX8_boil 6 = .ok (.iload_n 1, 1) := dk_27 (dk_at dksX8_boil_0 6 rfl rfl)
theorem dX8_boil_7 : decode cX8_boil 7 = .ok (.invokevirtual 444, 3) := dk_182 1 188 (dk_at dksX8_boil_0 7 rfl rfl)
theorem dX8_boil_10 : decode cX8_boil 10 = .ok (.ifCond .ne 9, 3) := dk_154 0 9 (dk_at dksX8_boil_0 10 rfl rfl)
theorem dX8_boil_13 : decode cX8_boil 13 = .ok (.aload_n 0, 1) := dk_42 (dk_at dksX8_boil_0 13 rfl rfl)
theorem dX8_boil_14 : decode cX8_boil 14 = .ok (.iconst 1, 1) := dk_4 (dk_at dksX8_boil_0 14 rfl rfl)
theorem dX8_boil_15 : decode cX8_boil 15 = .ok (.invokevirtual 590, 3) := dk_182 2 78 (dk_at dksX8_boil_0 15 rfl rfl)
theorem dX8_boil_18 : decode cX8_boil 18 = .ok (.ireturn, 1) := dk_172 (dk_at dksX8_boil_0 18 rfl rfl)
theorem dX8_boil_19 : decode cX8_boil 19 = .ok (.aload_n 0, 1) := dk_42 (dk_at dksX8_boil_0 19 rfl rfl)
theorem dX8_boil_20 : decode cX8_boil 20 = .ok (.getfield 17, 3) := dk_180 0 17 (dk_at dksX8_boil_0 20 rfl rfl)
theorem dX8_boil_23 : decode cX8_boil 23 = .ok (.bipush 10, 2) := dk_16 10 (dk_at dksX8_boil_1 0 rfl rfl)
theorem dX8_boil_25 : decode cX8_boil 25 = .ok (.iaload, 1) := dk_46 (dk_at dksX8_boil_1 2 rfl rfl)
theorem dX8_boil_26 : decode cX8_boil 26 = .ok (.iload_n 1, 1) := dk_27 (dk_at dksX8_boil_1 3 rfl rfl)
theorem dX8_boil_27 : decode cX8_boil 27 = .ok (.invokestatic 327, 3) := dk_184 1 71 (dk_at dksX8_boil_1 4 rfl rfl)
theorem dX8_boil_30 : decode cX8_boil 30 = .ok (.ifCond .ne 15, 3) := dk_154 0 15 (dk_at dksX8_boil_1 7 rfl rfl)
theorem dX8_boil_33 : decode cX8_boil 33 = .ok (.aload_n 0, 1) := dk_42 (dk_at dksX8_boil_1 10 rfl rfl)
theorem dX8_boil_34 : decode cX8_boil 34 = .ok (.getfield 17, 3) := dk_180 0 17 (dk_at dksX8_boil_1 11 rfl rfl)
theorem dX8_boil_37 : decode cX8_boil 37 = .ok (.iconst 0, 1) := dk_3 (dk_at dksX8_boil_1 14 rfl rfl)
theorem dX8_boil_38 : decode cX8_boil 38 = .ok (.iload_n 1, 1) := dk_27 (dk_at dksX8_boil_1 15 rfl rfl)
theorem dX8_boil_39 : decode cX8_boil 39 = .ok (.iadd, 1) := dk_96 (dk_at dksX8_boil_1 16 rfl rfl)
theorem dX8_boil_40 : decode cX8_boil 40 = .ok (.iaload, 1) := dk_46 (dk_at dksX8_boil_1 17 rfl rfl)
theorem dX8_boil_41 : decode cX8_boil 41 = .ok (.iconst 2, 1) := dk_5 (dk_at dksX8_boil_1 18 rfl rfl)
theorem dX8_boil_42 : decode cX8_boil 42 = .ok (.if_icmp .ne 9, 3) := dk_160 0 9 (dk_at dksX8_boil_1 19 rfl rfl)
theorem dX8_boil_45 : decode cX8_boil 45 = .ok (.aload_n 0, 1) := dk_42 (dk_at dksX8_boil_1 22 rfl rfl)
theorem dX8_boil_46 : decode cX8_boil 46 = .ok (.iconst 5, 1) := dk_8 (dk_at dksX8_boil_1 23 rfl rfl)
theorem dX8_boil_47 : decode cX8_boil 47 = .ok (.invokevirtual 590, 3) := dk_182 2 78 (dk_at dksX8_boil_2 0 rfl rfl)
theorem dX8_boil_50 : decode cX8_boil 50 = .ok (.ireturn, 1) := dk_172 (dk_at dksX8_boil_2 3 rfl rfl)
theorem dX8_boil_51 : decode cX8_boil 51 = .ok (.aload_n 0, 1) := dk_42 (dk_at dksX8_boil_2 4 rfl rfl)
theorem dX8_boil_52 : decode cX8_boil 52 = .ok (.invokevirtual 593, 3) := dk_182 2 81 (dk_at dksX8_boil_2 5 rfl rfl)
theorem dX8_boil_55 : decode cX8_boil 55 = .ok (.aload_n 0, 1) := dk_42 (dk_at dksX8_boil_2 8 rfl rfl)
theorem dX8_boil_56 : decode cX8_boil 56 = .ok (.getfield 17, 3) := dk_180 0 17 (dk_at dksX8_boil_2 9 rfl rfl)
theorem dX8_boil_59 : decode cX8_boil 59 = .ok (.iconst 0, 1) := dk_3 (dk_at dksX8_boil_2 12 rfl rfl)
theorem dX8_boil_60 : decode cX8_boil 60 = .ok (.iload_n 1, 1) := dk_27 (dk_at dksX8_boil_2 13 rfl rfl)
theorem dX8_boil_61 : decode cX8_boil 61 = .ok (.iadd, 1) := dk_96 (dk_at dksX8_boil_2 14 rfl rfl)
theorem dX8_boil_62 : decode cX8_boil 62 = .ok (.iconst 2, 1) := dk_5 (dk_at dksX8_boil_2 15 rfl rfl)
theorem dX8_boil_63 : decode cX8_boil 63 = .ok (.iastore, 1) := dk_79 (dk_at dksX8_boil_2 16 rfl rfl)
theorem dX8_boil_64 : decode cX8_boil 64 = .ok (.aload_n 0, 1) := dk_42 (dk_at dksX8_boil_2 17 rfl rfl)
theorem dX8_boil_65 : decode cX8_boil 65 = .ok (.invokevirtual 596, 3) := dk_182 2 84 (dk_at dksX8_boil_2 18 rfl rfl)
theorem dX8_boil_68 : decode cX8_boil 68 = .ok (.ireturn, 1) := dk_172 (dk_at dksX8_boil_2 21 rfl rfl)
abbrev cX8_pull : ByteArray := prog_20_method_124_code
def yX8_pull : MethodName := ⟨RX8, "pull", "(IIIIII)I"⟩
def dkwX8_pull_8 : List UInt8 := [92, 46, 4, 96, 79, 42, 21, 8, 182, 0, 63, 172]
abbrev dktX8_pull_8 : List UInt8 := dkwX8_pull_8 ++ []
def dkwX8_pull_7 : List UInt8 := [96, 92, 46, 4, 96, 79, 167, 0, 23, 21, 8, 4, 160, 0, 17, 42, 180, 0, 17, 16, 11, 21, 4, 96]
abbrev dktX8_pull_7 : List UInt8 := dkwX8_pull_7 ++ dktX8_pull_8
def dkwX8_pull_6 : List UInt8 := [180, 0, 17, 16, 10, 92, 46, 4, 27, 120, 128, 79, 21, 8, 154, 0, 19, 42, 180, 0, 17, 16, 11, 28]
abbrev dktX8_pull_6 : List UInt8 := dkwX8_pull_6 ++ dktX8_pull_7
def dkwX8_pull_5 : List UInt8 := [180, 0, 17, 16, 17, 42, 180, 2, 51, 79, 42, 182, 1, 177, 54, 8, 21, 8, 6, 159, 0, 16, 42]
abbrev dktX8_pull_5 : List UInt8 := dkwX8_pull_5 ++ dktX8_pull_6
def dkwX8_pull_4 : List UInt8 := [46, 181, 2, 51, 42, 27, 28, 29, 21, 4, 21, 5, 21, 6, 182, 1, 140, 42, 182, 2, 67, 42]
abbrev dktX8_pull_4 : List UInt8 := dkwX8_pull_4 ++ dktX8_pull_5
def dkwX8_pull_3 : List UInt8 := [27, 184, 1, 71, 153, 0, 9, 42, 8, 182, 0, 59, 172, 42, 182, 2, 81, 42, 42, 180, 0, 17, 16, 17]
abbrev dktX8_pull_3 : List UInt8 := dkwX8_pull_3 ++ dktX8_pull_4
def dkwX8_pull_2 : List UInt8 := [182, 0, 59, 172, 42, 180, 1, 117, 180, 1, 32, 27, 46, 4, 159, 0, 17, 42, 180, 0, 17, 16, 10, 46]
abbrev dktX8_pull_2 : List UInt8 := dkwX8_pull_2 ++ dktX8_pull_3
def dkwX8_pull_1 : List UInt8 := [4, 167, 0, 4, 3, 27, 29, 21, 5, 21, 6, 182, 1, 202, 54, 7, 21, 7, 158, 0, 10, 42, 21, 7]
abbrev dktX8_pull_1 : List UInt8 := dkwX8_pull_1 ++ dktX8_pull_2
def dkwX8_pull_0 : List UInt8 := [42, 3, 181, 0, 53, 42, 42, 27, 182, 1, 188, 153, 0, 17, 42, 28, 21, 4, 182, 1, 199, 153, 0, 7]
abbrev dktX8_pull_0 : List UInt8 := dkwX8_pull_0 ++ dktX8_pull_1
theorem dksX8_pull_0 : cX8_pull.data.toList.drop 0 = dktX8_pull_0 := by decide +kernel
theorem dksX8_pull_1 : cX8_pull.data.toList.drop 24 = dktX8_pull_1 := dk_seg dksX8_pull_0 24 rfl rfl
theorem dksX8_pull_2 : cX8_pull.data.toList.drop 48 = dktX8_pull_2 := dk_seg dksX8_pull_1 24 rfl rfl
theorem dksX8_pull_3 : cX8_pull.data.toList.drop 72 = dktX8_pull_3 := dk_seg dksX8_pull_2 24 rfl rfl
theorem dksX8_pull_4 : cX8_pull.data.toList.drop 96 = dktX8_pull_4 := dk_seg dksX8_pull_3 24 rfl rfl
theorem dksX8_pull_5 : cX8_pull.data.toList.drop 118 = dktX8_pull_5 := dk_seg dksX8_pull_4 22 rfl rfl
theorem dksX8_pull_6 : cX8_pull.data.toList.drop 141 = dktX8_pull_6 := dk_seg dksX8_pull_5 23 rfl rfl
theorem dksX8_pull_7 : cX8_pull.data.toList.drop 165 = dktX8_pull_7 := dk_seg dksX8_pull_6 24 rfl rfl
theorem dksX8_pull_8 : cX8_pull.data.toList.drop 189 = dktX8_pull_8 := dk_seg dksX8_pull_7 24 rfl rfl
theorem dX8_pull_0 : decode cX8_pull 0 = .ok (.aload_n 0, 1) := dk_42 (dk_at dksX8_pull_0 0 rfl rfl)
theorem dX8_pull_1 : decode cX8_pull 1 = .ok (.iconst 0, 1) := dk_3 (dk_at dksX8_pull_0 1 rfl rfl)
theorem dX8_pull_2 : decode cX8_pull 2 = .ok (.putfield 53, 3) := dk_181 0 53 (dk_at dksX8_pull_0 2 rfl rfl)
theorem dX8_pull_5 : decode cX8_pull 5 = .ok (.aload_n 0, 1) := dk_42 (dk_at dksX8_pull_0 5 rfl rfl)
theorem dX8_pull_6 : decode cX8_pull 6 = .ok (.aload_n 0, 1) := dk_42 (dk_at dksX8_pull_0 6 rfl rfl)
theorem dX8_pull_7 : decode cX8_pull 7 = .ok (.iload_n 1, 1) := dk_27 (dk_at dksX8_pull_0 7 rfl rfl)
theorem dX8_pull_8 : decode cX8_pull 8 = .ok (.invokevirtual 444, 3) := dk_182 1 188 (dk_at dksX8_pull_0 8 rfl rfl)
theorem dX8_pull_11 : decode cX8_pull 11 = .ok (.ifCond .eq 17, 3) := dk_153 0 17 (dk_at dksX8_pull_0 11 rfl rfl)
theorem dX8_pull_14 : decode cX8_pull 14 = .ok (.aload_n 0, 1) := dk_42 (dk_at dksX8_pull_0 14 rfl rfl)
theorem dX8_pull_15 : decode cX8_pull 15 = .ok (.iload_n 2, 1) := dk_28 (dk_at dksX8_pull_0 15 rfl rfl)
theorem dX8_pull_16 : decode cX8_pull 16 = .ok (.iload 4, 2) := dk_21 4 (dk_at dksX8_pull_0 16 rfl rfl)
theorem dX8_pull_18 : decode cX8_pull 18 = .ok (.invokevirtual 455, 3) := dk_182 1 199 (dk_at dksX8_pull_0 18 rfl rfl)
theorem dX8_pull_21 : decode cX8_pull 21 = .ok (.ifCond .eq 7, 3) := dk_153 0 7 (dk_at dksX8_pull_0 21 rfl rfl)
theorem dX8_pull_24 : decode cX8_pull 24 = .ok (.iconst 1, 1) := dk_4 (dk_at dksX8_pull_1 0 rfl rfl)
theorem dX8_pull_25 : decode cX8_pull 25 = .ok (.goto 4, 3) := dk_167 0 4 (dk_at dksX8_pull_1 1 rfl rfl)
theorem dX8_pull_28 : decode cX8_pull 28 = .ok (.iconst 0, 1) := dk_3 (dk_at dksX8_pull_1 4 rfl rfl)
theorem dX8_pull_29 : decode cX8_pull 29 = .ok (.iload_n 1, 1) := dk_27 (dk_at dksX8_pull_1 5 rfl rfl)
theorem dX8_pull_30 : decode cX8_pull 30 = .ok (.iload_n 3, 1) := dk_29 (dk_at dksX8_pull_1 6 rfl rfl)
theorem dX8_pull_31 : decode cX8_pull 31 = .ok (.iload 5, 2) := dk_21 5 (dk_at dksX8_pull_1 7 rfl rfl)
theorem dX8_pull_33 : decode cX8_pull 33 = .ok (.iload 6, 2) := dk_21 6 (dk_at dksX8_pull_1 9 rfl rfl)
theorem dX8_pull_35 : decode cX8_pull 35 = .ok (.invokevirtual 458, 3) := dk_182 1 202 (dk_at dksX8_pull_1 11 rfl rfl)
theorem dX8_pull_38 : decode cX8_pull 38 = .ok (.istore 7, 2) := dk_54 7 (dk_at dksX8_pull_1 14 rfl rfl)
theorem dX8_pull_40 : decode cX8_pull 40 = .ok (.iload 7, 2) := dk_21 7 (dk_at dksX8_pull_1 16 rfl rfl)
theorem dX8_pull_42 : decode cX8_pull 42 = .ok (.ifCond .le 10, 3) := dk_158 0 10 (dk_at dksX8_pull_1 18 rfl rfl)
theorem dX8_pull_45 : decode cX8_pull 45 = .ok (.aload_n 0, 1) := dk_42 (dk_at dksX8_pull_1 21 rfl rfl)
theorem dX8_pull_46 : decode cX8_pull 46 = .ok (.iload 7, 2) := dk_21 7 (dk_at dksX8_pull_1 22 rfl rfl)
theorem dX8_pull_48 : decode cX8_pull 48 = .ok (.invokevirtual 59, 3) := dk_182 0 59 (dk_at dksX8_pull_2 0 rfl rfl)
theorem dX8_pull_51 : decode cX8_pull 51 = .ok (.ireturn, 1) := dk_172 (dk_at dksX8_pull_2 3 rfl rfl)
theorem dX8_pull_52 : decode cX8_pull 52 = .ok (.aload_n 0, 1) := dk_42 (dk_at dksX8_pull_2 4 rfl rfl)
theorem dX8_pull_53 : decode cX8_pull 53 = .ok (.getfield 373, 3) := dk_180 1 117 (dk_at dksX8_pull_2 5 rfl rfl)
theorem dX8_pull_56 : decode cX8_pull 56 = .ok (.getfield 288, 3) := dk_180 1 32 (dk_at dksX8_pull_2 8 rfl rfl)
theorem dX8_pull_59 : decode cX8_pull 59 = .ok (.iload_n 1, 1) := dk_27 (dk_at dksX8_pull_2 11 rfl rfl)
theorem dX8_pull_60 : decode cX8_pull 60 = .ok (.iaload, 1) := dk_46 (dk_at dksX8_pull_2 12 rfl rfl)
theorem dX8_pull_61 : decode cX8_pull 61 = .ok (.iconst 1, 1) := dk_4 (dk_at dksX8_pull_2 13 rfl rfl)
theorem dX8_pull_62 : decode cX8_pull 62 = .ok (.if_icmp .eq 17, 3) := dk_159 0 17 (dk_at dksX8_pull_2 14 rfl rfl)
theorem dX8_pull_65 : decode cX8_pull 65 = .ok (.aload_n 0, 1) := dk_42 (dk_at dksX8_pull_2 17 rfl rfl)
theorem dX8_pull_66 : decode cX8_pull 66 = .ok (.getfield 17, 3) := dk_180 0 17 (dk_at dksX8_pull_2 18 rfl rfl)
theorem dX8_pull_69 : decode cX8_pull 69 = .ok (.bipush 10, 2) := dk_16 10 (dk_at dksX8_pull_2 21 rfl rfl)
theorem dX8_pull_71 : decode cX8_pull 71 = .ok (.iaload, 1) := dk_46 (dk_at dksX8_pull_2 23 rfl rfl)
theorem dX8_pull_72 : decode cX8_pull 72 = .ok (.iload_n 1, 1) := dk_27 (dk_at dksX8_pull_3 0 rfl rfl)
theorem dX8_pull_73 : decode cX8_pull 73 = .ok (.invokestatic 327, 3) := dk_184 1 71 (dk_at dksX8_pull_3 1 rfl rfl)
theorem dX8_pull_76 : decode cX8_pull 76 = .ok (.ifCond .eq 9, 3) := dk_153 0 9 (dk_at dksX8_pull_3 4 rfl rfl)
theorem dX8_pull_79 : decode cX8_pull 79 = .ok (.aload_n 0, 1) := dk_42 (dk_at dksX8_pull_3 7 rfl rfl)
theorem dX8_pull_80 : decode cX8_pull 80 = .ok (.iconst 5, 1) := dk_8 (dk_at dksX8_pull_3 8 rfl rfl)
theorem dX8_pull_81 : decode cX8_pull 81 = .ok (.invokevirtual 59, 3) := dk_182 0 59 (dk_at dksX8_pull_3 9 rfl rfl)
theorem dX8_pull_84 : decode cX8_pull 84 = .ok (.ireturn, 1) := dk_172 (dk_at dksX8_pull_3 12 rfl rfl)
theorem dX8_pull_85 : decode cX8_pull 85 = .ok (.aload_n 0, 1) := dk_42 (dk_at dksX8_pull_3 13 rfl rfl)
theorem dX8_pull_86 : decode cX8_pull 86 = .ok (.invokevirtual 593, 3) := dk_182 2 81 (dk_at dksX8_pull_3 14 rfl rfl)
theorem dX8_pull_89 : decode cX8_pull 89 = .ok (.aload_n 0, 1) := dk_42 (dk_at dksX8_pull_3 17 rfl rfl)
theorem dX8_pull_90 : decode cX8_pull 90 = .ok (.aload_n 0, 1) := dk_42 (dk_at dksX8_pull_3 18 rfl rfl)
theorem dX8_pull_91 : decode cX8_pull 91 = .ok (.getfield 17, 3) := dk_180 0 17 (dk_at dksX8_pull_3 19 rfl rfl)
theorem dX8_pull_94 : decode cX8_pull 94 = .ok (.bipush 17, 2) := dk_16 17 (dk_at dksX8_pull_3 22 rfl rfl)
theorem dX8_pull_96 : decode cX8_pull 96 = .ok (.iaload, 1) := dk_46 (dk_at dksX8_pull_4 0 rfl rfl)
theorem dX8_pull_97 : decode cX8_pull 97 = .ok (.putfield 563, 3) := dk_181 2 51 (dk_at dksX8_pull_4 1 rfl rfl)
theorem dX8_pull_100 : decode cX8_pull 100 = .ok (.aload_n 0, 1) := dk_42 (dk_at dksX8_pull_4 4 rfl rfl)
theorem dX8_pull_101 : decode cX8_pull 101 = .ok (.iload_n 1, 1) := dk_27 (dk_at dksX8_pull_4 5 rfl rfl)
theorem dX8_pull_102 : decode cX8_pull 102 = .ok (.iload_n 2, 1) := dk_28 (dk_at dksX8_pull_4 6 rfl rfl)
theorem dX8_pull_103 : decode cX8_pull 103 = .ok (.iload_n 3, 1) := dk_29 (dk_at dksX8_pull_4 7 rfl rfl)
theorem dX8_pull_104 : decode cX8_pull 104 = .ok (.iload 4, 2) := dk_21 4 (dk_at dksX8_pull_4 8 rfl rfl)
theorem dX8_pull_106 : decode cX8_pull 106 = .ok (.iload 5, 2) := dk_21 5 (dk_at dksX8_pull_4 10 rfl rfl)
theorem dX8_pull_108 : decode cX8_pull 108 = .ok (.iload 6, 2) := dk_21 6 (dk_at dksX8_pull_4 12 rfl rfl)
theorem dX8_pull_110 : decode cX8_pull 110 = .ok (.invokevirtual 396, 3) := dk_182 1 140 (dk_at dksX8_pull_4 14 rfl rfl)
theorem dX8_pull_113 : decode cX8_pull 113 = .ok (.aload_n 0, 1) := dk_42 (dk_at dksX8_pull_4 17 rfl rfl)
theorem dX8_pull_114 : decode cX8_pull 114 = .ok (.invokevirtual 579, 3) := dk_182 2 67 (dk_at dksX8_pull_4 18 rfl rfl)
theorem dX8_pull_117 : decode cX8_pull 117 = .ok (.aload_n 0, 1) := dk_42 (dk_at dksX8_pull_4 21 rfl rfl)
theorem dX8_pull_118 : decode cX8_pull 118 = .ok (.getfield 17, 3) := dk_180 0 17 (dk_at dksX8_pull_5 0 rfl rfl)
theorem dX8_pull_121 : decode cX8_pull 121 = .ok (.bipush 17, 2) := dk_16 17 (dk_at dksX8_pull_5 3 rfl rfl)
theorem dX8_pull_123 : decode cX8_pull 123 = .ok (.aload_n 0, 1) := dk_42 (dk_at dksX8_pull_5 5 rfl rfl)
theorem dX8_pull_124 : decode cX8_pull 124 = .ok (.getfield 563, 3) := dk_180 2 51 (dk_at dksX8_pull_5 6 rfl rfl)
theorem dX8_pull_127 : decode cX8_pull 127 = .ok (.iastore, 1) := dk_79 (dk_at dksX8_pull_5 9 rfl rfl)
theorem dX8_pull_128 : decode cX8_pull 128 = .ok (.aload_n 0, 1) := dk_42 (dk_at dksX8_pull_5 10 rfl rfl)
theorem dX8_pull_129 : decode cX8_pull 129 = .ok (.invokevirtual 433, 3) := dk_182 1 177 (dk_at dksX8_pull_5 11 rfl rfl)
theorem dX8_pull_132 : decode cX8_pull 132 = .ok (.istore 8, 2) := dk_54 8 (dk_at dksX8_pull_5 14 rfl rfl)
theorem dX8_pull_134 : decode cX8_pull 134 = .ok (.iload 8, 2) := dk_21 8 (dk_at dksX8_pull_5 16 rfl rfl)
theorem dX8_pull_136 : decode cX8_pull 136 = .ok (.iconst 3, 1) := dk_6 (dk_at dksX8_pull_5 18 rfl rfl)
theorem dX8_pull_137 : decode cX8_pull 137 = .ok (.if_icmp .eq 16, 3) := dk_159 0 16 (dk_at dksX8_pull_5 19 rfl rfl)
theorem dX8_pull_140 : decode cX8_pull 140 = .ok (.aload_n 0, 1) := dk_42 (dk_at dksX8_pull_5 22 rfl rfl)
theorem dX8_pull_141 : decode cX8_pull 141 = .ok (.getfield 17, 3) := dk_180 0 17 (dk_at dksX8_pull_6 0 rfl rfl)
theorem dX8_pull_144 : decode cX8_pull 144 = .ok (.bipush 10, 2) := dk_16 10 (dk_at dksX8_pull_6 3 rfl rfl)
theorem dX8_pull_146 : decode cX8_pull 146 = .ok (.dup2, 1) := dk_92 (dk_at dksX8_pull_6 5 rfl rfl)
theorem dX8_pull_147 : decode cX8_pull 147 = .ok (.iaload, 1) := dk_46 (dk_at dksX8_pull_6 6 rfl rfl)
theorem dX8_pull_148 : decode cX8_pull 148 = .ok (.iconst 1, 1) := dk_4 (dk_at dksX8_pull_6 7 rfl rfl)
theorem dX8_pull_149 : decode cX8_pull 149 = .ok (.iload_n 1, 1) := dk_27 (dk_at dksX8_pull_6 8 rfl rfl)
theorem dX8_pull_150 : decode cX8_pull 150 = .ok (.ishl, 1) := dk_120 (dk_at dksX8_pull_6 9 rfl rfl)
theorem dX8_pull_151 : decode cX8_pull 151 = .ok (.ior, 1) := dk_128 (dk_at dksX8_pull_6 10 rfl rfl)
theorem dX8_pull_152 : decode cX8_pull 152 = .ok (.iastore, 1) := dk_79 (dk_at dksX8_pull_6 11 rfl rfl)
theorem dX8_pull_153 : decode cX8_pull 153 = .ok (.iload 8, 2) := dk_21 8 (dk_at dksX8_pull_6 12 rfl rfl)
theorem dX8_pull_155 : decode cX8_pull 155 = .ok (.ifCond .ne 19, 3) := dk_154 0 19 (dk_at dksX8_pull_6 14 rfl rfl)
theorem dX8_pull_158 : decode cX8_pull 158 = .ok (.aload_n 0, 1) := dk_42 (dk_at dksX8_pull_6 17 rfl rfl)
theorem dX8_pull_159 : decode cX8_pull 159 = .ok (.getfield 17, 3) := dk_180 0 17 (dk_at dksX8_pull_6 18 rfl rfl)
theorem dX8_pull_162 : decode cX8_pull 162 = .ok (.bipush 11, 2) := dk_16 11 (dk_at dksX8_pull_6 21 rfl rfl)
theorem dX8_pull_164 : decode cX8_pull 164 = .ok (.iload_n 2, 1) := dk_28 (dk_at dksX8_pull_6 23 rfl rfl)
theorem dX8_pull_165 : decode cX8_pull 165 = .ok (.iadd, 1) := dk_96 (dk_at dksX8_pull_7 0 rfl rfl)
theorem dX8_pull_166 : decode cX8_pull 166 = .ok (.dup2, 1) := dk_92 (dk_at dksX8_pull_7 1 rfl rfl)
theorem dX8_pull_167 : decode cX8_pull 167 = .ok (.iaload, 1) := dk_46 (dk_at dksX8_pull_7 2 rfl rfl)
theorem dX8_pull_168 : decode cX8_pull 168 = .ok (.iconst 1, 1) := dk_4 (dk_at dksX8_pull_7 3 rfl rfl)
theorem dX8_pull_169 : decode cX8_pull 169 = .ok (.iadd, 1) := dk_96 (dk_at dksX8_pull_7 4 rfl rfl)
theorem dX8_pull_170 : decode cX8_pull 170 = .ok (.iastore, 1) := dk_79 (dk_at dksX8_pull_7 5 rfl rfl)
theorem dX8_pull_171 : decode cX8_pull 171 = .ok (.goto 23, 3) := dk_167 0 23 (dk_at dksX8_pull_7 6 rfl rfl)
theorem dX8_pull_174 : decode cX8_pull 174 = .ok (.iload 8, 2) := dk_21 8 (dk_at dksX8_pull_7 9 rfl rfl)
theorem dX8_pull_176 : decode cX8_pull 176 = .ok (.iconst 1, 1) := dk_4 (dk_at dksX8_pull_7 11 rfl rfl)
theorem dX8_pull_177 : decode cX8_pull 177 = .ok (.if_icmp .ne 17, 3) := dk_160 0 17 (dk_at dksX8_pull_7 12 rfl rfl)
theorem dX8_pull_180 : decode cX8_pull 180 = .ok (.aload_n 0, 1) := dk_42 (dk_at dksX8_pull_7 15 rfl rfl)
theorem dX8_pull_181 : decode cX8_pull 181 = .ok (.getfield 17, 3) := dk_180 0 17 (dk_at dksX8_pull_7 16 rfl rfl)
theorem dX8_pull_184 : decode cX8_pull 184 = .ok (.bipush 11, 2) := dk_16 11 (dk_at dksX8_pull_7 19 rfl rfl)
theorem dX8_pull_186 : decode cX8_pull 186 = .ok (.iload 4, 2) := dk_21 4 (dk_at dksX8_pull_7 21 rfl rfl)
theorem dX8_pull_188 : decode cX8_pull 188 = .ok (.iadd, 1) := dk_96 (dk_at dksX8_pull_7 23 rfl rfl)
theorem dX8_pull_189 : decode cX8_pull 189 = .ok (.dup2, 1) := dk_92 (dk_at dksX8_pull_8 0 rfl rfl)
theorem dX8_pull_190 : decode cX8_pull 190 = .ok (.iaload, 1) := dk_46 (dk_at dksX8_pull_8 1 rfl rfl)
theorem dX8_pull_191 : decode cX8_pull 191 = .ok (.iconst 1, 1) := dk_4 (dk_at dksX8_pull_8 2 rfl rfl)
theorem dX8_pull_192 : decode cX8_pull 192 = .ok (.iadd, 1) := dk_96 (dk_at dksX8_pull_8 3 rfl rfl)
theorem dX8_pull_193 : decode cX8_pull 193 = .ok (.iastore, 1) := dk_79 (dk_at dksX8_pull_8 4 rfl rfl)
theorem dX8_pull_194 : decode cX8_pull 194 = .ok (.aload_n 0, 1) := dk_42 (dk_at dksX8_pull_8 5 rfl rfl)
theorem dX8_pull_195 : decode cX8_pull 195 = .ok (.iload 8, 2) := dk_21 8 (dk_at dksX8_pull_8 6 rfl rfl)
theorem dX8_pull_197 : decode cX8_pull 197 = .ok (.invokevirtual 63, 3) := dk_182 0 63 (dk_at dksX8_pull_8 8 rfl rfl)
theorem dX8_pull_200 : decode cX8_pull 200 = .ok (.ireturn, 1) := dk_172 (dk_at dksX8_pull_8 11 rfl rfl)
abbrev cX8_seed : ByteArray := prog_20_method_125_code
def yX8_seed : MethodName := ⟨RX8, "seed", "(I)Z"⟩
def dkwX8_seed_2 : List UInt8 := [172]
abbrev dktX8_seed_2 : List UInt8 := dkwX8_seed_2 ++ []
def dkwX8_seed_1 : List UInt8 := [184, 0, 138, 154, 0, 9, 42, 5, 182, 2, 78, 172, 42, 180, 0, 17, 16, 17, 27, 79, 42, 182, 2, 84]
abbrev dktX8_seed_1 : List UInt8 := dkwX8_seed_1 ++ dktX8_seed_2
def dkwX8_seed_0 : List UInt8 := [42, 3, 181, 0, 53, 42, 180, 1, 117, 199, 0, 9, 42, 4, 182, 2, 78, 172, 27, 3, 19, 2, 70]
abbrev dktX8_seed_0 : List UInt8 := dkwX8_seed_0 ++ dktX8_seed_1
theorem dksX8_seed_0 : cX8_seed.data.toList.drop 0 = dktX8_seed_0 := by decide +kernel
theorem dksX8_seed_1 : cX8_seed.data.toList.drop 23 = dktX8_seed_1 := dk_seg dksX8_seed_0 23 rfl rfl
theorem dksX8_seed_2 : cX8_seed.data.toList.drop 47 = dktX8_seed_2 := dk_seg dksX8_seed_1 24 rfl rfl
theorem dX8_seed_0 : decode cX8_seed 0 = .ok (.aload_n 0, 1) := dk_42 (dk_at dksX8_seed_0 0 rfl rfl)
theorem dX8_seed_1 : decode cX8_seed 1 = .ok (.iconst 0, 1) := dk_3 (dk_at dksX8_seed_0 1 rfl rfl)
theorem dX8_seed_2 : decode cX8_seed 2 = .ok (.putfield 53, 3) := dk_181 0 53 (dk_at dksX8_seed_0 2 rfl rfl)
theorem dX8_seed_5 : decode cX8_seed 5 = .ok (.aload_n 0, 1) := dk_42 (dk_at dksX8_seed_0 5 rfl rfl)
theorem dX8_seed_6 : decode cX8_seed 6 = .ok (.getfield 373, 3) := dk_180 1 117 (dk_at dksX8_seed_0 6 rfl rfl)
theorem dX8_seed_9 : decode cX8_seed 9 = .ok (.ifnonnull 9, 3) := dk_199 0 9 (dk_at dksX8_seed_0 9 rfl rfl)
theorem dX8_seed_12 : decode cX8_seed 12 = .ok (.aload_n 0, 1) := dk_42 (dk_at dksX8_seed_0 12 rfl rfl)
theorem dX8_seed_13 : decode cX8_seed 13 = .ok (.iconst 1, 1) := dk_4 (dk_at dksX8_seed_0 13 rfl rfl)
theorem dX8_seed_14 : decode cX8_seed 14 = .ok (.invokevirtual 590, 3) := dk_182 2 78 (dk_at dksX8_seed_0 14 rfl rfl)
theorem dX8_seed_17 : decode cX8_seed 17 = .ok (.ireturn, 1) := dk_172 (dk_at dksX8_seed_0 17 rfl rfl)
theorem dX8_seed_18 : decode cX8_seed 18 = .ok (.iload_n 1, 1) := dk_27 (dk_at dksX8_seed_0 18 rfl rfl)
theorem dX8_seed_19 : decode cX8_seed 19 = .ok (.iconst 0, 1) := dk_3 (dk_at dksX8_seed_0 19 rfl rfl)
theorem dX8_seed_20 : decode cX8_seed 20 = .ok (.ldc_w 582, 3) := dk_19 2 70 (dk_at dksX8_seed_0 20 rfl rfl)
theorem dX8_seed_23 : decode cX8_seed 23 = .ok (.invokestatic 138, 3) := dk_184 0 138 (dk_at dksX8_seed_1 0 rfl rfl)
theorem dX8_seed_26 : decode cX8_seed 26 = .ok (.ifCond .ne 9, 3) := dk_154 0 9 (dk_at dksX8_seed_1 3 rfl rfl)
theorem dX8_seed_29 : decode cX8_seed 29 = .ok (.aload_n 0, 1) := dk_42 (dk_at dksX8_seed_1 6 rfl rfl)
theorem dX8_seed_30 : decode cX8_seed 30 = .ok (.iconst 2, 1) := dk_5 (dk_at dksX8_seed_1 7 rfl rfl)
theorem dX8_seed_31 : decode cX8_seed 31 = .ok (.invokevirtual 590, 3) := dk_182 2 78 (dk_at dksX8_seed_1 8 rfl rfl)
theorem dX8_seed_34 : decode cX8_seed 34 = .ok (.ireturn, 1) := dk_172 (dk_at dksX8_seed_1 11 rfl rfl)
theorem dX8_seed_35 : decode cX8_seed 35 = .ok (.aload_n 0, 1) := dk_42 (dk_at dksX8_seed_1 12 rfl rfl)
theorem dX8_seed_36 : decode cX8_seed 36 = .ok (.getfield 17, 3) := dk_180 0 17 (dk_at dksX8_seed_1 13 rfl rfl)
theorem dX8_seed_39 : decode cX8_seed 39 = .ok (.bipush 17, 2) := dk_16 17 (dk_at dksX8_seed_1 16 rfl rfl)
theorem dX8_seed_41 : decode cX8_seed 41 = .ok (.iload_n 1, 1) := dk_27 (dk_at dksX8_seed_1 18 rfl rfl)
theorem dX8_seed_42 : decode cX8_seed 42 = .ok (.iastore, 1) := dk_79 (dk_at dksX8_seed_1 19 rfl rfl)
theorem dX8_seed_43 : decode cX8_seed 43 = .ok (.aload_n 0, 1) := dk_42 (dk_at dksX8_seed_1 20 rfl rfl)
theorem dX8_seed_44 : decode cX8_seed 44 = .ok (.invokevirtual 596, 3) := dk_182 2 84 (dk_at dksX8_seed_1 21 rfl rfl)
theorem dX8_seed_47 : decode cX8_seed 47 = .ok (.ireturn, 1) := dk_172 (dk_at dksX8_seed_2 0 rfl rfl)
abbrev cX8_undo : ByteArray := prog_20_method_126_code
def yX8_undo : MethodName := ⟨RX8, "undo", "()Z"⟩
def dkwX8_undo_3 : List UInt8 := [167, 255, 227, 42, 182, 2, 84, 172]
abbrev dktX8_undo_3 : List UInt8 := dkwX8_undo_3 ++ []
def dkwX8_undo_2 : List UInt8 := [180, 0, 17, 27, 42, 180, 0, 21, 16, 18, 42, 180, 1, 119, 104, 27, 96, 46, 79, 132, 1, 1]
abbrev dktX8_undo_2 : List UInt8 := dkwX8_undo_2 ++ dktX8_undo_3
def dkwX8_undo_1 : List UInt8 := [182, 2, 78, 172, 42, 89, 180, 1, 119, 4, 100, 181, 1, 119, 3, 60, 27, 16, 18, 162, 0, 29, 42]
abbrev dktX8_undo_1 : List UInt8 := dkwX8_undo_1 ++ dktX8_undo_2
def dkwX8_undo_0 : List UInt8 := [42, 3, 181, 0, 53, 42, 180, 1, 117, 198, 0, 10, 42, 180, 1, 119, 154, 0, 10, 42, 16, 6]
abbrev dktX8_undo_0 : List UInt8 := dkwX8_undo_0 ++ dktX8_undo_1
theorem dksX8_undo_0 : cX8_undo.data.toList.drop 0 = dktX8_undo_0 := by decide +kernel
theorem dksX8_undo_1 : cX8_undo.data.toList.drop 22 = dktX8_undo_1 := dk_seg dksX8_undo_0 22 rfl rfl
theorem dksX8_undo_2 : cX8_undo.data.toList.drop 45 = dktX8_undo_2 := dk_seg dksX8_undo_1 23 rfl rfl
theorem dksX8_undo_3 : cX8_undo.data.toList.drop 67 = dktX8_undo_3 := dk_seg dksX8_undo_2 22 rfl rfl
theorem dX8_undo_0 : decode cX8_undo 0 = .ok (.aload_n 0, 1) := dk_42 (dk_at dksX8_undo_0 0 rfl rfl)
theorem dX8_undo_1 : decode cX8_undo 1 = .ok (.iconst 0, 1) := dk_3 (dk_at dksX8_undo_0 1 rfl rfl)
theorem dX8_undo_2 : decode cX8_undo 2 = .ok (.putfield 53, 3) := dk_181 0 53 (dk_at dksX8_undo_0 2 rfl rfl)
theorem dX8_undo_5 : decode cX8_undo 5 = .ok (.aload_n 0, 1) := dk_42 (dk_at dksX8_undo_0 5 rfl rfl)
theorem dX8_undo_6 : decode cX8_undo 6 = .ok (.getfield 373, 3) := dk_180 1 117 (dk_at dksX8_undo_0 6 rfl rfl)
theorem dX8_undo_9 : decode cX8_undo 9 = .ok (.ifnull 10, 3) := dk_198 0 10 (dk_at dksX8_undo_0 9 rfl rfl)
theorem dX8_undo_12 : decode cX8_undo 12 = .ok (.aload_n 0, 1) := dk_42 (dk_at dksX8_undo_0 12 rfl rfl)
theorem dX8_undo_13 : decode cX8_undo 13 = .ok (.getfield 375, 3) := dk_180 1 119 (dk_at dksX8_undo_0 13 rfl rfl)
theorem dX8_undo_16 : decode cX8_undo 16 = .ok (.ifCond .ne 10, 3) := dk_154 0 10 (dk_at dksX8_undo_0 16 rfl rfl)
theorem dX8_undo_19 : decode cX8_undo 19 = .ok (.aload_n 0, 1) := dk_42 (dk_at dksX8_undo_0 19 rfl rfl)
theorem dX8_undo_20 : decode cX8_undo 20 = .ok (.bipush 6, 2) := dk_16 6 (dk_at dksX8_undo_0 20 rfl rfl)
theorem dX8_undo_22 : decode cX8_undo 22 = .ok (.invokevirtual 590, 3) := dk_182 2 78 (dk_at dksX8_undo_1 0 rfl rfl)
theorem dX8_undo_25 : decode cX8_undo 25 = .ok (.ireturn, 1) := dk_172 (dk_at dksX8_undo_1 3 rfl rfl)
theorem dX8_undo_26 : decode cX8_undo 26 = .ok (.aload_n 0, 1) := dk_42 (dk_at dksX8_undo_1 4 rfl rfl)
theorem dX8_undo_27 : decode cX8_undo 27 = .ok (.dup, 1) := dk_89 (dk_at dksX8_undo_1 5 rfl rfl)
theorem dX8_undo_28 : decode cX8_undo 28 = .ok (.getfield 375, 3) := dk_180 1 119 (dk_at dksX8_undo_1 6 rfl rfl)
theorem dX8_undo_31 : decode cX8_undo 31 = .ok (.iconst 1, 1) := dk_4 (dk_at dksX8_undo_1 9 rfl rfl)
theorem dX8_undo_32 : decode cX8_undo 32 = .ok (.isub, 1) := dk_100 (dk_at dksX8_undo_1 10 rfl rfl)
theorem dX8_undo_33 : decode cX8_undo 33 = .ok (.putfield 375, 3) := dk_181 1 119 (dk_at dksX8_undo_1 11 rfl rfl)
theorem dX8_undo_36 : decode cX8_undo 36 = .ok (.iconst 0, 1) := dk_3 (dk_at dksX8_undo_1 14 rfl rfl)
theorem dX8_undo_37 : decode cX8_undo 37 = .ok (.istore_n 1, 1) := dk_60 (dk_at dksX8_undo_1 15 rfl rfl)
theorem dX8_undo_38 : decode cX8_undo 38 = .ok (.iload_n 1, 1) := dk_27 (dk_at dksX8_undo_1 16 rfl rfl)
theorem dX8_undo_39 : decode cX8_undo 39 = .ok (.bipush 18, 2) := dk_16 18 (dk_at dksX8_undo_1 17 rfl rfl)
theorem dX8_undo_41 : decode cX8_undo 41 = .ok (.if_icmp .ge 29, 3) := dk_162 0 29 (dk_at dksX8_undo_1 19 rfl rfl)
theorem dX8_undo_44 : decode cX8_undo 44 = .ok (.aload_n 0, 1) := dk_42 (dk_at dksX8_undo_1 22 rfl rfl)
theorem dX8_undo_45 : decode cX8_undo 45 = .ok (.getfield 17, 3) := dk_180 0 17 (dk_at dksX8_undo_2 0 rfl rfl)
theorem dX8_undo_48 : decode cX8_undo 48 = .ok (.iload_n 1, 1) := dk_27 (dk_at dksX8_undo_2 3 rfl rfl)
theorem dX8_undo_49 : decode cX8_undo 49 = .ok (.aload_n 0, 1) := dk_42 (dk_at dksX8_undo_2 4 rfl rfl)
theorem dX8_undo_50 : decode cX8_undo 50 = .ok (.getfield 21, 3) := dk_180 0 21 (dk_at dksX8_undo_2 5 rfl rfl)
theorem dX8_undo_53 : decode cX8_undo 53 = .ok (.bipush 18, 2) := dk_16 18 (dk_at dksX8_undo_2 8 rfl rfl)
theorem dX8_undo_55 : decode cX8_undo 55 = .ok (.aload_n 0, 1) := dk_42 (dk_at dksX8_undo_2 10 rfl rfl)
theorem dX8_undo_56 : decode cX8_undo 56 = .ok (.getfield 375, 3) := dk_180 1 119 (dk_at dksX8_undo_2 11 rfl rfl)
theorem dX8_undo_59 : decode cX8_undo 59 = .ok (.imul, 1) := dk_104 (dk_at dksX8_undo_2 14 rfl rfl)
theorem dX8_undo_60 : decode cX8_undo 60 = .ok (.iload_n 1, 1) := dk_27 (dk_at dksX8_undo_2 15 rfl rfl)
theorem dX8_undo_61 : decode cX8_undo 61 = .ok (.iadd, 1) := dk_96 (dk_at dksX8_undo_2 16 rfl rfl)
theorem dX8_undo_62 : decode cX8_undo 62 = .ok (.iaload, 1) := dk_46 (dk_at dksX8_undo_2 17 rfl rfl)
theorem dX8_undo_63 : decode cX8_undo 63 = .ok (.iastore, 1) := dk_79 (dk_at dksX8_undo_2 18 rfl rfl)
theorem dX8_undo_64 : decode cX8_undo 64 = .ok (.iinc 1 1, 3) := dk_132 1 1 (dk_at dksX8_undo_2 19 rfl rfl)
theorem dX8_undo_67 : decode cX8_undo 67 = .ok (.goto (-29), 3) := dk_167 255 227 (dk_at dksX8_undo_3 0 rfl rfl)
theorem dX8_undo_70 : decode cX8_undo 70 = .ok (.aload_n 0, 1) := dk_42 (dk_at dksX8_undo_3 3 rfl rfl)
theorem dX8_undo_71 : decode cX8_undo 71 = .ok (.invokevirtual 596, 3) := dk_182 2 84 (dk_at dksX8_undo_3 4 rfl rfl)
theorem dX8_undo_74 : decode cX8_undo 74 = .ok (.ireturn, 1) := dk_172 (dk_at dksX8_undo_3 7 rfl rfl)
abbrev cX8_mark : ByteArray := prog_20_method_127_code
def yX8_mark : MethodName := ⟨RX8, "mark", "()I"⟩
def dkwX8_mark_3 : List UInt8 := [4, 96, 181, 1, 122, 42, 42, 180, 1, 122, 4, 100, 182, 0, 63, 172]
abbrev dktX8_mark_3 : List UInt8 := dkwX8_mark_3 ++ []
def dkwX8_mark_2 : List UInt8 := [180, 1, 122, 104, 27, 96, 42, 180, 0, 17, 27, 46, 79, 132, 1, 1, 167, 255, 227, 42, 89, 180, 1, 122]
abbrev dktX8_mark_2 : List UInt8 := dkwX8_mark_2 ++ dktX8_mark_3
def dkwX8_mark_1 : List UInt8 := [160, 0, 9, 42, 6, 182, 0, 59, 172, 3, 60, 27, 16, 18, 162, 0, 29, 42, 180, 0, 24, 16, 18, 42]
abbrev dktX8_mark_1 : List UInt8 := dkwX8_mark_1 ++ dktX8_mark_2
def dkwX8_mark_0 : List UInt8 := [42, 3, 181, 0, 53, 42, 180, 1, 117, 199, 0, 9, 42, 4, 182, 0, 59, 172, 42, 180, 1, 122, 6]
abbrev dktX8_mark_0 : List UInt8 := dkwX8_mark_0 ++ dktX8_mark_1
theorem dksX8_mark_0 : cX8_mark.data.toList.drop 0 = dktX8_mark_0 := by decide +kernel
theorem dksX8_mark_1 : cX8_mark.data.toList.drop 23 = dktX8_mark_1 := dk_seg dksX8_mark_0 23 rfl rfl
theorem dksX8_mark_2 : cX8_mark.data.toList.drop 47 = dktX8_mark_2 := dk_seg dksX8_mark_1 24 rfl rfl
theorem dksX8_mark_3 : cX8_mark.data.toList.drop 71 = dktX8_mark_3 := dk_seg dksX8_mark_2 24 rfl rfl
theorem dX8_mark_0 : decode cX8_mark 0 = .ok (.aload_n 0, 1) := dk_42 (dk_at dksX8_mark_0 0 rfl rfl)
theorem dX8_mark_1 : decode cX8_mark 1 = .ok (.iconst 0, 1) := dk_3 (dk_at dksX8_mark_0 1 rfl rfl)
theorem dX8_mark_2 : decode cX8_mark 2 = .ok (.putfield 53, 3) := dk_181 0 53 (dk_at dksX8_mark_0 2 rfl rfl)
theorem dX8_mark_5 : decode cX8_mark 5 = .ok (.aload_n 0, 1) := dk_42 (dk_at dksX8_mark_0 5 rfl rfl)
theorem dX8_mark_6 : decode cX8_mark 6 = .ok (.getfield 373, 3) := dk_180 1 117 (dk_at dksX8_mark_0 6 rfl rfl)
theorem dX8_mark_9 : decode cX8_mark 9 = .ok (.ifnonnull 9, 3) := dk_199 0 9 (dk_at dksX8_mark_0 9 rfl rfl)
theorem dX8_mark_12 : decode cX8_mark 12 = .ok (.aload_n 0, 1) := dk_42 (dk_at dksX8_mark_0 12 rfl rfl)
theorem dX8_mark_13 : decode cX8_mark 13 = .ok (.iconst 1, 1) := dk_4 (dk_at dksX8_mark_0 13 rfl rfl)
theorem dX8_mark_14 : decode cX8_mark 14 = .ok (.invokevirtual 59, 3) := dk_182 0 59 (dk_at dksX8_mark_0 14 rfl rfl)
theorem dX8_mark_17 : decode cX8_mark 17 = .ok (.ireturn, 1) := dk_172 (dk_at dksX8_mark_0 17 rfl rfl)
theorem dX8_mark_18 : decode cX8_mark 18 = .ok (.aload_n 0, 1) := dk_42 (dk_at dksX8_mark_0 18 rfl rfl)
theorem dX8_mark_19 : decode cX8_mark 19 = .ok (.getfield 378, 3) := dk_180 1 122 (dk_at dksX8_mark_0 19 rfl rfl)
theorem dX8_mark_22 : decode cX8_mark 22 = .ok (.iconst 3, 1) := dk_6 (dk_at dksX8_mark_0 22 rfl rfl)
theorem dX8_mark_23 : decode cX8_mark 23 = .ok (.if_icmp .ne 9, 3) := dk_160 0 9 (dk_at dksX8_mark_1 0 rfl rfl)
theorem dX8_mark_26 : decode cX8_mark 26 = .ok (.aload_n 0, 1) := dk_42 (dk_at dksX8_mark_1 3 rfl rfl)
theorem dX8_mark_27 : decode cX8_mark 27 = .ok (.iconst 3, 1) := dk_6 (dk_at dksX8_mark_1 4 rfl rfl)
theorem dX8_mark_28 : decode cX8_mark 28 = .ok (.invokevirtual 59, 3) := dk_182 0 59 (dk_at dksX8_mark_1 5 rfl rfl)
theorem dX8_mark_31 : decode cX8_mark 31 = .ok (.ireturn, 1) := dk_172 (dk_at dksX8_mark_1 8 rfl rfl)
theorem dX8_mark_32 : decode cX8_mark 32 = .ok (.iconst 0, 1) := dk_3 (dk_at dksX8_mark_1 9 rfl rfl)
theorem dX8_mark_33 : decode cX8_mark 33 = .ok (.istore_n 1, 1) := dk_60 (dk_at dksX8_mark_1 10 rfl rfl)
theorem dX8_mark_34 : decode cX8_mark 34 = .ok (.iload_n 1, 1) := dk_27 (dk_at dksX8_mark_1 11 rfl rfl)
theorem dX8_mark_35 : decode cX8_mark 35 = .ok (.bipush 18, 2) := dk_16 18 (dk_at dksX8_mark_1 12 rfl rfl)
theorem dX8_mark_37 : decode cX8_mark 37 = .ok (.if_icmp .ge 29, 3) := dk_162 0 29 (dk_at dksX8_mark_1 14 rfl rfl)
theorem dX8_mark_40 : decode cX8_mark 40 = .ok (.aload_n 0, 1) := dk_42 (dk_at dksX8_mark_1 17 rfl rfl)
theorem dX8_mark_41 : decode cX8_mark 41 = .ok (.getfield 24, 3) := dk_180 0 24 (dk_at dksX8_mark_1 18 rfl rfl)
theorem dX8_mark_44 : decode cX8_mark 44 = .ok (.bipush 18, 2) := dk_16 18 (dk_at dksX8_mark_1 21 rfl rfl)
theorem dX8_mark_46 : decode cX8_mark 46 = .ok (.aload_n 0, 1) := dk_42 (dk_at dksX8_mark_1 23 rfl rfl)
theorem dX8_mark_47 : decode cX8_mark 47 = .ok (.getfield 378, 3) := dk_180 1 122 (dk_at dksX8_mark_2 0 rfl rfl)
theorem dX8_mark_50 : decode cX8_mark 50 = .ok (.imul, 1) := dk_104 (dk_at dksX8_mark_2 3 rfl rfl)
theorem dX8_mark_51 : decode cX8_mark 51 = .ok (.iload_n 1, 1) := dk_27 (dk_at dksX8_mark_2 4 rfl rfl)
theorem dX8_mark_52 : decode cX8_mark 52 = .ok (.iadd, 1) := dk_96 (dk_at dksX8_mark_2 5 rfl rfl)
theorem dX8_mark_53 : decode cX8_mark 53 = .ok (.aload_n 0, 1) := dk_42 (dk_at dksX8_mark_2 6 rfl rfl)
theorem dX8_mark_54 : decode cX8_mark 54 = .ok (.getfield 17, 3) := dk_180 0 17 (dk_at dksX8_mark_2 7 rfl rfl)
theorem dX8_mark_57 : decode cX8_mark 57 = .ok (.iload_n 1, 1) := dk_27 (dk_at dksX8_mark_2 10 rfl rfl)
theorem dX8_mark_58 : decode cX8_mark 58 = .ok (.iaload, 1) := dk_46 (dk_at dksX8_mark_2 11 rfl rfl)
theorem dX8_mark_59 : decode cX8_mark 59 = .ok (.iastore, 1) := dk_79 (dk_at dksX8_mark_2 12 rfl rfl)
theorem dX8_mark_60 : decode cX8_mark 60 = .ok (.iinc 1 1, 3) := dk_132 1 1 (dk_at dksX8_mark_2 13 rfl rfl)
theorem dX8_mark_63 : decode cX8_mark 63 = .ok (.goto (-29), 3) := dk_167 255 227 (dk_at dksX8_mark_2 16 rfl rfl)
theorem dX8_mark_66 : decode cX8_mark 66 = .ok (.aload_n 0, 1) := dk_42 (dk_at dksX8_mark_2 19 rfl rfl)
theorem dX8_mark_67 : decode cX8_mark 67 = .ok (.dup, 1) := dk_89 (dk_at dksX8_mark_2 20 rfl rfl)
theorem dX8_mark_68 : decode cX8_mark 68 = .ok (.getfield 378, 3) := dk_180 1 122 (dk_at dksX8_mark_2 21 rfl rfl)
theorem dX8_mark_71 : decode cX8_mark 71 = .ok (.iconst 1, 1) := dk_4 (dk_at dksX8_mark_3 0 rfl rfl)
theorem dX8_mark_72 : decode cX8_mark 72 = .ok (.iadd, 1) := dk_96 (dk_at dksX8_mark_3 1 rfl rfl)
theorem dX8_mark_73 : decode cX8_mark 73 = .ok (.putfield 378, 3) := dk_181 1 122 (dk_at dksX8_mark_3 2 rfl rfl)
theorem dX8_mark_76 : decode cX8_mark 76 = .ok (.aload_n 0, 1) := dk_42 (dk_at dksX8_mark_3 5 rfl rfl)
theorem dX8_mark_77 : decode cX8_mark 77 = .ok (.aload_n 0, 1) := dk_42 (dk_at dksX8_mark_3 6 rfl rfl)
theorem dX8_mark_78 : decode cX8_mark 78 = .ok (.getfield 378, 3) := dk_180 1 122 (dk_at dksX8_mark_3 7 rfl rfl)
theorem dX8_mark_81 : decode cX8_mark 81 = .ok (.iconst 1, 1) := dk_4 (dk_at dksX8_mark_3 10 rfl rfl)
theorem dX8_mark_82 : decode cX8_mark 82 = .ok (.isub, 1) := dk_100 (dk_at dksX8_mark_3 11 rfl rfl)
theorem dX8_mark_83 : decode cX8_mark 83 = .ok (.invokevirtual 63, 3) := dk_182 0 63 (dk_at dksX8_mark_3 12 rfl rfl)
theorem dX8_mark_86 : decode cX8_mark 86 = .ok (.ireturn, 1) := dk_172 (dk_at dksX8_mark_3 15 rfl rfl)
abbrev cX8_back : ByteArray := prog_20_method_128_code
def yX8_back : MethodName := ⟨RX8, "back", "(I)Z"⟩
def dkwX8_back_2 : List UInt8 := [16, 18, 27, 104, 28, 96, 46, 79, 132, 2, 1, 167, 255, 230, 42, 3, 181, 1, 119, 42, 182, 2, 84, 172]
abbrev dktX8_back_2 : List UInt8 := dkwX8_back_2 ++ []
def dkwX8_back_1 : List UInt8 := [42, 4, 182, 2, 78, 172, 3, 61, 28, 16, 18, 162, 0, 26, 42, 180, 0, 17, 28, 42, 180, 0, 24]
abbrev dktX8_back_1 : List UInt8 := dkwX8_back_1 ++ dktX8_back_2
def dkwX8_back_0 : List UInt8 := [42, 3, 181, 0, 53, 42, 180, 1, 117, 198, 0, 15, 27, 155, 0, 11, 27, 42, 180, 1, 122, 161, 0, 9]
abbrev dktX8_back_0 : List UInt8 := dkwX8_back_0 ++ dktX8_back_1
theorem dksX8_back_0 : cX8_back.data.toList.drop 0 = dktX8_back_0 := by decide +kernel
theorem dksX8_back_1 : cX8_back.data.toList.drop 24 = dktX8_back_1 := dk_seg dksX8_back_0 24 rfl rfl
theorem dksX8_back_2 : cX8_back.data.toList.drop 47 = dktX8_back_2 := dk_seg dksX8_back_1 23 rfl rfl
theorem dX8_back_0 : decode cX8_back 0 = .ok (.aload_n 0, 1) := dk_42 (dk_at dksX8_back_0 0 rfl rfl)
theorem dX8_back_1 : decode cX8_back 1 = .ok (.iconst 0, 1) := dk_3 (dk_at dksX8_back_0 1 rfl rfl)
theorem dX8_back_2 : decode cX8_back 2 = .ok (.putfield 53, 3) := dk_181 0 53 (dk_at dksX8_back_0 2 rfl rfl)
theorem dX8_back_5 : decode cX8_back 5 = .ok (.aload_n 0, 1) := dk_42 (dk_at dksX8_back_0 5 rfl rfl)
theorem dX8_back_6 : decode cX8_back 6 = .ok (.getfield 373, 3) := dk_180 1 117 (dk_at dksX8_back_0 6 rfl rfl)
theorem dX8_back_9 : decode cX8_back 9 = .ok (.ifnull 15, 3) := dk_198 0 15 (dk_at dksX8_back_0 9 rfl rfl)
theorem dX8_back_12 : decode cX8_back 12 = .ok (.iload_n 1, 1) := dk_27 (dk_at dksX8_back_0 12 rfl rfl)
theorem dX8_back_13 : decode cX8_back 13 = .ok (.ifCond .lt 11, 3) := dk_155 0 11 (dk_at dksX8_back_0 13 rfl rfl)
theorem dX8_back_16 : decode cX8_back 16 = .ok (.iload_n 1, 1) := dk_27 (dk_at dksX8_back_0 16 rfl rfl)
theorem dX8_back_17 : decode cX8_back 17 = .ok (.aload_n 0, 1) := dk_42 (dk_at dksX8_back_0 17 rfl rfl)
theorem dX8_back_18 : decode cX8_back 18 = .ok (.getfield 378, 3) := dk_180 1 122 (dk_at dksX8_back_0 18 rfl rfl)
theorem dX8_back_21 : decode cX8_back 21 = .ok (.if_icmp .lt 9, 3) := dk_161 0 9 (dk_at dksX8_back_0 21 rfl rfl)
theorem dX8_back_24 : decode cX8_back 24 = .ok (.aload_n 0, 1) := dk_42 (dk_at dksX8_back_1 0 rfl rfl)
theorem dX8_back_25 : decode cX8_back 25 = .ok (.iconst 1, 1) := dk_4 (dk_at dksX8_back_1 1 rfl rfl)
theorem dX8_back_26 : decode cX8_back 26 = .ok (.invokevirtual 590, 3) := dk_182 2 78 (dk_at dksX8_back_1 2 rfl rfl)
theorem dX8_back_29 : decode cX8_back 29 = .ok (.ireturn, 1) := dk_172 (dk_at dksX8_back_1 5 rfl rfl)
theorem dX8_back_30 : decode cX8_back 30 = .ok (.iconst 0, 1) := dk_3 (dk_at dksX8_back_1 6 rfl rfl)
theorem dX8_back_31 : decode cX8_back 31 = .ok (.istore_n 2, 1) := dk_61 (dk_at dksX8_back_1 7 rfl rfl)
theorem dX8_back_32 : decode cX8_back 32 = .ok (.iload_n 2, 1) := dk_28 (dk_at dksX8_back_1 8 rfl rfl)
theorem dX8_back_33 : decode cX8_back 33 = .ok (.bipush 18, 2) := dk_16 18 (dk_at dksX8_back_1 9 rfl rfl)
theorem dX8_back_35 : decode cX8_back 35 = .ok (.if_icmp .ge 26, 3) := dk_162 0 26 (dk_at dksX8_back_1 11 rfl rfl)
theorem dX8_back_38 : decode cX8_back 38 = .ok (.aload_n 0, 1) := dk_42 (dk_at dksX8_back_1 14 rfl rfl)
theorem dX8_back_39 : decode cX8_back 39 = .ok (.getfield 17, 3) := dk_180 0 17 (dk_at dksX8_back_1 15 rfl rfl)
theorem dX8_back_42 : decode cX8_back 42 = .ok (.iload_n 2, 1) := dk_28 (dk_at dksX8_back_1 18 rfl rfl)
theorem dX8_back_43 : decode cX8_back 43 = .ok (.aload_n 0, 1) := dk_42 (dk_at dksX8_back_1 19 rfl rfl)
theorem dX8_back_44 : decode cX8_back 44 = .ok (.getfield 24, 3) := dk_180 0 24 (dk_at dksX8_back_1 20 rfl rfl)
theorem dX8_back_47 : decode cX8_back 47 = .ok (.bipush 18, 2) := dk_16 18 (dk_at dksX8_back_2 0 rfl rfl)
theorem dX8_back_49 : decode cX8_back 49 = .ok (.iload_n 1, 1) := dk_27 (dk_at dksX8_back_2 2 rfl rfl)
theorem dX8_back_50 : decode cX8_back 50 = .ok (.imul, 1) := dk_104 (dk_at dksX8_back_2 3 rfl rfl)
theorem dX8_back_51 : decode cX8_back 51 = .ok (.iload_n 2, 1) := dk_28 (dk_at dksX8_back_2 4 rfl rfl)
theorem dX8_back_52 : decode cX8_back 52 = .ok (.iadd, 1) := dk_96 (dk_at dksX8_back_2 5 rfl rfl)
theorem dX8_back_53 : decode cX8_back 53 = .ok (.iaload, 1) := dk_46 (dk_at dksX8_back_2 6 rfl rfl)
theorem dX8_back_54 : decode cX8_back 54 = .ok (.iastore, 1) := dk_79 (dk_at dksX8_back_2 7 rfl rfl)
theorem dX8_back_55 : decode cX8_back 55 = .ok (.iinc 2 1, 3) := dk_132 2 1 (dk_at dksX8_back_2 8 rfl rfl)
theorem dX8_back_58 : decode cX8_back 58 = .ok (.goto (-26), 3) := dk_167 255 230 (dk_at dksX8_back_2 11 rfl rfl)
theorem dX8_back_61 : decode cX8_back 61 = .ok (.aload_n 0, 1) := dk_42 (dk_at dksX8_back_2 14 rfl rfl)
theorem dX8_back_62 : decode cX8_back 62 = .ok (.iconst 0, 1) := dk_3 (dk_at dksX8_back_2 15 rfl rfl)
theorem dX8_back_63 : decode cX8_back 63 = .ok (.putfield 375, 3) := dk_181 1 119 (dk_at dksX8_back_2 16 rfl rfl)
theorem dX8_back_66 : decode cX8_back 66 = .ok (.aload_n 0, 1) := dk_42 (dk_at dksX8_back_2 19 rfl rfl)
theorem dX8_back_67 : decode cX8_back 67 = .ok (.invokevirtual 596, 3) := dk_182 2 84 (dk_at dksX8_back_2 20 rfl rfl)
theorem dX8_back_70 : decode cX8_back 70 = .ok (.ireturn, 1) := dk_172 (dk_at dksX8_back_2 23 rfl rfl)
abbrev cX8_led : ByteArray := prog_20_method_129_code
def yX8_led : MethodName := ⟨RX8, "led", "(I)I"⟩
def dkwX8_led_2 : List UInt8 := [160, 0, 5, 29, 172, 132, 2, 1, 132, 3, 1, 167, 255, 208, 42, 4, 181, 0, 53, 3, 172]
abbrev dktX8_led_2 : List UInt8 := dkwX8_led_2 ++ []
def dkwX8_led_1 : List UInt8 := [162, 0, 36, 42, 180, 0, 17, 16, 10, 46, 29, 184, 1, 71, 153, 0, 6, 167, 0, 13, 28, 27]
abbrev dktX8_led_1 : List UInt8 := dkwX8_led_1 ++ dktX8_led_2
def dkwX8_led_0 : List UInt8 := [42, 3, 181, 0, 53, 3, 61, 3, 62, 42, 180, 1, 117, 198, 0, 47, 29, 42, 180, 1, 117, 180, 0, 210]
abbrev dktX8_led_0 : List UInt8 := dkwX8_led_0 ++ dktX8_led_1
theorem dksX8_led_0 : cX8_led.data.toList.drop 0 = dktX8_led_0 := by decide +kernel
theorem dksX8_led_1 : cX8_led.data.toList.drop 24 = dktX8_led_1 := dk_seg dksX8_led_0 24 rfl rfl
theorem dksX8_led_2 : cX8_led.data.toList.drop 46 = dktX8_led_2 := dk_seg dksX8_led_1 22 rfl rfl
theorem dX8_led_0 : decode cX8_led 0 = .ok (.aload_n 0, 1) := dk_42 (dk_at dksX8_led_0 0 rfl rfl)
theorem dX8_led_1 : decode cX8_led 1 = .ok (.iconst 0, 1) := dk_3 (dk_at dksX8_led_0 1 rfl rfl)
theorem dX8_led_2 : decode cX8_led 2 = .ok (.putfield 53, 3) := dk_181 0 53 (dk_at dksX8_led_0 2 rfl rfl)
theorem dX8_led_5 : decode cX8_led 5 = .ok (.iconst 0, 1) := dk_3 (dk_at dksX8_led_0 5 rfl rfl)
theorem dX8_led_6 : decode cX8_led 6 = .ok (.istore_n 2, 1) := dk_61 (dk_at dksX8_led_0 6 rfl rfl)
theorem dX8_led_7 : decode cX8_led 7 = .ok (.iconst 0, 1) := dk_3 (dk_at dksX8_led_0 7 rfl rfl)
theorem dX8_led_8 : decode cX8_led 8 = .ok (.istore_n 3, 1) := dk_62 (dk_at dksX8_led_0 8 rfl rfl)
theorem dX8_led_9 : decode cX8_led 9 = .ok (.aload_n 0, 1) := dk_42 (dk_at dksX8_led_0 9 rfl rfl)
theorem dX8_led_10 : decode cX8_led 10 = .ok (.getfield 373, 3) := dk_180 1 117 (dk_at dksX8_led_0 10 rfl rfl)
theorem dX8_led_13 : decode cX8_led 13 = .ok (.ifnull 47, 3) := dk_198 0 47 (dk_at dksX8_led_0 13 rfl rfl)
theorem dX8_led_16 : decode cX8_led 16 = .ok (.iload_n 3, 1) := dk_29 (dk_at dksX8_led_0 16 rfl rfl)
theorem dX8_led_17 : decode cX8_led 17 = .ok (.aload_n 0, 1) := dk_42 (dk_at dksX8_led_0 17 rfl rfl)
theorem dX8_led_18 : decode cX8_led 18 = .ok (.getfield 373, 3) := dk_180 1 117 (dk_at dksX8_led_0 18 rfl rfl)
theorem dX8_led_21 : decode cX8_led 21 = .ok (.getfield 210, 3) := dk_180 0 210 (dk_at dksX8_led_0 21 rfl rfl)
theorem dX8_led_24 : decode cX8_led 24 = .ok (.if_icmp .ge 36, 3) := dk_162 0 36 (dk_at dksX8_led_1 0 rfl rfl)
theorem dX8_led_27 : decode cX8_led 27 = .ok (.aload_n 0, 1) := dk_42 (dk_at dksX8_led_1 3 rfl rfl)
theorem dX8_led_28 : decode cX8_led 28 = .ok (.getfield 17, 3) := dk_180 0 17 (dk_at dksX8_led_1 4 rfl rfl)
theorem dX8_led_31 : decode cX8_led 31 = .ok (.bipush 10, 2) := dk_16 10 (dk_at dksX8_led_1 7 rfl rfl)
theorem dX8_led_33 : decode cX8_led 33 = .ok (.iaload, 1) := dk_46 (dk_at dksX8_led_1 9 rfl rfl)
theorem dX8_led_34 : decode cX8_led 34 = .ok (.iload_n 3, 1) := dk_29 (dk_at dksX8_led_1 10 rfl rfl)
theorem dX8_led_35 : decode cX8_led 35 = .ok (.invokestatic 327, 3) := dk_184 1 71 (dk_at dksX8_led_1 11 rfl rfl)
theorem dX8_led_38 : decode cX8_led 38 = .ok (.ifCond .eq 6, 3) := dk_153 0 6 (dk_at dksX8_led_1 14 rfl rfl)
theorem dX8_led_41 : decode cX8_led 41 = .ok (.goto 13, 3) := dk_167 0 13 (dk_at dksX8_led_1 17 rfl rfl)
theorem dX8_led_44 : decode cX8_led 44 = .ok (.iload_n 2, 1) := dk_28 (dk_at dksX8_led_1 20 rfl rfl)
theorem dX8_led_45 : decode cX8_led 45 = .ok (.iload_n 1, 1) := dk_27 (dk_at dksX8_led_1 21 rfl rfl)
theorem dX8_led_46 : decode cX8_led 46 = .ok (.if_icmp .ne 5, 3) := dk_160 0 5 (dk_at dksX8_led_2 0 rfl rfl)
theorem dX8_led_49 : decode cX8_led 49 = .ok (.iload_n 3, 1) := dk_29 (dk_at dksX8_led_2 3 rfl rfl)
theorem dX8_led_50 : decode cX8_led 50 = .ok (.ireturn, 1) := dk_172 (dk_at dksX8_led_2 4 rfl rfl)
theorem dX8_led_51 : decode cX8_led 51 = .ok (.iinc 2 1, 3) := dk_132 2 1 (dk_at dksX8_led_2 5 rfl rfl)
theorem dX8_led_54 : decode cX8_led 54 = .ok (.iinc 3 1, 3) := dk_132 3 1 (dk_at dksX8_led_2 8 rfl rfl)
theorem dX8_led_57 : decode cX8_led 57 = .ok (.goto (-48), 3) := dk_167 255 208 (dk_at dksX8_led_2 11 rfl rfl)
theorem dX8_led_60 : decode cX8_led 60 = .ok (.aload_n 0, 1) := dk_42 (dk_at dksX8_led_2 14 rfl rfl)
theorem dX8_led_61 : decode cX8_led 61 = .ok (.iconst 1, 1) := dk_4 (dk_at dksX8_led_2 15 rfl rfl)
theorem dX8_led_62 : decode cX8_led 62 = .ok (.putfield 53, 3) := dk_181 0 53 (dk_at dksX8_led_2 16 rfl rfl)
theorem dX8_led_65 : decode cX8_led 65 = .ok (.iconst 0, 1) := dk_3 (dk_at dksX8_led_2 19 rfl rfl)
theorem dX8_led_66 : decode cX8_led 66 = .ok (.ireturn, 1) := dk_172 (dk_at dksX8_led_2 20 rfl rfl)
abbrev cX8_size : ByteArray := prog_20_method_130_code
def yX8_size : MethodName := ⟨RX8, "size", "(I)I"⟩
def dkwX8_size_7 : List UInt8 := [180, 1, 122, 172]
abbrev dktX8_size_7 : List UInt8 := dkwX8_size_7 ++ []
def dkwX8_size_6 : List UInt8 := [42, 180, 1, 117, 180, 1, 93, 172, 42, 180, 0, 17, 16, 17, 46, 172, 42, 180, 1, 119, 172, 42]
abbrev dktX8_size_6 : List UInt8 := dkwX8_size_6 ++ dktX8_size_7
def dkwX8_size_5 : List UInt8 := [42, 180, 1, 117, 180, 0, 213, 172, 42, 180, 1, 117, 180, 1, 62, 172, 42, 180, 1, 117, 180, 1, 78, 172]
abbrev dktX8_size_5 : List UInt8 := dkwX8_size_5 ++ dktX8_size_6
def dkwX8_size_4 : List UInt8 := [42, 180, 1, 117, 180, 1, 0, 172, 42, 180, 1, 117, 180, 1, 2, 172, 42, 180, 1, 117, 180, 0, 210, 172]
abbrev dktX8_size_4 : List UInt8 := dkwX8_size_4 ++ dktX8_size_5
def dkwX8_size_3 : List UInt8 := [42, 180, 1, 117, 180, 0, 250, 172, 42, 180, 1, 117, 180, 0, 252, 172, 42, 180, 1, 117, 180, 0, 254, 172]
abbrev dktX8_size_3 : List UInt8 := dkwX8_size_3 ++ dktX8_size_4
def dkwX8_size_2 : List UInt8 := [170, 0, 0, 0, 0, 155, 0, 0, 0, 0, 0, 0, 0, 11, 0, 0, 0, 62, 0, 0, 0, 70, 0, 0, 0, 78, 0, 0, 0, 86, 0, 0, 0, 94, 0, 0, 0, 102, 0, 0, 0, 110, 0, 0, 0, 118, 0, 0, 0, 126, 0, 0, 0, 134, 0, 0, 0, 142, 0, 0, 0, 150]
abbrev dktX8_size_2 : List UInt8 := dkwX8_size_2 ++ dktX8_size_3
def dkwX8_size_1 : List UInt8 := [154, 0, 5, 2, 172, 42, 180, 1, 117, 199, 0, 5, 3, 172, 27]
abbrev dktX8_size_1 : List UInt8 := dkwX8_size_1 ++ dktX8_size_2
def dkwX8_size_0 : List UInt8 := [42, 3, 181, 0, 53, 27, 16, 13, 160, 0, 8, 42, 180, 1, 110, 172, 27, 3, 16, 12, 184, 0, 138]
abbrev dktX8_size_0 : List UInt8 := dkwX8_size_0 ++ dktX8_size_1
theorem dksX8_size_0 : cX8_size.data.toList.drop 0 = dktX8_size_0 := by decide +kernel
theorem dksX8_size_1 : cX8_size.data.toList.drop 23 = dktX8_size_1 := dk_seg dksX8_size_0 23 rfl rfl
theorem dksX8_size_2 : cX8_size.data.toList.drop 38 = dktX8_size_2 := dk_seg dksX8_size_1 15 rfl rfl
theorem dksX8_size_3 : cX8_size.data.toList.drop 100 = dktX8_size_3 := dk_seg dksX8_size_2 62 rfl rfl
theorem dksX8_size_4 : cX8_size.data.toList.drop 124 = dktX8_size_4 := dk_seg dksX8_size_3 24 rfl rfl
theorem dksX8_size_5 : cX8_size.data.toList.drop 148 = dktX8_size_5 := dk_seg dksX8_size_4 24 rfl rfl
theorem dksX8_size_6 : cX8_size.data.toList.drop 172 = dktX8_size_6 := dk_seg dksX8_size_5 24 rfl rfl
theorem dksX8_size_7 : cX8_size.data.toList.drop 194 = dktX8_size_7 := dk_seg dksX8_size_6 22 rfl rfl
theorem dX8_size_0 : decode cX8_size 0 = .ok (.aload_n 0, 1) := dk_42 (dk_at dksX8_size_0 0 rfl rfl)
theorem dX8_size_1 : decode cX8_size 1 = .ok (.iconst 0, 1) := dk_3 (dk_at dksX8_size_0 1 rfl rfl)
theorem dX8_size_2 : decode cX8_size 2 = .ok (.putfield 53, 3) := dk_181 0 53 (dk_at dksX8_size_0 2 rfl rfl)
theorem dX8_size_5 : decode cX8_size 5 = .ok (.iload_n 1, 1) := dk_27 (dk_at dksX8_size_0 5 rfl rfl)
theorem dX8_size_6 : decode cX8_size 6 = .ok (.bipush 13, 2) := dk_16 13 (dk_at dksX8_size_0 6 rfl rfl)
theorem dX8_size_8 : decode cX8_size 8 = .ok (.if_icmp .ne 8, 3) := dk_160 0 8 (dk_at dksX8_size_0 8 rfl rfl)
theorem dX8_size_11 : decode cX8_size 11 = .ok (.aload_n 0, 1) := dk_42 (dk_at dksX8_size_0 11 rfl rfl)
theorem dX8_size_12 : decode cX8_size 12 = .ok (.getfield 366, 3) := dk_180 1 110 (dk_at dksX8_size_0 12 rfl rfl)
theorem dX8_size_15 : decode cX8_size 15 = .ok (.ireturn, 1) := dk_172 (dk_at dksX8_size_0 15 rfl rfl)
theorem dX8_size_16 : decode cX8_size 16 = .ok (.iload_n 1, 1) := dk_27 (dk_at dksX8_size_0 16 rfl rfl)
theorem dX8_size_17 : decode cX8_size 17 = .ok (.iconst 0, 1) := dk_3 (dk_at dksX8_size_0 17 rfl rfl)
theorem dX8_size_18 : decode cX8_size 18 = .ok (.bipush 12, 2) := dk_16 12 (dk_at dksX8_size_0 18 rfl rfl)
theorem dX8_size_20 : decode cX8_size 20 = .ok (.invokestatic 138, 3) := dk_184 0 138 (dk_at dksX8_size_0 20 rfl rfl)
theorem dX8_size_23 : decode cX8_size 23 = .ok (.ifCond .ne 5, 3) := dk_154 0 5 (dk_at dksX8_size_1 0 rfl rfl)
theorem dX8_size_26 : decode cX8_size 26 = .ok (.iconst (-1), 1) := dk_2 (dk_at dksX8_size_1 3 rfl rfl)
theorem dX8_size_27 : decode cX8_size 27 = .ok (.ireturn, 1) := dk_172 (dk_at dksX8_size_1 4 rfl rfl)
theorem dX8_size_28 : decode cX8_size 28 = .ok (.aload_n 0, 1) := dk_42 (dk_at dksX8_size_1 5 rfl rfl)
theorem dX8_size_29 : decode cX8_size 29 = .ok (.getfield 373, 3) := dk_180 1 117 (dk_at dksX8_size_1 6 rfl rfl)
theorem dX8_size_32 : decode cX8_size 32 = .ok (.ifnonnull 5, 3) := dk_199 0 5 (dk_at dksX8_size_1 9 rfl rfl)
theorem dX8_size_35 : decode cX8_size 35 = .ok (.iconst 0, 1) := dk_3 (dk_at dksX8_size_1 12 rfl rfl)
theorem dX8_size_36 : decode cX8_size 36 = .ok (.ireturn, 1) := dk_172 (dk_at dksX8_size_1 13 rfl rfl)
theorem dX8_size_37 : decode cX8_size 37 = .ok (.iload_n 1, 1) := dk_27 (dk_at dksX8_size_1 14 rfl rfl)
theorem dX8_size_38 : decode cX8_size 38 = .ok (.tableswitch 155 0 11 #[62, 70, 78, 86, 94, 102, 110, 118, 126, 134, 142, 150], 62) := by decide +kernel
theorem dX8_size_100 : decode cX8_size 100 = .ok (.aload_n 0, 1) := dk_42 (dk_at dksX8_size_3 0 rfl rfl)
theorem dX8_size_101 : decode cX8_size 101 = .ok (.getfield 373, 3) := dk_180 1 117 (dk_at dksX8_size_3 1 rfl rfl)
theorem dX8_size_104 : decode cX8_size 104 = .ok (.getfield 250, 3) := dk_180 0 250 (dk_at dksX8_size_3 4 rfl rfl)
theorem dX8_size_107 : decode cX8_size 107 = .ok (.ireturn, 1) := dk_172 (dk_at dksX8_size_3 7 rfl rfl)
theorem dX8_size_108 : decode cX8_size 108 = .ok (.aload_n 0, 1) := dk_42 (dk_at dksX8_size_3 8 rfl rfl)
theorem dX8_size_109 : decode cX8_size 109 = .ok (.getfield 373, 3) := dk_180 1 117 (dk_at dksX8_size_3 9 rfl rfl)
theorem dX8_size_112 : decode cX8_size 112 = .ok (.getfield 252, 3) := dk_180 0 252 (dk_at dksX8_size_3 12 rfl rfl)
theorem dX8_size_115 : decode cX8_size 115 = .ok (.ireturn, 1) := dk_172 (dk_at dksX8_size_3 15 rfl rfl)
theorem dX8_size_116 : decode cX8_size 116 = .ok (.aload_n 0, 1) := dk_42 (dk_at dksX8_size_3 16 rfl rfl)
theorem dX8_size_117 : decode cX8_size 117 = .ok (.getfield 373, 3) := dk_180 1 117 (dk_at dksX8_size_3 17 rfl rfl)
theorem dX8_size_120 : decode cX8_size 120 = .ok (.getfield 254, 3) := dk_180 0 254 (dk_at dksX8_size_3 20 rfl rfl)
theorem dX8_size_123 : decode cX8_size 123 = .ok (.ireturn, 1) := dk_172 (dk_at dksX8_size_3 23 rfl rfl)
theorem dX8_size_124 : decode cX8_size 124 = .ok (.aload_n 0, 1) := dk_42 (dk_at dksX8_size_4 0 rfl rfl)
theorem dX8_size_125 : decode cX8_size 125 = .ok (.getfield 373, 3) := dk_180 1 117 (dk_at dksX8_size_4 1 rfl rfl)
theorem dX8_size_128 : decode cX8_size 128 = .ok (.getfield 256, 3) := dk_180 1 0 (dk_at dksX8_size_4 4 rfl rfl)
theorem dX8_size_131 : decode cX8_size 131 = .ok (.ireturn, 1) := dk_172 (dk_at dksX8_size_4 7 rfl rfl)
theorem dX8_size_132 : decode cX8_size 132 = .ok (.aload_n 0, 1) := dk_42 (dk_at dksX8_size_4 8 rfl rfl)
theorem dX8_size_133 : decode cX8_size 133 = .ok (.getfield 373, 3) := dk_180 1 117 (dk_at dksX8_size_4 9 rfl rfl)
theorem dX8_size_136 : decode cX8_size 136 = .ok (.getfield 258, 3) := dk_180 1 2 (dk_at dksX8_size_4 12 rfl rfl)
theorem dX8_size_139 : decode cX8_size 139 = .ok (.ireturn, 1) := dk_172 (dk_at dksX8_size_4 15 rfl rfl)
theorem dX8_size_140 : decode cX8_size 140 = .ok (.aload_n 0, 1) := dk_42 (dk_at dksX8_size_4 16 rfl rfl)
theorem dX8_size_141 : decode cX8_size 141 = .ok (.getfield 373, 3) := dk_180 1 117 (dk_at dksX8_size_4 17 rfl rfl)
theorem dX8_size_144 : decode cX8_size 144 = .ok (.getfield 210, 3) := dk_180 0 210 (dk_at dksX8_size_4 20 rfl rfl)
theorem dX8_size_147 : decode cX8_size 147 = .ok (.ireturn, 1) := dk_172 (dk_at dksX8_size_4 23 rfl rfl)
theorem dX8_size_148 : decode cX8_size 148 = .ok (.aload_n 0, 1) := dk_42 (dk_at dksX8_size_5 0 rfl rfl)
theorem dX8_size_149 : decode cX8_size 149 = .ok (.getfield 373, 3) := dk_180 1 117 (dk_at dksX8_size_5 1 rfl rfl)
theorem dX8_size_152 : decode cX8_size 152 = .ok (.getfield 213, 3) := dk_180 0 213 (dk_at dksX8_size_5 4 rfl rfl)
theorem dX8_size_155 : decode cX8_size 155 = .ok (.ireturn, 1) := dk_172 (dk_at dksX8_size_5 7 rfl rfl)
theorem dX8_size_156 : decode cX8_size 156 = .ok (.aload_n 0, 1) := dk_42 (dk_at dksX8_size_5 8 rfl rfl)
theorem dX8_size_157 : decode cX8_size 157 = .ok (.getfield 373, 3) := dk_180 1 117 (dk_at dksX8_size_5 9 rfl rfl)
theorem dX8_size_160 : decode cX8_size 160 = .ok (.getfield 318, 3) := dk_180 1 62 (dk_at dksX8_size_5 12 rfl rfl)
theorem dX8_size_163 : decode cX8_size 163 = .ok (.ireturn, 1) := dk_172 (dk_at dksX8_size_5 15 rfl rfl)
theorem dX8_size_164 : decode cX8_size 164 = .ok (.aload_n 0, 1) := dk_42 (dk_at dksX8_size_5 16 rfl rfl)
theorem dX8_size_165 : decode cX8_size 165 = .ok (.getfield 373, 3) := dk_180 1 117 (dk_at dksX8_size_5 17 rfl rfl)
theorem dX8_size_168 : decode cX8_size 168 = .ok (.getfield 334, 3) := dk_180 1 78 (dk_at dksX8_size_5 20 rfl rfl)
theorem dX8_size_171 : decode cX8_size 171 = .ok (.ireturn, 1) := dk_172 (dk_at dksX8_size_5 23 rfl rfl)
theorem dX8_size_172 : decode cX8_size 172 = .ok (.aload_n 0, 1) := dk_42 (dk_at dksX8_size_6 0 rfl rfl)
theorem dX8_size_173 : decode cX8_size 173 = .ok (.getfield 373, 3) := dk_180 1 117 (dk_at dksX8_size_6 1 rfl rfl)
theorem dX8_size_176 : decode cX8_size 176 = .ok (.getfield 349, 3) := dk_180 1 93 (dk_at dksX8_size_6 4 rfl rfl)
theorem dX8_size_179 : decode cX8_size 179 = .ok (.ireturn, 1) := dk_172 (dk_at dksX8_size_6 7 rfl rfl)
theorem dX8_size_180 : decode cX8_size 180 = .ok (.aload_n 0, 1) := dk_42 (dk_at dksX8_size_6 8 rfl rfl)
theorem dX8_size_181 : decode cX8_size 181 = .ok (.getfield 17, 3) := dk_180 0 17 (dk_at dksX8_size_6 9 rfl rfl)
theorem dX8_size_184 : decode cX8_size 184 = .ok (.bipush 17, 2) := dk_16 17 (dk_at dksX8_size_6 12 rfl rfl)
theorem dX8_size_186 : decode cX8_size 186 = .ok (.iaload, 1) := dk_46 (dk_at dksX8_size_6 14 rfl rfl)
theorem dX8_size_187 : decode cX8_size 187 = .ok (.ireturn, 1) := dk_172 (dk_at dksX8_size_6 15 rfl rfl)
theorem dX8_size_188 : decode cX8_size 188 = .ok (.aload_n 0, 1) := dk_42 (dk_at dksX8_size_6 16 rfl rfl)
theorem dX8_size_189 : decode cX8_size 189 = .ok (.getfield 375, 3) := dk_180 1 119 (dk_at dksX8_size_6 17 rfl rfl)
theorem dX8_size_192 : decode cX8_size 192 = .ok (.ireturn, 1) := dk_172 (dk_at dksX8_size_6 20 rfl rfl)
theorem dX8_size_193 : decode cX8_size 193 = .ok (.aload_n 0, 1) := dk_42 (dk_at dksX8_size_6 21 rfl rfl)
theorem dX8_size_194 : decode cX8_size 194 = .ok (.getfield 378, 3) := dk_180 1 122 (dk_at dksX8_size_7 0 rfl rfl)
theorem dX8_size_197 : decode cX8_size 197 = .ok (.ireturn, 1) := dk_172 (dk_at dksX8_size_7 3 rfl rfl)
abbrev cX8_trouble : ByteArray := prog_20_method_131_code
def yX8_trouble : MethodName := ⟨RX8, "trouble", "()I"⟩
def dkwX8_trouble_0 : List UInt8 := [42, 3, 181, 0, 53, 42, 180, 0, 56, 172]
abbrev dktX8_trouble_0 : List UInt8 := dkwX8_trouble_0 ++ []
theorem dksX8_trouble_0 : cX8_trouble.data.toList.drop 0 = dktX8_trouble_0 := by decide +kernel
theorem dX8_trouble_0 : decode cX8_trouble 0 = .ok (.aload_n 0, 1) := dk_42 (dk_at dksX8_trouble_0 0 rfl rfl)
theorem dX8_trouble_1 : decode cX8_trouble 1 = .ok (.iconst 0, 1) := dk_3 (dk_at dksX8_trouble_0 1 rfl rfl)
theorem dX8_trouble_2 : decode cX8_trouble 2 = .ok (.putfield 53, 3) := dk_181 0 53 (dk_at dksX8_trouble_0 2 rfl rfl)
theorem dX8_trouble_5 : decode cX8_trouble 5 = .ok (.aload_n 0, 1) := dk_42 (dk_at dksX8_trouble_0 5 rfl rfl)
theorem dX8_trouble_6 : decode cX8_trouble 6 = .ok (.getfield 56, 3) := dk_180 0 56 (dk_at dksX8_trouble_0 6 rfl rfl)
theorem dX8_trouble_9 : decode cX8_trouble 9 = .ok (.ireturn, 1) := dk_172 (dk_at dksX8_trouble_0 9 rfl rfl)
theorem q146 : (Jvm.Cond.initialized "LongerHalfModel") ∈ lw_all := lw_g (lw_at lw_m1 11 rfl) rfl
theorem q1613 : (Jvm.Cond.instantiable "LongerHalfModel" (39 : Nat)) ∈ lw_all := lw_g (lw_at lw_m7 38 rfl) rfl
theorem q1615 : (Jvm.Cond.instanceMethod ({ cls := "LongerHalfModel", name := "<init>", desc := "()V" } : Jvm.MethodName)) ∈ lw_all := lw_g (lw_at lw_m7 40 rfl) rfl
theorem q1616 : (Jvm.Cond.code ({ cls := "LongerHalfModel", name := "<init>", desc := "()V" } : Jvm.MethodName) prog_20_method_1_code (1 : Nat) (Option.none : Option Jvm.ClassFile.FieldType)) ∈ lw_all := lw_g (lw_at lw_m7 41 rfl) rfl
theorem q1617 : (Jvm.Cond.methodLink "LongerHalfModel" (3 : Nat) ({ cls := "java/lang/Object", name := "<init>", desc := "()V" } : Jvm.MethodName)) ∈ lw_all := lw_g (lw_at lw_m7 42 rfl) rfl
theorem q1618 : (Jvm.Cond.fieldLink "LongerHalfModel" (53 : Nat) "LongerHalfModel" "thrown" "I") ∈ lw_all := lw_g (lw_at lw_m7 43 rfl) rfl
theorem q1619 : (Jvm.Cond.fieldLink "LongerHalfModel" (56 : Nat) "LongerHalfModel" "trouble" "I") ∈ lw_all := lw_g (lw_at lw_m7 44 rfl) rfl
theorem q1620 : (Jvm.Cond.fieldLink "LongerHalfModel" (9 : Nat) "LongerHalfModel" "where" "I") ∈ lw_all := lw_g (lw_at lw_m7 45 rfl) rfl
theorem q1621 : (Jvm.Cond.fieldLink "LongerHalfModel" (373 : Nat) "LongerHalfModel" "kitchen" "LLongerHalfModel$Kitchen;") ∈ lw_all := lw_g (lw_at lw_m7 46 rfl) rfl
theorem q1622 : (Jvm.Cond.fieldLink "LongerHalfModel" (171 : Nat) "LongerHalfModel" "read" "LLongerHalfModel$Kitchen;") ∈ lw_all := lw_g (lw_at lw_m7 47 rfl) rfl
theorem q1623 : (Jvm.Cond.fieldLink "LongerHalfModel" (13 : Nat) "LongerHalfModel" "tape" "[B") ∈ lw_all := lw_g (lw_at lw_m7 48 rfl) rfl
theorem q1624 : (Jvm.Cond.fieldLink "LongerHalfModel" (366 : Nat) "LongerHalfModel" "taped" "I") ∈ lw_all := lw_g (lw_at lw_m7 49 rfl) rfl
theorem q1625 : (Jvm.Cond.fieldLink "LongerHalfModel" (70 : Nat) "LongerHalfModel" "size" "I") ∈ lw_all := lw_g (lw_at lw_m7 50 rfl) rfl
theorem q1626 : (Jvm.Cond.fieldLink "LongerHalfModel" (88 : Nat) "LongerHalfModel" "spot" "I") ∈ lw_all := lw_g (lw_at lw_m7 51 rfl) rfl
theorem q1627 : (Jvm.Cond.fieldLink "LongerHalfModel" (85 : Nat) "LongerHalfModel" "sort" "I") ∈ lw_all := lw_g (lw_at lw_m7 52 rfl) rfl
theorem q1628 : (Jvm.Cond.fieldLink "LongerHalfModel" (94 : Nat) "LongerHalfModel" "place" "I") ∈ lw_all := lw_g (lw_at lw_m7 53 rfl) rfl
theorem q1629 : (Jvm.Cond.fieldLink "LongerHalfModel" (97 : Nat) "LongerHalfModel" "sign" "I") ∈ lw_all := lw_g (lw_at lw_m7 54 rfl) rfl
theorem q1630 : (Jvm.Cond.fieldLink "LongerHalfModel" (111 : Nat) "LongerHalfModel" "number" "I") ∈ lw_all := lw_g (lw_at lw_m7 55 rfl) rfl
theorem q1631 : (Jvm.Cond.fieldLink "LongerHalfModel" (114 : Nat) "LongerHalfModel" "fault" "I") ∈ lw_all := lw_g (lw_at lw_m7 56 rfl) rfl
theorem q1632 : (Jvm.Cond.fieldLink "LongerHalfModel" (117 : Nat) "LongerHalfModel" "wrongAt" "I") ∈ lw_all := lw_g (lw_at lw_m7 57 rfl) rfl
theorem q1633 : (Jvm.Cond.fieldLink "LongerHalfModel" (104 : Nat) "LongerHalfModel" "word" "J") ∈ lw_all := lw_g (lw_at lw_m7 58 rfl) rfl
theorem q1634 : (Jvm.Cond.fieldLink "LongerHalfModel" (17 : Nat) "LongerHalfModel" "v" "[I") ∈ lw_all := lw_g (lw_at lw_m7 59 rfl) rfl
theorem q1635 : (Jvm.Cond.fieldLink "LongerHalfModel" (21 : Nat) "LongerHalfModel" "past" "[I") ∈ lw_all := lw_g (lw_at lw_m7 60 rfl) rfl
theorem q1636 : (Jvm.Cond.fieldLink "LongerHalfModel" (24 : Nat) "LongerHalfModel" "kept" "[I") ∈ lw_all := lw_g (lw_at lw_m7 61 rfl) rfl
theorem q1637 : (Jvm.Cond.fieldLink "LongerHalfModel" (375 : Nat) "LongerHalfModel" "acts" "I") ∈ lw_all := lw_g (lw_at lw_m7 62 rfl) rfl
theorem q1638 : (Jvm.Cond.fieldLink "LongerHalfModel" (378 : Nat) "LongerHalfModel" "marks" "I") ∈ lw_all := lw_g (lw_at lw_m7 63 rfl) rfl
theorem q1639 : (Jvm.Cond.fieldLink "LongerHalfModel" (381 : Nat) "LongerHalfModel" "bone" "I") ∈ lw_all := lw_g (lw_at lw_m7 64 rfl) rfl
theorem q1640 : (Jvm.Cond.fieldLink "LongerHalfModel" (383 : Nat) "LongerHalfModel" "days" "I") ∈ lw_all := lw_g (lw_at lw_m7 65 rfl) rfl
theorem q1641 : (Jvm.Cond.fieldLink "LongerHalfModel" (389 : Nat) "LongerHalfModel" "flawArm" "I") ∈ lw_all := lw_g (lw_at lw_m7 66 rfl) rfl
theorem q1642 : (Jvm.Cond.fieldLink "LongerHalfModel" (403 : Nat) "LongerHalfModel" "flawAt" "I") ∈ lw_all := lw_g (lw_at lw_m7 67 rfl) rfl
theorem q1643 : (Jvm.Cond.fieldLink "LongerHalfModel" (419 : Nat) "LongerHalfModel" "brokeArm" "I") ∈ lw_all := lw_g (lw_at lw_m7 68 rfl) rfl
theorem q1644 : (Jvm.Cond.fieldLink "LongerHalfModel" (427 : Nat) "LongerHalfModel" "brokeAt" "I") ∈ lw_all := lw_g (lw_at lw_m7 69 rfl) rfl
theorem q1645 : (Jvm.Cond.fieldLink "LongerHalfModel" (27 : Nat) "LongerHalfModel" "who" "[I") ∈ lw_all := lw_g (lw_at lw_m7 70 rfl) rfl
theorem q1646 : (Jvm.Cond.fieldLink "LongerHalfModel" (30 : Nat) "LongerHalfModel" "at" "[I") ∈ lw_all := lw_g (lw_at lw_m7 71 rfl) rfl
theorem q1647 : (Jvm.Cond.fieldLink "LongerHalfModel" (33 : Nat) "LongerHalfModel" "moves" "[Z") ∈ lw_all := lw_g (lw_at lw_m7 72 rfl) rfl
theorem q1648 : (Jvm.Cond.fieldLink "LongerHalfModel" (37 : Nat) "LongerHalfModel" "leftOdds" "[J") ∈ lw_all := lw_g (lw_at lw_m7 73 rfl) rfl
theorem q1649 : (Jvm.Cond.fieldLink "LongerHalfModel" (41 : Nat) "LongerHalfModel" "rightOdds" "[J") ∈ lw_all := lw_g (lw_at lw_m7 74 rfl) rfl
theorem q1650 : (Jvm.Cond.fieldLink "LongerHalfModel" (44 : Nat) "LongerHalfModel" "pairOf" "[I") ∈ lw_all := lw_g (lw_at lw_m7 75 rfl) rfl
theorem q1651 : (Jvm.Cond.fieldLink "LongerHalfModel" (47 : Nat) "LongerHalfModel" "turn" "[I") ∈ lw_all := lw_g (lw_at lw_m7 76 rfl) rfl
theorem q1652 : (Jvm.Cond.fieldLink "LongerHalfModel" (552 : Nat) "LongerHalfModel" "ownersOf" "I") ∈ lw_all := lw_g (lw_at lw_m7 77 rfl) rfl
theorem q1653 : (Jvm.Cond.fieldLink "LongerHalfModel" (563 : Nat) "LongerHalfModel" "drawing" "I") ∈ lw_all := lw_g (lw_at lw_m7 78 rfl) rfl
theorem q1654 : (Jvm.Cond.fieldLink "LongerHalfModel" (50 : Nat) "LongerHalfModel" "winsOf" "[I") ∈ lw_all := lw_g (lw_at lw_m7 79 rfl) rfl
theorem q1655 : (Jvm.Cond.fieldLink "LongerHalfModel" (573 : Nat) "LongerHalfModel" "threes" "I") ∈ lw_all := lw_g (lw_at lw_m7 80 rfl) rfl
theorem q1656 : (Jvm.Cond.fieldLink "LongerHalfModel" (576 : Nat) "LongerHalfModel" "bent" "I") ∈ lw_all := lw_g (lw_at lw_m7 81 rfl) rfl
theorem q1657 : (Jvm.Cond.lays "LongerHalfModel" "LongerHalfModel" "thrown" "I") ∈ lw_all := lw_g (lw_at lw_m7 82 rfl) rfl
theorem q1658 : (Jvm.Cond.soleField "LongerHalfModel" "thrown") ∈ lw_all := lw_g (lw_at lw_m7 83 rfl) rfl
theorem q1659 : (Jvm.Cond.lays "LongerHalfModel" "LongerHalfModel" "trouble" "I") ∈ lw_all := lw_g (lw_at lw_m7 84 rfl) rfl
theorem q1660 : (Jvm.Cond.soleField "LongerHalfModel" "trouble") ∈ lw_all := lw_g (lw_at lw_m7 85 rfl) rfl
theorem q1661 : (Jvm.Cond.lays "LongerHalfModel" "LongerHalfModel" "where" "I") ∈ lw_all := lw_g (lw_at lw_m7 86 rfl) rfl
theorem q1662 : (Jvm.Cond.soleField "LongerHalfModel" "where") ∈ lw_all := lw_g (lw_at lw_m7 87 rfl) rfl
theorem q1663 : (Jvm.Cond.lays "LongerHalfModel" "LongerHalfModel" "kitchen" "LLongerHalfModel$Kitchen;") ∈ lw_all := lw_g (lw_at lw_m7 88 rfl) rfl
theorem q1664 : (Jvm.Cond.soleField "LongerHalfModel" "kitchen") ∈ lw_all := lw_g (lw_at lw_m7 89 rfl) rfl
theorem q1665 : (Jvm.Cond.lays "LongerHalfModel" "LongerHalfModel" "read" "LLongerHalfModel$Kitchen;") ∈ lw_all := lw_g (lw_at lw_m7 90 rfl) rfl
theorem q1666 : (Jvm.Cond.soleField "LongerHalfModel" "read") ∈ lw_all := lw_g (lw_at lw_m7 91 rfl) rfl
theorem q1667 : (Jvm.Cond.laysFinal "LongerHalfModel" "LongerHalfModel" "tape" "[B") ∈ lw_all := lw_g (lw_at lw_m7 92 rfl) rfl
theorem q1668 : (Jvm.Cond.soleField "LongerHalfModel" "tape") ∈ lw_all := lw_g (lw_at lw_m7 93 rfl) rfl
theorem q1669 : (Jvm.Cond.lays "LongerHalfModel" "LongerHalfModel" "taped" "I") ∈ lw_all := lw_g (lw_at lw_m7 94 rfl) rfl
theorem q1670 : (Jvm.Cond.soleField "LongerHalfModel" "taped") ∈ lw_all := lw_g (lw_at lw_m7 95 rfl) rfl
theorem q1671 : (Jvm.Cond.lays "LongerHalfModel" "LongerHalfModel" "size" "I") ∈ lw_all := lw_g (lw_at lw_m7 96 rfl) rfl
theorem q1672 : (Jvm.Cond.soleField "LongerHalfModel" "size") ∈ lw_all := lw_g (lw_at lw_m7 97 rfl) rfl
theorem q1673 : (Jvm.Cond.lays "LongerHalfModel" "LongerHalfModel" "spot" "I") ∈ lw_all := lw_g (lw_at lw_m7 98 rfl) rfl
theorem q1674 : (Jvm.Cond.soleField "LongerHalfModel" "spot") ∈ lw_all := lw_g (lw_at lw_m7 99 rfl) rfl
theorem q1675 : (Jvm.Cond.lays "LongerHalfModel" "LongerHalfModel" "sort" "I") ∈ lw_all := lw_g (lw_at lw_m7 100 rfl) rfl
theorem q1676 : (Jvm.Cond.soleField "LongerHalfModel" "sort") ∈ lw_all := lw_g (lw_at lw_m7 101 rfl) rfl
theorem q1677 : (Jvm.Cond.lays "LongerHalfModel" "LongerHalfModel" "place" "I") ∈ lw_all := lw_g (lw_at lw_m7 102 rfl) rfl
theorem q1678 : (Jvm.Cond.soleField "LongerHalfModel" "place") ∈ lw_all := lw_g (lw_at lw_m7 103 rfl) rfl
theorem q1679 : (Jvm.Cond.lays "LongerHalfModel" "LongerHalfModel" "sign" "I") ∈ lw_all := lw_g (lw_at lw_m7 104 rfl) rfl
theorem q1680 : (Jvm.Cond.soleField "LongerHalfModel" "sign") ∈ lw_all := lw_g (lw_at lw_m7 105 rfl) rfl
theorem q1681 : (Jvm.Cond.lays "LongerHalfModel" "LongerHalfModel" "number" "I") ∈ lw_all := lw_g (lw_at lw_m7 106 rfl) rfl
theorem q1682 : (Jvm.Cond.soleField "LongerHalfModel" "number") ∈ lw_all := lw_g (lw_at lw_m7 107 rfl) rfl
theorem q1683 : (Jvm.Cond.lays "LongerHalfModel" "LongerHalfModel" "fault" "I") ∈ lw_all := lw_g (lw_at lw_m7 108 rfl) rfl
theorem q1684 : (Jvm.Cond.soleField "LongerHalfModel" "fault") ∈ lw_all := lw_g (lw_at lw_m7 109 rfl) rfl
theorem q1685 : (Jvm.Cond.lays "LongerHalfModel" "LongerHalfModel" "wrongAt" "I") ∈ lw_all := lw_g (lw_at lw_m7 110 rfl) rfl
theorem q1686 : (Jvm.Cond.soleField "LongerHalfModel" "wrongAt") ∈ lw_all := lw_g (lw_at lw_m7 111 rfl) rfl
theorem q1687 : (Jvm.Cond.lays "LongerHalfModel" "LongerHalfModel" "word" "J") ∈ lw_all := lw_g (lw_at lw_m7 112 rfl) rfl
theorem q1688 : (Jvm.Cond.soleField "LongerHalfModel" "word") ∈ lw_all := lw_g (lw_at lw_m7 113 rfl) rfl
theorem q1689 : (Jvm.Cond.laysFinal "LongerHalfModel" "LongerHalfModel" "v" "[I") ∈ lw_all := lw_g (lw_at lw_m7 114 rfl) rfl
theorem q1690 : (Jvm.Cond.soleField "LongerHalfModel" "v") ∈ lw_all := lw_g (lw_at lw_m7 115 rfl) rfl
theorem q1691 : (Jvm.Cond.laysFinal "LongerHalfModel" "LongerHalfModel" "past" "[I") ∈ lw_all := lw_g (lw_at lw_m7 116 rfl) rfl
theorem q1692 : (Jvm.Cond.soleField "LongerHalfModel" "past") ∈ lw_all := lw_g (lw_at lw_m7 117 rfl) rfl
theorem q1693 : (Jvm.Cond.laysFinal "LongerHalfModel" "LongerHalfModel" "kept" "[I") ∈ lw_all := lw_g (lw_at lw_m7 118 rfl) rfl
theorem q1694 : (Jvm.Cond.soleField "LongerHalfModel" "kept") ∈ lw_all := lw_g (lw_at lw_m7 119 rfl) rfl
theorem q1695 : (Jvm.Cond.lays "LongerHalfModel" "LongerHalfModel" "acts" "I") ∈ lw_all := lw_g (lw_at lw_m7 120 rfl) rfl
theorem q1696 : (Jvm.Cond.soleField "LongerHalfModel" "acts") ∈ lw_all := lw_g (lw_at lw_m7 121 rfl) rfl
theorem q1697 : (Jvm.Cond.lays "LongerHalfModel" "LongerHalfModel" "marks" "I") ∈ lw_all := lw_g (lw_at lw_m7 122 rfl) rfl
theorem q1698 : (Jvm.Cond.soleField "LongerHalfModel" "marks") ∈ lw_all := lw_g (lw_at lw_m7 123 rfl) rfl
theorem q1699 : (Jvm.Cond.lays "LongerHalfModel" "LongerHalfModel" "bone" "I") ∈ lw_all := lw_g (lw_at lw_m7 124 rfl) rfl
theorem q1700 : (Jvm.Cond.soleField "LongerHalfModel" "bone") ∈ lw_all := lw_g (lw_at lw_m7 125 rfl) rfl
theorem q1701 : (Jvm.Cond.lays "LongerHalfModel" "LongerHalfModel" "days" "I") ∈ lw_all := lw_g (lw_at lw_m7 126 rfl) rfl
theorem q1702 : (Jvm.Cond.soleField "LongerHalfModel" "days") ∈ lw_all := lw_g (lw_at lw_m7 127 rfl) rfl
theorem q1703 : (Jvm.Cond.lays "LongerHalfModel" "LongerHalfModel" "flawArm" "I") ∈ lw_all := lw_g (lw_at lw_m7 128 rfl) rfl
theorem q1704 : (Jvm.Cond.soleField "LongerHalfModel" "flawArm") ∈ lw_all := lw_g (lw_at lw_m7 129 rfl) rfl
theorem q1705 : (Jvm.Cond.lays "LongerHalfModel" "LongerHalfModel" "flawAt" "I") ∈ lw_all := lw_g (lw_at lw_m7 130 rfl) rfl
theorem q1706 : (Jvm.Cond.soleField "LongerHalfModel" "flawAt") ∈ lw_all := lw_g (lw_at lw_m7 131 rfl) rfl
theorem q1707 : (Jvm.Cond.lays "LongerHalfModel" "LongerHalfModel" "brokeArm" "I") ∈ lw_all := lw_g (lw_at lw_m7 132 rfl) rfl
theorem q1708 : (Jvm.Cond.soleField "LongerHalfModel" "brokeArm") ∈ lw_all := lw_g (lw_at lw_m7 133 rfl) rfl
theorem q1709 : (Jvm.Cond.lays "LongerHalfModel" "LongerHalfModel" "brokeAt" "I") ∈ lw_all := lw_g (lw_at lw_m7 134 rfl) rfl
theorem q1710 : (Jvm.Cond.soleField "LongerHalfModel" "brokeAt") ∈ lw_all := lw_g (lw_at lw_m7 135 rfl) rfl
theorem q1711 : (Jvm.Cond.laysFinal "LongerHalfModel" "LongerHalfModel" "who" "[I") ∈ lw_all := lw_g (lw_at lw_m7 136 rfl) rfl
theorem q1712 : (Jvm.Cond.soleField "LongerHalfModel" "who") ∈ lw_all := lw_g (lw_at lw_m7 137 rfl) rfl
theorem q1713 : (Jvm.Cond.laysFinal "LongerHalfModel" "LongerHalfModel" "at" "[I") ∈ lw_all := lw_g (lw_at lw_m7 138 rfl) rfl
theorem q1714 : (Jvm.Cond.soleField "LongerHalfModel" "at") ∈ lw_all := lw_g (lw_at lw_m7 139 rfl) rfl
theorem q1715 : (Jvm.Cond.laysFinal "LongerHalfModel" "LongerHalfModel" "moves" "[Z") ∈ lw_all := lw_g (lw_at lw_m7 140 rfl) rfl
theorem q1716 : (Jvm.Cond.soleField "LongerHalfModel" "moves") ∈ lw_all := lw_g (lw_at lw_m7 141 rfl) rfl
theorem q1717 : (Jvm.Cond.laysFinal "LongerHalfModel" "LongerHalfModel" "leftOdds" "[J") ∈ lw_all := lw_g (lw_at lw_m7 142 rfl) rfl
theorem q1718 : (Jvm.Cond.soleField "LongerHalfModel" "leftOdds") ∈ lw_all := lw_g (lw_at lw_m7 143 rfl) rfl
theorem q1719 : (Jvm.Cond.laysFinal "LongerHalfModel" "LongerHalfModel" "rightOdds" "[J") ∈ lw_all := lw_g (lw_at lw_m7 144 rfl) rfl
theorem q1720 : (Jvm.Cond.soleField "LongerHalfModel" "rightOdds") ∈ lw_all := lw_g (lw_at lw_m7 145 rfl) rfl
theorem q1721 : (Jvm.Cond.laysFinal "LongerHalfModel" "LongerHalfModel" "pairOf" "[I") ∈ lw_all := lw_g (lw_at lw_m7 146 rfl) rfl
theorem q1722 : (Jvm.Cond.soleField "LongerHalfModel" "pairOf") ∈ lw_all := lw_g (lw_at lw_m7 147 rfl) rfl
theorem q1723 : (Jvm.Cond.laysFinal "LongerHalfModel" "LongerHalfModel" "turn" "[I") ∈ lw_all := lw_g (lw_at lw_m7 148 rfl) rfl
theorem q1724 : (Jvm.Cond.soleField "LongerHalfModel" "turn") ∈ lw_all := lw_g (lw_at lw_m7 149 rfl) rfl
theorem q1725 : (Jvm.Cond.lays "LongerHalfModel" "LongerHalfModel" "ownersOf" "I") ∈ lw_all := lw_g (lw_at lw_m7 150 rfl) rfl
theorem q1726 : (Jvm.Cond.soleField "LongerHalfModel" "ownersOf") ∈ lw_all := lw_g (lw_at lw_m7 151 rfl) rfl
theorem q1727 : (Jvm.Cond.lays "LongerHalfModel" "LongerHalfModel" "drawing" "I") ∈ lw_all := lw_g (lw_at lw_m7 152 rfl) rfl
theorem q1728 : (Jvm.Cond.soleField "LongerHalfModel" "drawing") ∈ lw_all := lw_g (lw_at lw_m7 153 rfl) rfl
theorem q1729 : (Jvm.Cond.laysFinal "LongerHalfModel" "LongerHalfModel" "winsOf" "[I") ∈ lw_all := lw_g (lw_at lw_m7 154 rfl) rfl
theorem q1730 : (Jvm.Cond.soleField "LongerHalfModel" "winsOf") ∈ lw_all := lw_g (lw_at lw_m7 155 rfl) rfl
theorem q1731 : (Jvm.Cond.lays "LongerHalfModel" "LongerHalfModel" "threes" "I") ∈ lw_all := lw_g (lw_at lw_m7 156 rfl) rfl
theorem q1732 : (Jvm.Cond.soleField "LongerHalfModel" "threes") ∈ lw_all := lw_g (lw_at lw_m7 157 rfl) rfl
theorem q1733 : (Jvm.Cond.lays "LongerHalfModel" "LongerHalfModel" "bent" "I") ∈ lw_all := lw_g (lw_at lw_m7 158 rfl) rfl
theorem q1734 : (Jvm.Cond.soleField "LongerHalfModel" "bent") ∈ lw_all := lw_g (lw_at lw_m7 159 rfl) rfl
theorem q1735 : (Jvm.Cond.superclass "LongerHalfModel" "java/lang/Object") ∈ lw_all := lw_g (lw_at lw_m7 160 rfl) rfl
theorem q1738 : (Jvm.Cond.instanceMethod ({ cls := "LongerHalfModel", name := "thrown", desc := "()I" } : Jvm.MethodName)) ∈ lw_all := lw_g (lw_at lw_m7 163 rfl) rfl
theorem q1739 : (Jvm.Cond.selects "LongerHalfModel" ({ cls := "LongerHalfModel", name := "thrown", desc := "()I" } : Jvm.MethodName) ({ cls := "LongerHalfModel", name := "thrown", desc := "()I" } : Jvm.MethodName)) ∈ lw_all := lw_g (lw_at lw_m7 164 rfl) rfl
theorem q1740 : (Jvm.Cond.code ({ cls := "LongerHalfModel", name := "thrown", desc := "()I" } : Jvm.MethodName) prog_20_method_2_code (1 : Nat) (Option.some Jvm.ClassFile.FieldType.int)) ∈ lw_all := lw_g (lw_at lw_m7 165 rfl) rfl
theorem q1742 : (Jvm.Cond.instanceMethod ({ cls := "LongerHalfModel", name := "feed", desc := "(IIIII)I" } : Jvm.MethodName)) ∈ lw_all := lw_g (lw_at lw_m7 167 rfl) rfl
theorem q1743 : (Jvm.Cond.selects "LongerHalfModel" ({ cls := "LongerHalfModel", name := "feed", desc := "(IIIII)I" } : Jvm.MethodName) ({ cls := "LongerHalfModel", name := "feed", desc := "(IIIII)I" } : Jvm.MethodName)) ∈ lw_all := lw_g (lw_at lw_m7 168 rfl) rfl
theorem q1744 : (Jvm.Cond.code ({ cls := "LongerHalfModel", name := "feed", desc := "(IIIII)I" } : Jvm.MethodName) prog_20_method_41_code (8 : Nat) (Option.some Jvm.ClassFile.FieldType.int)) ∈ lw_all := lw_g (lw_at lw_m7 169 rfl) rfl
theorem q1746 : (Jvm.Cond.instanceMethod ({ cls := "LongerHalfModel", name := "kitchen", desc := "(I)I" } : Jvm.MethodName)) ∈ lw_all := lw_g (lw_at lw_m7 171 rfl) rfl
theorem q1747 : (Jvm.Cond.selects "LongerHalfModel" ({ cls := "LongerHalfModel", name := "kitchen", desc := "(I)I" } : Jvm.MethodName) ({ cls := "LongerHalfModel", name := "kitchen", desc := "(I)I" } : Jvm.MethodName)) ∈ lw_all := lw_g (lw_at lw_m7 172 rfl) rfl
theorem q1748 : (Jvm.Cond.code ({ cls := "LongerHalfModel", name := "kitchen", desc := "(I)I" } : Jvm.MethodName) prog_20_method_42_code (3 : Nat) (Option.some Jvm.ClassFile.FieldType.int)) ∈ lw_all := lw_g (lw_at lw_m7 173 rfl) rfl
theorem q1749 : (Jvm.Cond.methodLink "LongerHalfModel" (59 : Nat) ({ cls := "LongerHalfModel", name := "refused", desc := "(I)I" } : Jvm.MethodName)) ∈ lw_all := lw_g (lw_at lw_m7 174 rfl) rfl
theorem q1750 : (Jvm.Cond.privateMethod ({ cls := "LongerHalfModel", name := "refused", desc := "(I)I" } : Jvm.MethodName)) ∈ lw_tbl := lw_at lw_m7 175 rfl
theorem q1751 : (Jvm.Cond.instanceMethod ({ cls := "LongerHalfModel", name := "refused", desc := "(I)I" } : Jvm.MethodName)) ∈ lw_all := lw_g (lw_at lw_m7 176 rfl) rfl
theorem q1752 : (Jvm.Cond.code ({ cls := "LongerHalfModel", name := "refused", desc := "(I)I" } : Jvm.MethodName) prog_20_method_3_code (2 : Nat) (Option.some Jvm.ClassFile.FieldType.int)) ∈ lw_all := lw_g (lw_at lw_m7 177 rfl) rfl
theorem q1753 : (Jvm.Cond.classLink "LongerHalfModel" (176 : Nat) "LongerHalfModel$Kitchen") ∈ lw_all := lw_g (lw_at lw_m7 178 rfl) rfl
theorem q1755 : (Jvm.Cond.methodLinkNest "LongerHalfModel" (369 : Nat) ({ cls := "LongerHalfModel$Kitchen", name := "<init>", desc := "()V" } : Jvm.MethodName) "LongerHalfModel") ∈ lw_tbl := lw_at lw_m7 180 rfl
theorem q1759 : (Jvm.Cond.fieldLinkNest "LongerHalfModel" (250 : Nat) "LongerHalfModel$Kitchen" "bends" "I" "LongerHalfModel") ∈ lw_tbl := lw_at lw_m7 184 rfl
theorem q1760 : (Jvm.Cond.fieldLinkNest "LongerHalfModel" (252 : Nat) "LongerHalfModel$Kitchen" "tough" "I" "LongerHalfModel") ∈ lw_tbl := lw_at lw_m7 185 rfl
theorem q1761 : (Jvm.Cond.fieldLinkNest "LongerHalfModel" (254 : Nat) "LongerHalfModel$Kitchen" "jerk" "I" "LongerHalfModel") ∈ lw_tbl := lw_at lw_m7 186 rfl
theorem q1762 : (Jvm.Cond.fieldLinkNest "LongerHalfModel" (256 : Nat) "LongerHalfModel$Kitchen" "thumb" "I" "LongerHalfModel") ∈ lw_tbl := lw_at lw_m7 187 rfl
theorem q1763 : (Jvm.Cond.fieldLinkNest "LongerHalfModel" (258 : Nat) "LongerHalfModel$Kitchen" "flaw" "I" "LongerHalfModel") ∈ lw_tbl := lw_at lw_m7 188 rfl
theorem q1764 : (Jvm.Cond.fieldLinkNest "LongerHalfModel" (210 : Nat) "LongerHalfModel$Kitchen" "bones" "I" "LongerHalfModel") ∈ lw_tbl := lw_at lw_m7 189 rfl
theorem q1765 : (Jvm.Cond.fieldLinkNest "LongerHalfModel" (213 : Nat) "LongerHalfModel$Kitchen" "people" "I" "LongerHalfModel") ∈ lw_tbl := lw_at lw_m7 190 rfl
theorem q1766 : (Jvm.Cond.fieldLinkNest "LongerHalfModel" (318 : Nat) "LongerHalfModel$Kitchen" "fors" "I" "LongerHalfModel") ∈ lw_tbl := lw_at lw_m7 191 rfl
theorem q1767 : (Jvm.Cond.fieldLinkNest "LongerHalfModel" (334 : Nat) "LongerHalfModel$Kitchen" "halves" "I" "LongerHalfModel") ∈ lw_tbl := lw_at lw_m7 192 rfl
theorem q1768 : (Jvm.Cond.fieldLinkNest "LongerHalfModel" (349 : Nat) "LongerHalfModel$Kitchen" "pieces" "I" "LongerHalfModel") ∈ lw_tbl := lw_at lw_m7 193 rfl
theorem q1770 : (Jvm.Cond.fieldLinkNest "LongerHalfModel" (192 : Nat) "LongerHalfModel$Kitchen" "names" "I" "LongerHalfModel") ∈ lw_tbl := lw_at lw_m7 195 rfl
theorem q1771 : (Jvm.Cond.fieldLinkNest "LongerHalfModel" (175 : Nat) "LongerHalfModel$Kitchen" "isTold" "Z" "LongerHalfModel") ∈ lw_tbl := lw_at lw_m7 196 rfl
theorem q1773 : (Jvm.Cond.fieldLinkNest "LongerHalfModel" (288 : Nat) "LongerHalfModel$Kitchen" "kind" "[I" "LongerHalfModel") ∈ lw_tbl := lw_at lw_m7 198 rfl
theorem q1775 : (Jvm.Cond.fieldLinkNest "LongerHalfModel" (291 : Nat) "LongerHalfModel$Kitchen" "dry" "[I" "LongerHalfModel") ∈ lw_tbl := lw_at lw_m7 200 rfl
theorem q1777 : (Jvm.Cond.fieldLinkNest "LongerHalfModel" (263 : Nat) "LongerHalfModel$Kitchen" "places" "[I" "LongerHalfModel") ∈ lw_tbl := lw_at lw_m7 202 rfl
theorem q1779 : (Jvm.Cond.fieldLinkNest "LongerHalfModel" (260 : Nat) "LongerHalfModel$Kitchen" "thick" "[I" "LongerHalfModel") ∈ lw_tbl := lw_at lw_m7 204 rfl
theorem q1781 : (Jvm.Cond.fieldLinkNest "LongerHalfModel" (307 : Nat) "LongerHalfModel$Kitchen" "is" "[I" "LongerHalfModel") ∈ lw_tbl := lw_at lw_m7 206 rfl
theorem q1783 : (Jvm.Cond.fieldLinkNest "LongerHalfModel" (310 : Nat) "LongerHalfModel$Kitchen" "force" "[I" "LongerHalfModel") ∈ lw_tbl := lw_at lw_m7 208 rfl
theorem q1785 : (Jvm.Cond.fieldLinkNest "LongerHalfModel" (312 : Nat) "LongerHalfModel$Kitchen" "hold" "[I" "LongerHalfModel") ∈ lw_tbl := lw_at lw_m7 210 rfl
theorem q1787 : (Jvm.Cond.fieldLinkNest "LongerHalfModel" (314 : Nat) "LongerHalfModel$Kitchen" "wish" "[I" "LongerHalfModel") ∈ lw_tbl := lw_at lw_m7 212 rfl
theorem q1789 : (Jvm.Cond.fieldLinkNest "LongerHalfModel" (324 : Nat) "LongerHalfModel$Kitchen" "forWhom" "[I" "LongerHalfModel") ∈ lw_tbl := lw_at lw_m7 214 rfl
theorem q1791 : (Jvm.Cond.fieldLinkNest "LongerHalfModel" (331 : Nat) "LongerHalfModel$Kitchen" "forAll" "[I" "LongerHalfModel") ∈ lw_tbl := lw_at lw_m7 216 rfl
theorem q1793 : (Jvm.Cond.fieldLinkNest "LongerHalfModel" (340 : Nat) "LongerHalfModel$Kitchen" "winner" "[I" "LongerHalfModel") ∈ lw_tbl := lw_at lw_m7 218 rfl
theorem q1795 : (Jvm.Cond.fieldLinkNest "LongerHalfModel" (343 : Nat) "LongerHalfModel$Kitchen" "loser" "[I" "LongerHalfModel") ∈ lw_tbl := lw_at lw_m7 220 rfl
theorem q1797 : (Jvm.Cond.fieldLinkNest "LongerHalfModel" (346 : Nat) "LongerHalfModel$Kitchen" "side" "[I" "LongerHalfModel") ∈ lw_tbl := lw_at lw_m7 222 rfl
theorem q1799 : (Jvm.Cond.fieldLinkNest "LongerHalfModel" (352 : Nat) "LongerHalfModel$Kitchen" "pieceArm" "[I" "LongerHalfModel") ∈ lw_tbl := lw_at lw_m7 224 rfl
theorem q1801 : (Jvm.Cond.fieldLinkNest "LongerHalfModel" (355 : Nat) "LongerHalfModel$Kitchen" "pieceAt" "[I" "LongerHalfModel") ∈ lw_tbl := lw_at lw_m7 226 rfl
theorem q1803 : (Jvm.Cond.fieldLinkNest "LongerHalfModel" (316 : Nat) "LongerHalfModel$Kitchen" "cheats" "[I" "LongerHalfModel") ∈ lw_tbl := lw_at lw_m7 228 rfl
theorem q1805 : (Jvm.Cond.fieldLinkNest "LongerHalfModel" (360 : Nat) "LongerHalfModel$Kitchen" "byThumb" "[I" "LongerHalfModel") ∈ lw_tbl := lw_at lw_m7 230 rfl
theorem q1807 : (Jvm.Cond.fieldLinkNest "LongerHalfModel" (363 : Nat) "LongerHalfModel$Kitchen" "byFair" "[I" "LongerHalfModel") ∈ lw_tbl := lw_at lw_m7 232 rfl
theorem q1809 : (Jvm.Cond.fieldLinkNest "LongerHalfModel" (189 : Nat) "LongerHalfModel$Kitchen" "name" "[J" "LongerHalfModel") ∈ lw_tbl := lw_at lw_m7 234 rfl
theorem q1811 : (Jvm.Cond.fieldLinkNest "LongerHalfModel" (195 : Nat) "LongerHalfModel$Kitchen" "isBone" "[Z" "LongerHalfModel") ∈ lw_tbl := lw_at lw_m7 236 rfl
theorem q1813 : (Jvm.Cond.fieldLinkNest "LongerHalfModel" (198 : Nat) "LongerHalfModel$Kitchen" "numberOf" "[I" "LongerHalfModel") ∈ lw_tbl := lw_at lw_m7 238 rfl
theorem q1881 : (Jvm.Cond.methodLink "LongerHalfModel" (127 : Nat) ({ cls := "LongerHalfModel", name := "goesOn", desc := "()V" } : Jvm.MethodName)) ∈ lw_all := lw_g (lw_at lw_m8 66 rfl) rfl
theorem q1882 : (Jvm.Cond.privateMethod ({ cls := "LongerHalfModel", name := "goesOn", desc := "()V" } : Jvm.MethodName)) ∈ lw_tbl := lw_at lw_m8 67 rfl
theorem q1883 : (Jvm.Cond.instanceMethod ({ cls := "LongerHalfModel", name := "goesOn", desc := "()V" } : Jvm.MethodName)) ∈ lw_all := lw_g (lw_at lw_m8 68 rfl) rfl
theorem q1884 : (Jvm.Cond.code ({ cls := "LongerHalfModel", name := "goesOn", desc := "()V" } : Jvm.MethodName) prog_20_method_15_code (3 : Nat) (Option.none : Option Jvm.ClassFile.FieldType)) ∈ lw_all := lw_g (lw_at lw_m8 69 rfl) rfl
theorem q1885 : (Jvm.Cond.methodLink "LongerHalfModel" (91 : Nat) ({ cls := "LongerHalfModel", name := "byteAt", desc := "(I)I" } : Jvm.MethodName)) ∈ lw_all := lw_g (lw_at lw_m8 70 rfl) rfl
theorem q1886 : (Jvm.Cond.privateMethod ({ cls := "LongerHalfModel", name := "byteAt", desc := "(I)I" } : Jvm.MethodName)) ∈ lw_tbl := lw_at lw_m8 71 rfl
theorem q1887 : (Jvm.Cond.instanceMethod ({ cls := "LongerHalfModel", name := "byteAt", desc := "(I)I" } : Jvm.MethodName)) ∈ lw_all := lw_g (lw_at lw_m8 72 rfl) rfl
theorem q1888 : (Jvm.Cond.code ({ cls := "LongerHalfModel", name := "byteAt", desc := "(I)I" } : Jvm.MethodName) prog_20_method_11_code (2 : Nat) (Option.some Jvm.ClassFile.FieldType.int)) ∈ lw_all := lw_g (lw_at lw_m8 73 rfl) rfl
theorem q1889 : (Jvm.Cond.methodLink "LongerHalfModel" (100 : Nat) ({ cls := "LongerHalfModel", name := "isLetter", desc := "(I)Z" } : Jvm.MethodName)) ∈ lw_all := lw_g (lw_at lw_m8 74 rfl) rfl
theorem q1890 : (Jvm.Cond.static ({ cls := "LongerHalfModel", name := "isLetter", desc := "(I)Z" } : Jvm.MethodName)) ∈ lw_all := lw_g (lw_at lw_m8 75 rfl) rfl
theorem q1891 : (Jvm.Cond.code ({ cls := "LongerHalfModel", name := "isLetter", desc := "(I)Z" } : Jvm.MethodName) prog_20_method_12_code (1 : Nat) (Option.some Jvm.ClassFile.FieldType.boolean)) ∈ lw_all := lw_g (lw_at lw_m8 76 rfl) rfl
theorem q1892 : (Jvm.Cond.constantLong "LongerHalfModel" (79 : Nat) (32 : Int64)) ∈ lw_all := lw_g (lw_at lw_m8 77 rfl) rfl
theorem q1893 : (Jvm.Cond.methodLink "LongerHalfModel" (108 : Nat) ({ cls := "LongerHalfModel", name := "isDigit", desc := "(I)Z" } : Jvm.MethodName)) ∈ lw_all := lw_g (lw_at lw_m8 78 rfl) rfl
theorem q1894 : (Jvm.Cond.static ({ cls := "LongerHalfModel", name := "isDigit", desc := "(I)Z" } : Jvm.MethodName)) ∈ lw_all := lw_g (lw_at lw_m8 79 rfl) rfl
theorem q1895 : (Jvm.Cond.code ({ cls := "LongerHalfModel", name := "isDigit", desc := "(I)Z" } : Jvm.MethodName) prog_20_method_13_code (1 : Nat) (Option.some Jvm.ClassFile.FieldType.boolean)) ∈ lw_all := lw_g (lw_at lw_m8 80 rfl) rfl
theorem q1896 : (Jvm.Cond.methodLink "LongerHalfModel" (370 : Nat) ({ cls := "LongerHalfModel", name := "readAll", desc := "()V" } : Jvm.MethodName)) ∈ lw_all := lw_g (lw_at lw_m8 81 rfl) rfl
theorem q1897 : (Jvm.Cond.privateMethod ({ cls := "LongerHalfModel", name := "readAll", desc := "()V" } : Jvm.MethodName)) ∈ lw_tbl := lw_at lw_m8 82 rfl
theorem q1898 : (Jvm.Cond.instanceMethod ({ cls := "LongerHalfModel", name := "readAll", desc := "()V" } : Jvm.MethodName)) ∈ lw_all := lw_g (lw_at lw_m8 83 rfl) rfl
theorem q1899 : (Jvm.Cond.code ({ cls := "LongerHalfModel", name := "readAll", desc := "()V" } : Jvm.MethodName) prog_20_method_31_code (2 : Nat) (Option.none : Option Jvm.ClassFile.FieldType)) ∈ lw_all := lw_g (lw_at lw_m8 84 rfl) rfl
theorem q1900 : (Jvm.Cond.methodLink "LongerHalfModel" (204 : Nat) ({ cls := "LongerHalfModel", name := "readLine", desc := "()V" } : Jvm.MethodName)) ∈ lw_all := lw_g (lw_at lw_m8 85 rfl) rfl
theorem q1901 : (Jvm.Cond.privateMethod ({ cls := "LongerHalfModel", name := "readLine", desc := "()V" } : Jvm.MethodName)) ∈ lw_tbl := lw_at lw_m8 86 rfl
theorem q1902 : (Jvm.Cond.instanceMethod ({ cls := "LongerHalfModel", name := "readLine", desc := "()V" } : Jvm.MethodName)) ∈ lw_all := lw_g (lw_at lw_m8 87 rfl) rfl
theorem q1903 : (Jvm.Cond.code ({ cls := "LongerHalfModel", name := "readLine", desc := "()V" } : Jvm.MethodName) prog_20_method_32_code (1 : Nat) (Option.none : Option Jvm.ClassFile.FieldType)) ∈ lw_all := lw_g (lw_at lw_m8 88 rfl) rfl
theorem q1904 : (Jvm.Cond.stringRef "LongerHalfModel" (153 : Nat) "kitchen") ∈ lw_tbl := lw_at lw_m8 89 rfl
theorem q1905 : (Jvm.Cond.methodLink "LongerHalfModel" (130 : Nat) ({ cls := "LongerHalfModel", name := "isWord", desc := "(Ljava/lang/String;)Z" } : Jvm.MethodName)) ∈ lw_all := lw_g (lw_at lw_m8 90 rfl) rfl
theorem q1906 : (Jvm.Cond.privateMethod ({ cls := "LongerHalfModel", name := "isWord", desc := "(Ljava/lang/String;)Z" } : Jvm.MethodName)) ∈ lw_tbl := lw_at lw_m8 91 rfl
theorem q1907 : (Jvm.Cond.instanceMethod ({ cls := "LongerHalfModel", name := "isWord", desc := "(Ljava/lang/String;)Z" } : Jvm.MethodName)) ∈ lw_all := lw_g (lw_at lw_m8 92 rfl) rfl
theorem q1908 : (Jvm.Cond.code ({ cls := "LongerHalfModel", name := "isWord", desc := "(Ljava/lang/String;)Z" } : Jvm.MethodName) prog_20_method_17_code (2 : Nat) (Option.some Jvm.ClassFile.FieldType.boolean)) ∈ lw_all := lw_g (lw_at lw_m8 93 rfl) rfl
theorem q1909 : (Jvm.Cond.methodLink "LongerHalfModel" (120 : Nat) ({ cls := "LongerHalfModel", name := "wordOf", desc := "(Ljava/lang/String;)J" } : Jvm.MethodName)) ∈ lw_all := lw_g (lw_at lw_m8 94 rfl) rfl
theorem q1910 : (Jvm.Cond.static ({ cls := "LongerHalfModel", name := "wordOf", desc := "(Ljava/lang/String;)J" } : Jvm.MethodName)) ∈ lw_all := lw_g (lw_at lw_m8 95 rfl) rfl
theorem q1911 : (Jvm.Cond.code ({ cls := "LongerHalfModel", name := "wordOf", desc := "(Ljava/lang/String;)J" } : Jvm.MethodName) prog_20_method_14_code (4 : Nat) (Option.some Jvm.ClassFile.FieldType.long)) ∈ lw_all := lw_g (lw_at lw_m8 96 rfl) rfl
theorem q1912 : (Jvm.Cond.methodLink "LongerHalfModel" (73 : Nat) ({ cls := "java/lang/String", name := "length", desc := "()I" } : Jvm.MethodName)) ∈ lw_all := lw_g (lw_at lw_m8 97 rfl) rfl
theorem q1920 : (Jvm.Cond.methodLink "LongerHalfModel" (81 : Nat) ({ cls := "java/lang/String", name := "charAt", desc := "(I)C" } : Jvm.MethodName)) ∈ lw_all := lw_g (lw_at lw_m8 105 rfl) rfl
theorem q1940 : (Jvm.Cond.methodLink "LongerHalfModel" (216 : Nat) ({ cls := "LongerHalfModel", name := "readKitchen", desc := "()V" } : Jvm.MethodName)) ∈ lw_all := lw_g (lw_at lw_m8 125 rfl) rfl
theorem q1941 : (Jvm.Cond.privateMethod ({ cls := "LongerHalfModel", name := "readKitchen", desc := "()V" } : Jvm.MethodName)) ∈ lw_tbl := lw_at lw_m8 126 rfl
theorem q1942 : (Jvm.Cond.instanceMethod ({ cls := "LongerHalfModel", name := "readKitchen", desc := "()V" } : Jvm.MethodName)) ∈ lw_all := lw_g (lw_at lw_m8 127 rfl) rfl
theorem q1943 : (Jvm.Cond.code ({ cls := "LongerHalfModel", name := "readKitchen", desc := "()V" } : Jvm.MethodName) prog_20_method_33_code (6 : Nat) (Option.none : Option Jvm.ClassFile.FieldType)) ∈ lw_all := lw_g (lw_at lw_m8 128 rfl) rfl
theorem q1944 : (Jvm.Cond.methodLink "LongerHalfModel" (134 : Nat) ({ cls := "LongerHalfModel", name := "flaw", desc := "(I)V" } : Jvm.MethodName)) ∈ lw_all := lw_g (lw_at lw_m8 129 rfl) rfl
theorem q1945 : (Jvm.Cond.privateMethod ({ cls := "LongerHalfModel", name := "flaw", desc := "(I)V" } : Jvm.MethodName)) ∈ lw_tbl := lw_at lw_m8 130 rfl
theorem q1946 : (Jvm.Cond.instanceMethod ({ cls := "LongerHalfModel", name := "flaw", desc := "(I)V" } : Jvm.MethodName)) ∈ lw_all := lw_g (lw_at lw_m8 131 rfl) rfl
theorem q1947 : (Jvm.Cond.code ({ cls := "LongerHalfModel", name := "flaw", desc := "(I)V" } : Jvm.MethodName) prog_20_method_16_code (2 : Nat) (Option.none : Option Jvm.ClassFile.FieldType)) ∈ lw_all := lw_g (lw_at lw_m8 132 rfl) rfl
theorem q1948 : (Jvm.Cond.stringRef "LongerHalfModel" (237 : Nat) "bends") ∈ lw_tbl := lw_at lw_m8 133 rfl
theorem q1949 : (Jvm.Cond.methodLink "LongerHalfModel" (239 : Nat) ({ cls := "LongerHalfModel", name := "readPart", desc := "(Ljava/lang/String;II)I" } : Jvm.MethodName)) ∈ lw_all := lw_g (lw_at lw_m8 134 rfl) rfl
theorem q1950 : (Jvm.Cond.privateMethod ({ cls := "LongerHalfModel", name := "readPart", desc := "(Ljava/lang/String;II)I" } : Jvm.MethodName)) ∈ lw_tbl := lw_at lw_m8 135 rfl
theorem q1951 : (Jvm.Cond.instanceMethod ({ cls := "LongerHalfModel", name := "readPart", desc := "(Ljava/lang/String;II)I" } : Jvm.MethodName)) ∈ lw_all := lw_g (lw_at lw_m8 136 rfl) rfl
theorem q1952 : (Jvm.Cond.code ({ cls := "LongerHalfModel", name := "readPart", desc := "(Ljava/lang/String;II)I" } : Jvm.MethodName) prog_20_method_23_code (4 : Nat) (Option.some Jvm.ClassFile.FieldType.int)) ∈ lw_all := lw_g (lw_at lw_m8 137 rfl) rfl
theorem q1953 : (Jvm.Cond.methodLink "LongerHalfModel" (146 : Nat) ({ cls := "LongerHalfModel", name := "needs", desc := "(Ljava/lang/String;)V" } : Jvm.MethodName)) ∈ lw_all := lw_g (lw_at lw_m8 138 rfl) rfl
theorem q1954 : (Jvm.Cond.privateMethod ({ cls := "LongerHalfModel", name := "needs", desc := "(Ljava/lang/String;)V" } : Jvm.MethodName)) ∈ lw_tbl := lw_at lw_m8 139 rfl
theorem q1955 : (Jvm.Cond.instanceMethod ({ cls := "LongerHalfModel", name := "needs", desc := "(Ljava/lang/String;)V" } : Jvm.MethodName)) ∈ lw_all := lw_g (lw_at lw_m8 140 rfl) rfl
theorem q1956 : (Jvm.Cond.code ({ cls := "LongerHalfModel", name := "needs", desc := "(Ljava/lang/String;)V" } : Jvm.MethodName) prog_20_method_20_code (2 : Nat) (Option.none : Option Jvm.ClassFile.FieldType)) ∈ lw_all := lw_g (lw_at lw_m8 141 rfl) rfl
theorem q1957 : (Jvm.Cond.methodLink "LongerHalfModel" (150 : Nat) ({ cls := "LongerHalfModel", name := "readWhole", desc := "(II)I" } : Jvm.MethodName)) ∈ lw_all := lw_g (lw_at lw_m8 142 rfl) rfl
theorem q1958 : (Jvm.Cond.privateMethod ({ cls := "LongerHalfModel", name := "readWhole", desc := "(II)I" } : Jvm.MethodName)) ∈ lw_tbl := lw_at lw_m8 143 rfl
theorem q1959 : (Jvm.Cond.instanceMethod ({ cls := "LongerHalfModel", name := "readWhole", desc := "(II)I" } : Jvm.MethodName)) ∈ lw_all := lw_g (lw_at lw_m8 144 rfl) rfl
theorem q1960 : (Jvm.Cond.code ({ cls := "LongerHalfModel", name := "readWhole", desc := "(II)I" } : Jvm.MethodName) prog_20_method_22_code (4 : Nat) (Option.some Jvm.ClassFile.FieldType.int)) ∈ lw_all := lw_g (lw_at lw_m8 145 rfl) rfl
theorem q1961 : (Jvm.Cond.methodLink "LongerHalfModel" (142 : Nat) ({ cls := "LongerHalfModel", name := "bounded", desc := "(II)I" } : Jvm.MethodName)) ∈ lw_all := lw_g (lw_at lw_m8 146 rfl) rfl
theorem q1962 : (Jvm.Cond.privateMethod ({ cls := "LongerHalfModel", name := "bounded", desc := "(II)I" } : Jvm.MethodName)) ∈ lw_tbl := lw_at lw_m8 147 rfl
theorem q1963 : (Jvm.Cond.instanceMethod ({ cls := "LongerHalfModel", name := "bounded", desc := "(II)I" } : Jvm.MethodName)) ∈ lw_all := lw_g (lw_at lw_m8 148 rfl) rfl
theorem q1964 : (Jvm.Cond.code ({ cls := "LongerHalfModel", name := "bounded", desc := "(II)I" } : Jvm.MethodName) prog_20_method_21_code (3 : Nat) (Option.some Jvm.ClassFile.FieldType.int)) ∈ lw_all := lw_g (lw_at lw_m8 149 rfl) rfl
theorem q1965 : (Jvm.Cond.methodLink "LongerHalfModel" (138 : Nat) ({ cls := "LongerHalfModel", name := "in", desc := "(III)Z" } : Jvm.MethodName)) ∈ lw_all := lw_g (lw_at lw_m8 150 rfl) rfl
theorem q1966 : (Jvm.Cond.static ({ cls := "LongerHalfModel", name := "in", desc := "(III)Z" } : Jvm.MethodName)) ∈ lw_all := lw_g (lw_at lw_m8 151 rfl) rfl
theorem q1967 : (Jvm.Cond.code ({ cls := "LongerHalfModel", name := "in", desc := "(III)Z" } : Jvm.MethodName) prog_20_method_7_code (3 : Nat) (Option.some Jvm.ClassFile.FieldType.boolean)) ∈ lw_all := lw_g (lw_at lw_m8 152 rfl) rfl
theorem q1968 : (Jvm.Cond.stringRef "LongerHalfModel" (243 : Nat) "tough") ∈ lw_tbl := lw_at lw_m8 153 rfl
theorem q1969 : (Jvm.Cond.stringRef "LongerHalfModel" (245 : Nat) "jerk") ∈ lw_tbl := lw_at lw_m8 154 rfl
theorem q1970 : (Jvm.Cond.stringRef "LongerHalfModel" (247 : Nat) "thumb") ∈ lw_tbl := lw_at lw_m8 155 rfl
theorem q1971 : (Jvm.Cond.stringRef "LongerHalfModel" (249 : Nat) "flaw") ∈ lw_tbl := lw_at lw_m8 156 rfl
theorem q1972 : (Jvm.Cond.stringRef "LongerHalfModel" (155 : Nat) "bone") ∈ lw_tbl := lw_at lw_m8 157 rfl
theorem q1973 : (Jvm.Cond.methodLink "LongerHalfModel" (219 : Nat) ({ cls := "LongerHalfModel", name := "readBone", desc := "()V" } : Jvm.MethodName)) ∈ lw_all := lw_g (lw_at lw_m8 158 rfl) rfl
theorem q1974 : (Jvm.Cond.privateMethod ({ cls := "LongerHalfModel", name := "readBone", desc := "()V" } : Jvm.MethodName)) ∈ lw_tbl := lw_at lw_m8 159 rfl
theorem q1975 : (Jvm.Cond.instanceMethod ({ cls := "LongerHalfModel", name := "readBone", desc := "()V" } : Jvm.MethodName)) ∈ lw_all := lw_g (lw_at lw_m8 160 rfl) rfl
theorem q1976 : (Jvm.Cond.code ({ cls := "LongerHalfModel", name := "readBone", desc := "()V" } : Jvm.MethodName) prog_20_method_35_code (5 : Nat) (Option.none : Option Jvm.ClassFile.FieldType)) ∈ lw_all := lw_g (lw_at lw_m8 161 rfl) rfl
theorem q1977 : (Jvm.Cond.methodLink "LongerHalfModel" (266 : Nat) ({ cls := "LongerHalfModel", name := "begins", desc := "(II)V" } : Jvm.MethodName)) ∈ lw_all := lw_g (lw_at lw_m8 162 rfl) rfl
theorem q1978 : (Jvm.Cond.privateMethod ({ cls := "LongerHalfModel", name := "begins", desc := "(II)V" } : Jvm.MethodName)) ∈ lw_tbl := lw_at lw_m8 163 rfl
theorem q1979 : (Jvm.Cond.instanceMethod ({ cls := "LongerHalfModel", name := "begins", desc := "(II)V" } : Jvm.MethodName)) ∈ lw_all := lw_g (lw_at lw_m8 164 rfl) rfl
theorem q1980 : (Jvm.Cond.code ({ cls := "LongerHalfModel", name := "begins", desc := "(II)V" } : Jvm.MethodName) prog_20_method_25_code (3 : Nat) (Option.none : Option Jvm.ClassFile.FieldType)) ∈ lw_all := lw_g (lw_at lw_m8 165 rfl) rfl
theorem q1981 : (Jvm.Cond.methodLink "LongerHalfModel" (270 : Nat) ({ cls := "LongerHalfModel", name := "readFresh", desc := "()J" } : Jvm.MethodName)) ∈ lw_all := lw_g (lw_at lw_m8 166 rfl) rfl
theorem q1982 : (Jvm.Cond.privateMethod ({ cls := "LongerHalfModel", name := "readFresh", desc := "()J" } : Jvm.MethodName)) ∈ lw_tbl := lw_at lw_m8 167 rfl
theorem q1983 : (Jvm.Cond.instanceMethod ({ cls := "LongerHalfModel", name := "readFresh", desc := "()J" } : Jvm.MethodName)) ∈ lw_all := lw_g (lw_at lw_m8 168 rfl) rfl
theorem q1984 : (Jvm.Cond.code ({ cls := "LongerHalfModel", name := "readFresh", desc := "()J" } : Jvm.MethodName) prog_20_method_26_code (3 : Nat) (Option.some Jvm.ClassFile.FieldType.long)) ∈ lw_all := lw_g (lw_at lw_m8 169 rfl) rfl
theorem q1985 : (Jvm.Cond.methodLink "LongerHalfModel" (181 : Nat) ({ cls := "LongerHalfModel", name := "isName", desc := "()Z" } : Jvm.MethodName)) ∈ lw_all := lw_g (lw_at lw_m8 170 rfl) rfl
theorem q1986 : (Jvm.Cond.privateMethod ({ cls := "LongerHalfModel", name := "isName", desc := "()Z" } : Jvm.MethodName)) ∈ lw_tbl := lw_at lw_m8 171 rfl
theorem q1987 : (Jvm.Cond.instanceMethod ({ cls := "LongerHalfModel", name := "isName", desc := "()Z" } : Jvm.MethodName)) ∈ lw_all := lw_g (lw_at lw_m8 172 rfl) rfl
theorem q1988 : (Jvm.Cond.code ({ cls := "LongerHalfModel", name := "isName", desc := "()Z" } : Jvm.MethodName) prog_20_method_24_code (1 : Nat) (Option.some Jvm.ClassFile.FieldType.boolean)) ∈ lw_all := lw_g (lw_at lw_m8 173 rfl) rfl
theorem q1989 : (Jvm.Cond.stringRef "LongerHalfModel" (157 : Nat) "person") ∈ lw_tbl := lw_at lw_m8 174 rfl
theorem q1990 : (Jvm.Cond.stringRef "LongerHalfModel" (159 : Nat) "for") ∈ lw_tbl := lw_at lw_m8 175 rfl
theorem q1991 : (Jvm.Cond.stringRef "LongerHalfModel" (161 : Nat) "won") ∈ lw_tbl := lw_at lw_m8 176 rfl
theorem q1992 : (Jvm.Cond.stringRef "LongerHalfModel" (163 : Nat) "piece") ∈ lw_tbl := lw_at lw_m8 177 rfl
theorem q1993 : (Jvm.Cond.stringRef "LongerHalfModel" (165 : Nat) "cheats") ∈ lw_tbl := lw_at lw_m8 178 rfl
theorem q1994 : (Jvm.Cond.stringRef "LongerHalfModel" (167 : Nat) "left") ∈ lw_tbl := lw_at lw_m8 179 rfl
theorem q1995 : (Jvm.Cond.stringRef "LongerHalfModel" (169 : Nat) "right") ∈ lw_tbl := lw_at lw_m8 180 rfl
theorem q1996 : (Jvm.Cond.methodLink "LongerHalfModel" (185 : Nat) ({ cls := "LongerHalfModel$Kitchen", name := "find", desc := "(J)I" } : Jvm.MethodName)) ∈ lw_all := lw_g (lw_at lw_m8 181 rfl) rfl
theorem q2000 : (Jvm.Cond.stringRef "LongerHalfModel" (274 : Nat) "hen") ∈ lw_tbl := lw_at lw_m8 185 rfl
theorem q2001 : (Jvm.Cond.stringRef "LongerHalfModel" (276 : Nat) "goose") ∈ lw_tbl := lw_at lw_m8 186 rfl
theorem q2002 : (Jvm.Cond.stringRef "LongerHalfModel" (278 : Nat) "boiled") ∈ lw_tbl := lw_at lw_m8 187 rfl
theorem q2003 : (Jvm.Cond.stringRef "LongerHalfModel" (280 : Nat) "dry") ∈ lw_tbl := lw_at lw_m8 188 rfl
theorem q2004 : (Jvm.Cond.methodLink "LongerHalfModel" (282 : Nat) ({ cls := "LongerHalfModel", name := "readArm", desc := "(I)V" } : Jvm.MethodName)) ∈ lw_all := lw_g (lw_at lw_m8 189 rfl) rfl
theorem q2005 : (Jvm.Cond.privateMethod ({ cls := "LongerHalfModel", name := "readArm", desc := "(I)V" } : Jvm.MethodName)) ∈ lw_tbl := lw_at lw_m8 190 rfl
theorem q2006 : (Jvm.Cond.instanceMethod ({ cls := "LongerHalfModel", name := "readArm", desc := "(I)V" } : Jvm.MethodName)) ∈ lw_all := lw_g (lw_at lw_m8 191 rfl) rfl
theorem q2007 : (Jvm.Cond.code ({ cls := "LongerHalfModel", name := "readArm", desc := "(I)V" } : Jvm.MethodName) prog_20_method_34_code (6 : Nat) (Option.none : Option Jvm.ClassFile.FieldType)) ∈ lw_all := lw_g (lw_at lw_m8 192 rfl) rfl
theorem q2008 : (Jvm.Cond.methodLink "LongerHalfModel" (207 : Nat) ({ cls := "LongerHalfModel", name := "eatsSign", desc := "(I)Z" } : Jvm.MethodName)) ∈ lw_all := lw_g (lw_at lw_m8 193 rfl) rfl
theorem q2009 : (Jvm.Cond.privateMethod ({ cls := "LongerHalfModel", name := "eatsSign", desc := "(I)Z" } : Jvm.MethodName)) ∈ lw_tbl := lw_at lw_m8 194 rfl
theorem q2010 : (Jvm.Cond.instanceMethod ({ cls := "LongerHalfModel", name := "eatsSign", desc := "(I)Z" } : Jvm.MethodName)) ∈ lw_all := lw_g (lw_at lw_m8 195 rfl) rfl
theorem q2011 : (Jvm.Cond.code ({ cls := "LongerHalfModel", name := "eatsSign", desc := "(I)Z" } : Jvm.MethodName) prog_20_method_19_code (3 : Nat) (Option.some Jvm.ClassFile.FieldType.boolean)) ∈ lw_all := lw_g (lw_at lw_m8 196 rfl) rfl
theorem q2012 : (Jvm.Cond.methodLink "LongerHalfModel" (124 : Nat) ({ cls := "LongerHalfModel", name := "isSign", desc := "(I)Z" } : Jvm.MethodName)) ∈ lw_all := lw_g (lw_at lw_m8 197 rfl) rfl
theorem q2013 : (Jvm.Cond.privateMethod ({ cls := "LongerHalfModel", name := "isSign", desc := "(I)Z" } : Jvm.MethodName)) ∈ lw_tbl := lw_at lw_m8 198 rfl
theorem q2014 : (Jvm.Cond.instanceMethod ({ cls := "LongerHalfModel", name := "isSign", desc := "(I)Z" } : Jvm.MethodName)) ∈ lw_all := lw_g (lw_at lw_m8 199 rfl) rfl
theorem q2015 : (Jvm.Cond.code ({ cls := "LongerHalfModel", name := "isSign", desc := "(I)Z" } : Jvm.MethodName) prog_20_method_18_code (2 : Nat) (Option.some Jvm.ClassFile.FieldType.boolean)) ∈ lw_all := lw_g (lw_at lw_m8 200 rfl) rfl
theorem q2016 : (Jvm.Cond.methodLink "LongerHalfModel" (285 : Nat) ({ cls := "LongerHalfModel", name := "names", desc := "(JZI)V" } : Jvm.MethodName)) ∈ lw_all := lw_g (lw_at lw_m8 201 rfl) rfl
theorem q2017 : (Jvm.Cond.privateMethod ({ cls := "LongerHalfModel", name := "names", desc := "(JZI)V" } : Jvm.MethodName)) ∈ lw_tbl := lw_at lw_m8 202 rfl
theorem q2018 : (Jvm.Cond.instanceMethod ({ cls := "LongerHalfModel", name := "names", desc := "(JZI)V" } : Jvm.MethodName)) ∈ lw_all := lw_g (lw_at lw_m8 203 rfl) rfl
theorem q2019 : (Jvm.Cond.code ({ cls := "LongerHalfModel", name := "names", desc := "(JZI)V" } : Jvm.MethodName) prog_20_method_27_code (5 : Nat) (Option.none : Option Jvm.ClassFile.FieldType)) ∈ lw_all := lw_g (lw_at lw_m8 204 rfl) rfl
theorem q2020 : (Jvm.Cond.methodLink "LongerHalfModel" (222 : Nat) ({ cls := "LongerHalfModel", name := "readPersonLine", desc := "()V" } : Jvm.MethodName)) ∈ lw_all := lw_g (lw_at lw_m8 205 rfl) rfl
theorem q2021 : (Jvm.Cond.privateMethod ({ cls := "LongerHalfModel", name := "readPersonLine", desc := "()V" } : Jvm.MethodName)) ∈ lw_tbl := lw_at lw_m8 206 rfl
theorem q2022 : (Jvm.Cond.instanceMethod ({ cls := "LongerHalfModel", name := "readPersonLine", desc := "()V" } : Jvm.MethodName)) ∈ lw_all := lw_g (lw_at lw_m8 207 rfl) rfl
theorem q2023 : (Jvm.Cond.code ({ cls := "LongerHalfModel", name := "readPersonLine", desc := "()V" } : Jvm.MethodName) prog_20_method_36_code (8 : Nat) (Option.none : Option Jvm.ClassFile.FieldType)) ∈ lw_all := lw_g (lw_at lw_m8 208 rfl) rfl
theorem q2024 : (Jvm.Cond.stringRef "LongerHalfModel" (293 : Nat) "plain") ∈ lw_tbl := lw_at lw_m8 209 rfl
theorem q2025 : (Jvm.Cond.stringRef "LongerHalfModel" (295 : Nat) "cook") ∈ lw_tbl := lw_at lw_m8 210 rfl
theorem q2026 : (Jvm.Cond.stringRef "LongerHalfModel" (297 : Nat) "child") ∈ lw_tbl := lw_at lw_m8 211 rfl
theorem q2027 : (Jvm.Cond.stringRef "LongerHalfModel" (299 : Nat) "cheat") ∈ lw_tbl := lw_at lw_m8 212 rfl
theorem q2028 : (Jvm.Cond.stringRef "LongerHalfModel" (301 : Nat) "force") ∈ lw_tbl := lw_at lw_m8 213 rfl
theorem q2029 : (Jvm.Cond.stringRef "LongerHalfModel" (303 : Nat) "hold") ∈ lw_tbl := lw_at lw_m8 214 rfl
theorem q2030 : (Jvm.Cond.stringRef "LongerHalfModel" (305 : Nat) "wish") ∈ lw_tbl := lw_at lw_m8 215 rfl
theorem q2031 : (Jvm.Cond.methodLink "LongerHalfModel" (225 : Nat) ({ cls := "LongerHalfModel", name := "readFor", desc := "()V" } : Jvm.MethodName)) ∈ lw_all := lw_g (lw_at lw_m8 216 rfl) rfl
theorem q2032 : (Jvm.Cond.privateMethod ({ cls := "LongerHalfModel", name := "readFor", desc := "()V" } : Jvm.MethodName)) ∈ lw_tbl := lw_at lw_m8 217 rfl
theorem q2033 : (Jvm.Cond.instanceMethod ({ cls := "LongerHalfModel", name := "readFor", desc := "()V" } : Jvm.MethodName)) ∈ lw_all := lw_g (lw_at lw_m8 218 rfl) rfl
theorem q2034 : (Jvm.Cond.code ({ cls := "LongerHalfModel", name := "readFor", desc := "()V" } : Jvm.MethodName) prog_20_method_37_code (4 : Nat) (Option.none : Option Jvm.ClassFile.FieldType)) ∈ lw_all := lw_g (lw_at lw_m8 219 rfl) rfl
theorem q2035 : (Jvm.Cond.methodLink "LongerHalfModel" (321 : Nat) ({ cls := "LongerHalfModel", name := "readPerson", desc := "()I" } : Jvm.MethodName)) ∈ lw_all := lw_g (lw_at lw_m8 220 rfl) rfl
theorem q2036 : (Jvm.Cond.privateMethod ({ cls := "LongerHalfModel", name := "readPerson", desc := "()I" } : Jvm.MethodName)) ∈ lw_tbl := lw_at lw_m8 221 rfl
theorem q2037 : (Jvm.Cond.instanceMethod ({ cls := "LongerHalfModel", name := "readPerson", desc := "()I" } : Jvm.MethodName)) ∈ lw_all := lw_g (lw_at lw_m8 222 rfl) rfl
theorem q2038 : (Jvm.Cond.code ({ cls := "LongerHalfModel", name := "readPerson", desc := "()I" } : Jvm.MethodName) prog_20_method_29_code (2 : Nat) (Option.some Jvm.ClassFile.FieldType.int)) ∈ lw_all := lw_g (lw_at lw_m8 223 rfl) rfl
theorem q2039 : (Jvm.Cond.methodLink "LongerHalfModel" (201 : Nat) ({ cls := "LongerHalfModel", name := "knownOne", desc := "()I" } : Jvm.MethodName)) ∈ lw_all := lw_g (lw_at lw_m8 224 rfl) rfl
theorem q2040 : (Jvm.Cond.privateMethod ({ cls := "LongerHalfModel", name := "knownOne", desc := "()I" } : Jvm.MethodName)) ∈ lw_tbl := lw_at lw_m8 225 rfl
theorem q2041 : (Jvm.Cond.instanceMethod ({ cls := "LongerHalfModel", name := "knownOne", desc := "()I" } : Jvm.MethodName)) ∈ lw_all := lw_g (lw_at lw_m8 226 rfl) rfl
theorem q2042 : (Jvm.Cond.code ({ cls := "LongerHalfModel", name := "knownOne", desc := "()I" } : Jvm.MethodName) prog_20_method_28_code (2 : Nat) (Option.some Jvm.ClassFile.FieldType.int)) ∈ lw_all := lw_g (lw_at lw_m8 227 rfl) rfl
theorem q2043 : (Jvm.Cond.methodLink "LongerHalfModel" (327 : Nat) ({ cls := "LongerHalfModel", name := "bit", desc := "(II)Z" } : Jvm.MethodName)) ∈ lw_all := lw_g (lw_at lw_m8 228 rfl) rfl
theorem q2044 : (Jvm.Cond.static ({ cls := "LongerHalfModel", name := "bit", desc := "(II)Z" } : Jvm.MethodName)) ∈ lw_all := lw_g (lw_at lw_m8 229 rfl) rfl
theorem q2045 : (Jvm.Cond.code ({ cls := "LongerHalfModel", name := "bit", desc := "(II)Z" } : Jvm.MethodName) prog_20_method_8_code (2 : Nat) (Option.some Jvm.ClassFile.FieldType.boolean)) ∈ lw_all := lw_g (lw_at lw_m8 230 rfl) rfl
theorem q2046 : (Jvm.Cond.methodLink "LongerHalfModel" (228 : Nat) ({ cls := "LongerHalfModel", name := "readWon", desc := "()V" } : Jvm.MethodName)) ∈ lw_all := lw_g (lw_at lw_m8 231 rfl) rfl
theorem q2047 : (Jvm.Cond.privateMethod ({ cls := "LongerHalfModel", name := "readWon", desc := "()V" } : Jvm.MethodName)) ∈ lw_tbl := lw_at lw_m8 232 rfl
theorem q2048 : (Jvm.Cond.instanceMethod ({ cls := "LongerHalfModel", name := "readWon", desc := "()V" } : Jvm.MethodName)) ∈ lw_all := lw_g (lw_at lw_m8 233 rfl) rfl
theorem q2049 : (Jvm.Cond.code ({ cls := "LongerHalfModel", name := "readWon", desc := "()V" } : Jvm.MethodName) prog_20_method_38_code (4 : Nat) (Option.none : Option Jvm.ClassFile.FieldType)) ∈ lw_all := lw_g (lw_at lw_m8 234 rfl) rfl
theorem q2050 : (Jvm.Cond.methodLink "LongerHalfModel" (337 : Nat) ({ cls := "LongerHalfModel", name := "readSide", desc := "()I" } : Jvm.MethodName)) ∈ lw_all := lw_g (lw_at lw_m8 235 rfl) rfl
theorem q2051 : (Jvm.Cond.privateMethod ({ cls := "LongerHalfModel", name := "readSide", desc := "()I" } : Jvm.MethodName)) ∈ lw_tbl := lw_at lw_m8 236 rfl
theorem q2052 : (Jvm.Cond.instanceMethod ({ cls := "LongerHalfModel", name := "readSide", desc := "()I" } : Jvm.MethodName)) ∈ lw_all := lw_g (lw_at lw_m8 237 rfl) rfl
theorem q2053 : (Jvm.Cond.code ({ cls := "LongerHalfModel", name := "readSide", desc := "()I" } : Jvm.MethodName) prog_20_method_30_code (2 : Nat) (Option.some Jvm.ClassFile.FieldType.int)) ∈ lw_all := lw_g (lw_at lw_m8 238 rfl) rfl
theorem q2054 : (Jvm.Cond.methodLink "LongerHalfModel" (231 : Nat) ({ cls := "LongerHalfModel", name := "readPiece", desc := "()V" } : Jvm.MethodName)) ∈ lw_all := lw_g (lw_at lw_m8 239 rfl) rfl
theorem q2055 : (Jvm.Cond.privateMethod ({ cls := "LongerHalfModel", name := "readPiece", desc := "()V" } : Jvm.MethodName)) ∈ lw_tbl := lw_at lw_m9 0 rfl
theorem q2056 : (Jvm.Cond.instanceMethod ({ cls := "LongerHalfModel", name := "readPiece", desc := "()V" } : Jvm.MethodName)) ∈ lw_all := lw_g (lw_at lw_m9 1 rfl) rfl
theorem q2057 : (Jvm.Cond.code ({ cls := "LongerHalfModel", name := "readPiece", desc := "()V" } : Jvm.MethodName) prog_20_method_39_code (3 : Nat) (Option.none : Option Jvm.ClassFile.FieldType)) ∈ lw_all := lw_g (lw_at lw_m9 2 rfl) rfl
theorem q2058 : (Jvm.Cond.methodLink "LongerHalfModel" (234 : Nat) ({ cls := "LongerHalfModel", name := "readCheats", desc := "()V" } : Jvm.MethodName)) ∈ lw_all := lw_g (lw_at lw_m9 3 rfl) rfl
theorem q2059 : (Jvm.Cond.privateMethod ({ cls := "LongerHalfModel", name := "readCheats", desc := "()V" } : Jvm.MethodName)) ∈ lw_tbl := lw_at lw_m9 4 rfl
theorem q2060 : (Jvm.Cond.instanceMethod ({ cls := "LongerHalfModel", name := "readCheats", desc := "()V" } : Jvm.MethodName)) ∈ lw_all := lw_g (lw_at lw_m9 5 rfl) rfl
theorem q2061 : (Jvm.Cond.code ({ cls := "LongerHalfModel", name := "readCheats", desc := "()V" } : Jvm.MethodName) prog_20_method_40_code (5 : Nat) (Option.none : Option Jvm.ClassFile.FieldType)) ∈ lw_all := lw_g (lw_at lw_m9 6 rfl) rfl
theorem q2062 : (Jvm.Cond.stringRef "LongerHalfModel" (358 : Nat) "fair") ∈ lw_tbl := lw_at lw_m9 7 rfl
theorem q2063 : (Jvm.Cond.methodLink "LongerHalfModel" (63 : Nat) ({ cls := "LongerHalfModel", name := "good", desc := "(I)I" } : Jvm.MethodName)) ∈ lw_all := lw_g (lw_at lw_m9 8 rfl) rfl
theorem q2064 : (Jvm.Cond.privateMethod ({ cls := "LongerHalfModel", name := "good", desc := "(I)I" } : Jvm.MethodName)) ∈ lw_tbl := lw_at lw_m9 9 rfl
theorem q2065 : (Jvm.Cond.instanceMethod ({ cls := "LongerHalfModel", name := "good", desc := "(I)I" } : Jvm.MethodName)) ∈ lw_all := lw_g (lw_at lw_m9 10 rfl) rfl
theorem q2066 : (Jvm.Cond.code ({ cls := "LongerHalfModel", name := "good", desc := "(I)I" } : Jvm.MethodName) prog_20_method_5_code (2 : Nat) (Option.some Jvm.ClassFile.FieldType.int)) ∈ lw_all := lw_g (lw_at lw_m9 11 rfl) rfl
theorem q2068 : (Jvm.Cond.instanceMethod ({ cls := "LongerHalfModel", name := "fault", desc := "()I" } : Jvm.MethodName)) ∈ lw_all := lw_g (lw_at lw_m9 13 rfl) rfl
theorem q2069 : (Jvm.Cond.selects "LongerHalfModel" ({ cls := "LongerHalfModel", name := "fault", desc := "()I" } : Jvm.MethodName) ({ cls := "LongerHalfModel", name := "fault", desc := "()I" } : Jvm.MethodName)) ∈ lw_all := lw_g (lw_at lw_m9 14 rfl) rfl
theorem q2070 : (Jvm.Cond.code ({ cls := "LongerHalfModel", name := "fault", desc := "()I" } : Jvm.MethodName) prog_20_method_43_code (1 : Nat) (Option.some Jvm.ClassFile.FieldType.int)) ∈ lw_all := lw_g (lw_at lw_m9 15 rfl) rfl
theorem q2072 : (Jvm.Cond.instanceMethod ({ cls := "LongerHalfModel", name := "where", desc := "()I" } : Jvm.MethodName)) ∈ lw_all := lw_g (lw_at lw_m9 17 rfl) rfl
theorem q2073 : (Jvm.Cond.selects "LongerHalfModel" ({ cls := "LongerHalfModel", name := "where", desc := "()I" } : Jvm.MethodName) ({ cls := "LongerHalfModel", name := "where", desc := "()I" } : Jvm.MethodName)) ∈ lw_all := lw_g (lw_at lw_m9 18 rfl) rfl
theorem q2074 : (Jvm.Cond.code ({ cls := "LongerHalfModel", name := "where", desc := "()I" } : Jvm.MethodName) prog_20_method_44_code (1 : Nat) (Option.some Jvm.ClassFile.FieldType.int)) ∈ lw_all := lw_g (lw_at lw_m9 19 rfl) rfl
theorem q2076 : (Jvm.Cond.instanceMethod ({ cls := "LongerHalfModel", name := "bone", desc := "(II)I" } : Jvm.MethodName)) ∈ lw_all := lw_g (lw_at lw_m9 21 rfl) rfl
theorem q2077 : (Jvm.Cond.selects "LongerHalfModel" ({ cls := "LongerHalfModel", name := "bone", desc := "(II)I" } : Jvm.MethodName) ({ cls := "LongerHalfModel", name := "bone", desc := "(II)I" } : Jvm.MethodName)) ∈ lw_all := lw_g (lw_at lw_m9 22 rfl) rfl
theorem q2078 : (Jvm.Cond.code ({ cls := "LongerHalfModel", name := "bone", desc := "(II)I" } : Jvm.MethodName) prog_20_method_61_code (3 : Nat) (Option.some Jvm.ClassFile.FieldType.int)) ∈ lw_all := lw_g (lw_at lw_m9 23 rfl) rfl
theorem q2079 : (Jvm.Cond.methodLink "LongerHalfModel" (444 : Nat) ({ cls := "LongerHalfModel", name := "isBone", desc := "(I)Z" } : Jvm.MethodName)) ∈ lw_all := lw_g (lw_at lw_m9 24 rfl) rfl
theorem q2080 : (Jvm.Cond.privateMethod ({ cls := "LongerHalfModel", name := "isBone", desc := "(I)Z" } : Jvm.MethodName)) ∈ lw_tbl := lw_at lw_m9 25 rfl
theorem q2081 : (Jvm.Cond.instanceMethod ({ cls := "LongerHalfModel", name := "isBone", desc := "(I)Z" } : Jvm.MethodName)) ∈ lw_all := lw_g (lw_at lw_m9 26 rfl) rfl
theorem q2082 : (Jvm.Cond.code ({ cls := "LongerHalfModel", name := "isBone", desc := "(I)Z" } : Jvm.MethodName) prog_20_method_56_code (2 : Nat) (Option.some Jvm.ClassFile.FieldType.boolean)) ∈ lw_all := lw_g (lw_at lw_m9 27 rfl) rfl
theorem q2083 : (Jvm.Cond.methodLink "LongerHalfModel" (406 : Nat) ({ cls := "LongerHalfModel$Kitchen", name := "many", desc := "(II)I" } : Jvm.MethodName)) ∈ lw_all := lw_g (lw_at lw_m9 28 rfl) rfl
theorem q2088 : (Jvm.Cond.instanceMethod ({ cls := "LongerHalfModel", name := "thick", desc := "(III)I" } : Jvm.MethodName)) ∈ lw_all := lw_g (lw_at lw_m9 33 rfl) rfl
theorem q2089 : (Jvm.Cond.selects "LongerHalfModel" ({ cls := "LongerHalfModel", name := "thick", desc := "(III)I" } : Jvm.MethodName) ({ cls := "LongerHalfModel", name := "thick", desc := "(III)I" } : Jvm.MethodName)) ∈ lw_all := lw_g (lw_at lw_m9 34 rfl) rfl
theorem q2090 : (Jvm.Cond.code ({ cls := "LongerHalfModel", name := "thick", desc := "(III)I" } : Jvm.MethodName) prog_20_method_62_code (4 : Nat) (Option.some Jvm.ClassFile.FieldType.int)) ∈ lw_all := lw_g (lw_at lw_m9 35 rfl) rfl
theorem q2091 : (Jvm.Cond.methodLink "LongerHalfModel" (446 : Nat) ({ cls := "LongerHalfModel", name := "isPlace", desc := "(III)Z" } : Jvm.MethodName)) ∈ lw_all := lw_g (lw_at lw_m9 36 rfl) rfl
theorem q2092 : (Jvm.Cond.privateMethod ({ cls := "LongerHalfModel", name := "isPlace", desc := "(III)Z" } : Jvm.MethodName)) ∈ lw_tbl := lw_at lw_m9 37 rfl
theorem q2093 : (Jvm.Cond.instanceMethod ({ cls := "LongerHalfModel", name := "isPlace", desc := "(III)Z" } : Jvm.MethodName)) ∈ lw_all := lw_g (lw_at lw_m9 38 rfl) rfl
theorem q2094 : (Jvm.Cond.code ({ cls := "LongerHalfModel", name := "isPlace", desc := "(III)Z" } : Jvm.MethodName) prog_20_method_59_code (4 : Nat) (Option.some Jvm.ClassFile.FieldType.boolean)) ∈ lw_all := lw_g (lw_at lw_m9 39 rfl) rfl
theorem q2095 : (Jvm.Cond.methodLink "LongerHalfModel" (400 : Nat) ({ cls := "LongerHalfModel$Kitchen", name := "thickAt", desc := "(III)I" } : Jvm.MethodName)) ∈ lw_all := lw_g (lw_at lw_m9 40 rfl) rfl
theorem q2100 : (Jvm.Cond.instanceMethod ({ cls := "LongerHalfModel", name := "person", desc := "(II)I" } : Jvm.MethodName)) ∈ lw_all := lw_g (lw_at lw_m9 45 rfl) rfl
theorem q2101 : (Jvm.Cond.selects "LongerHalfModel" ({ cls := "LongerHalfModel", name := "person", desc := "(II)I" } : Jvm.MethodName) ({ cls := "LongerHalfModel", name := "person", desc := "(II)I" } : Jvm.MethodName)) ∈ lw_all := lw_g (lw_at lw_m9 46 rfl) rfl
theorem q2102 : (Jvm.Cond.code ({ cls := "LongerHalfModel", name := "person", desc := "(II)I" } : Jvm.MethodName) prog_20_method_65_code (3 : Nat) (Option.some Jvm.ClassFile.FieldType.int)) ∈ lw_all := lw_g (lw_at lw_m9 47 rfl) rfl
theorem q2103 : (Jvm.Cond.methodLink "LongerHalfModel" (441 : Nat) ({ cls := "LongerHalfModel", name := "isPerson", desc := "(I)Z" } : Jvm.MethodName)) ∈ lw_all := lw_g (lw_at lw_m9 48 rfl) rfl
theorem q2104 : (Jvm.Cond.privateMethod ({ cls := "LongerHalfModel", name := "isPerson", desc := "(I)Z" } : Jvm.MethodName)) ∈ lw_tbl := lw_at lw_m9 49 rfl
theorem q2105 : (Jvm.Cond.instanceMethod ({ cls := "LongerHalfModel", name := "isPerson", desc := "(I)Z" } : Jvm.MethodName)) ∈ lw_all := lw_g (lw_at lw_m9 50 rfl) rfl
theorem q2106 : (Jvm.Cond.code ({ cls := "LongerHalfModel", name := "isPerson", desc := "(I)Z" } : Jvm.MethodName) prog_20_method_57_code (2 : Nat) (Option.some Jvm.ClassFile.FieldType.boolean)) ∈ lw_all := lw_g (lw_at lw_m9 51 rfl) rfl
theorem q2107 : (Jvm.Cond.methodLink "LongerHalfModel" (452 : Nat) ({ cls := "LongerHalfModel", name := "pullsOf", desc := "(I)I" } : Jvm.MethodName)) ∈ lw_all := lw_g (lw_at lw_m9 52 rfl) rfl
theorem q2108 : (Jvm.Cond.privateMethod ({ cls := "LongerHalfModel", name := "pullsOf", desc := "(I)I" } : Jvm.MethodName)) ∈ lw_tbl := lw_at lw_m9 53 rfl
theorem q2109 : (Jvm.Cond.instanceMethod ({ cls := "LongerHalfModel", name := "pullsOf", desc := "(I)I" } : Jvm.MethodName)) ∈ lw_all := lw_g (lw_at lw_m9 54 rfl) rfl
theorem q2110 : (Jvm.Cond.code ({ cls := "LongerHalfModel", name := "pullsOf", desc := "(I)I" } : Jvm.MethodName) prog_20_method_64_code (4 : Nat) (Option.some Jvm.ClassFile.FieldType.int)) ∈ lw_all := lw_g (lw_at lw_m9 55 rfl) rfl
theorem q2111 : (Jvm.Cond.methodLink "LongerHalfModel" (449 : Nat) ({ cls := "LongerHalfModel", name := "wonBy", desc := "(I)I" } : Jvm.MethodName)) ∈ lw_all := lw_g (lw_at lw_m9 56 rfl) rfl
theorem q2112 : (Jvm.Cond.privateMethod ({ cls := "LongerHalfModel", name := "wonBy", desc := "(I)I" } : Jvm.MethodName)) ∈ lw_tbl := lw_at lw_m9 57 rfl
theorem q2113 : (Jvm.Cond.instanceMethod ({ cls := "LongerHalfModel", name := "wonBy", desc := "(I)I" } : Jvm.MethodName)) ∈ lw_all := lw_g (lw_at lw_m9 58 rfl) rfl
theorem q2114 : (Jvm.Cond.code ({ cls := "LongerHalfModel", name := "wonBy", desc := "(I)I" } : Jvm.MethodName) prog_20_method_63_code (4 : Nat) (Option.some Jvm.ClassFile.FieldType.int)) ∈ lw_all := lw_g (lw_at lw_m9 59 rfl) rfl
theorem q2116 : (Jvm.Cond.instanceMethod ({ cls := "LongerHalfModel", name := "strength", desc := "(IIII)I" } : Jvm.MethodName)) ∈ lw_all := lw_g (lw_at lw_m9 61 rfl) rfl
theorem q2117 : (Jvm.Cond.selects "LongerHalfModel" ({ cls := "LongerHalfModel", name := "strength", desc := "(IIII)I" } : Jvm.MethodName) ({ cls := "LongerHalfModel", name := "strength", desc := "(IIII)I" } : Jvm.MethodName)) ∈ lw_all := lw_g (lw_at lw_m9 62 rfl) rfl
theorem q2118 : (Jvm.Cond.code ({ cls := "LongerHalfModel", name := "strength", desc := "(IIII)I" } : Jvm.MethodName) prog_20_method_66_code (5 : Nat) (Option.some Jvm.ClassFile.FieldType.int)) ∈ lw_all := lw_g (lw_at lw_m9 63 rfl) rfl
theorem q2119 : (Jvm.Cond.methodLink "LongerHalfModel" (396 : Nat) ({ cls := "LongerHalfModel", name := "lays", desc := "(IIIIII)V" } : Jvm.MethodName)) ∈ lw_all := lw_g (lw_at lw_m9 64 rfl) rfl
theorem q2120 : (Jvm.Cond.privateMethod ({ cls := "LongerHalfModel", name := "lays", desc := "(IIIIII)V" } : Jvm.MethodName)) ∈ lw_tbl := lw_at lw_m9 65 rfl
theorem q2121 : (Jvm.Cond.instanceMethod ({ cls := "LongerHalfModel", name := "lays", desc := "(IIIIII)V" } : Jvm.MethodName)) ∈ lw_all := lw_g (lw_at lw_m9 66 rfl) rfl
theorem q2122 : (Jvm.Cond.code ({ cls := "LongerHalfModel", name := "lays", desc := "(IIIIII)V" } : Jvm.MethodName) prog_20_method_46_code (7 : Nat) (Option.none : Option Jvm.ClassFile.FieldType)) ∈ lw_all := lw_g (lw_at lw_m9 67 rfl) rfl
theorem q2123 : (Jvm.Cond.methodLink "LongerHalfModel" (386 : Nat) ({ cls := "LongerHalfModel", name := "isChild", desc := "(I)Z" } : Jvm.MethodName)) ∈ lw_all := lw_g (lw_at lw_m9 68 rfl) rfl
theorem q2124 : (Jvm.Cond.privateMethod ({ cls := "LongerHalfModel", name := "isChild", desc := "(I)Z" } : Jvm.MethodName)) ∈ lw_tbl := lw_at lw_m9 69 rfl
theorem q2125 : (Jvm.Cond.instanceMethod ({ cls := "LongerHalfModel", name := "isChild", desc := "(I)Z" } : Jvm.MethodName)) ∈ lw_all := lw_g (lw_at lw_m9 70 rfl) rfl
theorem q2126 : (Jvm.Cond.code ({ cls := "LongerHalfModel", name := "isChild", desc := "(I)Z" } : Jvm.MethodName) prog_20_method_45_code (2 : Nat) (Option.some Jvm.ClassFile.FieldType.boolean)) ∈ lw_all := lw_g (lw_at lw_m9 71 rfl) rfl
theorem q2127 : (Jvm.Cond.methodLink "LongerHalfModel" (412 : Nat) ({ cls := "LongerHalfModel", name := "strengthAt", desc := "(II)I" } : Jvm.MethodName)) ∈ lw_all := lw_g (lw_at lw_m9 72 rfl) rfl
theorem q2128 : (Jvm.Cond.privateMethod ({ cls := "LongerHalfModel", name := "strengthAt", desc := "(II)I" } : Jvm.MethodName)) ∈ lw_tbl := lw_at lw_m9 73 rfl
theorem q2129 : (Jvm.Cond.instanceMethod ({ cls := "LongerHalfModel", name := "strengthAt", desc := "(II)I" } : Jvm.MethodName)) ∈ lw_all := lw_g (lw_at lw_m9 74 rfl) rfl
theorem q2130 : (Jvm.Cond.code ({ cls := "LongerHalfModel", name := "strengthAt", desc := "(II)I" } : Jvm.MethodName) prog_20_method_48_code (4 : Nat) (Option.some Jvm.ClassFile.FieldType.int)) ∈ lw_all := lw_g (lw_at lw_m9 75 rfl) rfl
theorem q2132 : (Jvm.Cond.instanceMethod ({ cls := "LongerHalfModel", name := "strain", desc := "(IIIIIIII)I" } : Jvm.MethodName)) ∈ lw_all := lw_g (lw_at lw_m9 77 rfl) rfl
theorem q2133 : (Jvm.Cond.selects "LongerHalfModel" ({ cls := "LongerHalfModel", name := "strain", desc := "(IIIIIIII)I" } : Jvm.MethodName) ({ cls := "LongerHalfModel", name := "strain", desc := "(IIIIIIII)I" } : Jvm.MethodName)) ∈ lw_all := lw_g (lw_at lw_m9 78 rfl) rfl
theorem q2134 : (Jvm.Cond.code ({ cls := "LongerHalfModel", name := "strain", desc := "(IIIIIIII)I" } : Jvm.MethodName) prog_20_method_67_code (10 : Nat) (Option.some Jvm.ClassFile.FieldType.int)) ∈ lw_all := lw_g (lw_at lw_m9 79 rfl) rfl
theorem q2135 : (Jvm.Cond.methodLink "LongerHalfModel" (455 : Nat) ({ cls := "LongerHalfModel", name := "isPair", desc := "(II)Z" } : Jvm.MethodName)) ∈ lw_all := lw_g (lw_at lw_m9 80 rfl) rfl
theorem q2136 : (Jvm.Cond.privateMethod ({ cls := "LongerHalfModel", name := "isPair", desc := "(II)Z" } : Jvm.MethodName)) ∈ lw_tbl := lw_at lw_m9 81 rfl
theorem q2137 : (Jvm.Cond.instanceMethod ({ cls := "LongerHalfModel", name := "isPair", desc := "(II)Z" } : Jvm.MethodName)) ∈ lw_all := lw_g (lw_at lw_m9 82 rfl) rfl
theorem q2138 : (Jvm.Cond.code ({ cls := "LongerHalfModel", name := "isPair", desc := "(II)Z" } : Jvm.MethodName) prog_20_method_58_code (3 : Nat) (Option.some Jvm.ClassFile.FieldType.boolean)) ∈ lw_all := lw_g (lw_at lw_m9 83 rfl) rfl
theorem q2139 : (Jvm.Cond.methodLink "LongerHalfModel" (458 : Nat) ({ cls := "LongerHalfModel", name := "refusesPull", desc := "(ZIIII)I" } : Jvm.MethodName)) ∈ lw_all := lw_g (lw_at lw_m9 84 rfl) rfl
theorem q2140 : (Jvm.Cond.privateMethod ({ cls := "LongerHalfModel", name := "refusesPull", desc := "(ZIIII)I" } : Jvm.MethodName)) ∈ lw_tbl := lw_at lw_m9 85 rfl
theorem q2141 : (Jvm.Cond.instanceMethod ({ cls := "LongerHalfModel", name := "refusesPull", desc := "(ZIIII)I" } : Jvm.MethodName)) ∈ lw_all := lw_g (lw_at lw_m9 86 rfl) rfl
theorem q2142 : (Jvm.Cond.code ({ cls := "LongerHalfModel", name := "refusesPull", desc := "(ZIIII)I" } : Jvm.MethodName) prog_20_method_60_code (6 : Nat) (Option.some Jvm.ClassFile.FieldType.int)) ∈ lw_all := lw_g (lw_at lw_m9 87 rfl) rfl
theorem q2143 : (Jvm.Cond.methodLink "LongerHalfModel" (409 : Nat) ({ cls := "LongerHalfModel", name := "strainAt", desc := "(II)I" } : Jvm.MethodName)) ∈ lw_all := lw_g (lw_at lw_m9 88 rfl) rfl
theorem q2144 : (Jvm.Cond.privateMethod ({ cls := "LongerHalfModel", name := "strainAt", desc := "(II)I" } : Jvm.MethodName)) ∈ lw_tbl := lw_at lw_m9 89 rfl
theorem q2145 : (Jvm.Cond.instanceMethod ({ cls := "LongerHalfModel", name := "strainAt", desc := "(II)I" } : Jvm.MethodName)) ∈ lw_all := lw_g (lw_at lw_m9 90 rfl) rfl
theorem q2146 : (Jvm.Cond.code ({ cls := "LongerHalfModel", name := "strainAt", desc := "(II)I" } : Jvm.MethodName) prog_20_method_49_code (3 : Nat) (Option.some Jvm.ClassFile.FieldType.int)) ∈ lw_all := lw_g (lw_at lw_m9 91 rfl) rfl
theorem q2148 : (Jvm.Cond.instanceMethod ({ cls := "LongerHalfModel", name := "pulled", desc := "(IIIIII)I" } : Jvm.MethodName)) ∈ lw_all := lw_g (lw_at lw_m9 93 rfl) rfl
theorem q2149 : (Jvm.Cond.selects "LongerHalfModel" ({ cls := "LongerHalfModel", name := "pulled", desc := "(IIIIII)I" } : Jvm.MethodName) ({ cls := "LongerHalfModel", name := "pulled", desc := "(IIIIII)I" } : Jvm.MethodName)) ∈ lw_all := lw_g (lw_at lw_m9 94 rfl) rfl
theorem q2150 : (Jvm.Cond.code ({ cls := "LongerHalfModel", name := "pulled", desc := "(IIIIII)I" } : Jvm.MethodName) prog_20_method_68_code (8 : Nat) (Option.some Jvm.ClassFile.FieldType.int)) ∈ lw_all := lw_g (lw_at lw_m9 95 rfl) rfl
theorem q2151 : (Jvm.Cond.methodLink "LongerHalfModel" (433 : Nat) ({ cls := "LongerHalfModel", name := "comes", desc := "()I" } : Jvm.MethodName)) ∈ lw_all := lw_g (lw_at lw_m9 96 rfl) rfl
theorem q2152 : (Jvm.Cond.privateMethod ({ cls := "LongerHalfModel", name := "comes", desc := "()I" } : Jvm.MethodName)) ∈ lw_tbl := lw_at lw_m9 97 rfl
theorem q2153 : (Jvm.Cond.instanceMethod ({ cls := "LongerHalfModel", name := "comes", desc := "()I" } : Jvm.MethodName)) ∈ lw_all := lw_g (lw_at lw_m9 98 rfl) rfl
theorem q2154 : (Jvm.Cond.code ({ cls := "LongerHalfModel", name := "comes", desc := "()I" } : Jvm.MethodName) prog_20_method_52_code (5 : Nat) (Option.some Jvm.ClassFile.FieldType.int)) ∈ lw_all := lw_g (lw_at lw_m9 99 rfl) rfl
theorem q2155 : (Jvm.Cond.methodLink "LongerHalfModel" (422 : Nat) ({ cls := "LongerHalfModel", name := "worst", desc := "(I)I" } : Jvm.MethodName)) ∈ lw_all := lw_g (lw_at lw_m9 100 rfl) rfl
theorem q2156 : (Jvm.Cond.privateMethod ({ cls := "LongerHalfModel", name := "worst", desc := "(I)I" } : Jvm.MethodName)) ∈ lw_tbl := lw_at lw_m9 101 rfl
theorem q2157 : (Jvm.Cond.instanceMethod ({ cls := "LongerHalfModel", name := "worst", desc := "(I)I" } : Jvm.MethodName)) ∈ lw_all := lw_g (lw_at lw_m9 102 rfl) rfl
theorem q2158 : (Jvm.Cond.code ({ cls := "LongerHalfModel", name := "worst", desc := "(I)I" } : Jvm.MethodName) prog_20_method_50_code (4 : Nat) (Option.some Jvm.ClassFile.FieldType.int)) ∈ lw_all := lw_g (lw_at lw_m9 103 rfl) rfl
theorem q2159 : (Jvm.Cond.methodLink "LongerHalfModel" (415 : Nat) ({ cls := "LongerHalfModel", name := "compares", desc := "(IIII)J" } : Jvm.MethodName)) ∈ lw_all := lw_g (lw_at lw_m9 104 rfl) rfl
theorem q2160 : (Jvm.Cond.privateMethod ({ cls := "LongerHalfModel", name := "compares", desc := "(IIII)J" } : Jvm.MethodName)) ∈ lw_tbl := lw_at lw_m9 105 rfl
theorem q2161 : (Jvm.Cond.instanceMethod ({ cls := "LongerHalfModel", name := "compares", desc := "(IIII)J" } : Jvm.MethodName)) ∈ lw_all := lw_g (lw_at lw_m9 106 rfl) rfl
theorem q2162 : (Jvm.Cond.code ({ cls := "LongerHalfModel", name := "compares", desc := "(IIII)J" } : Jvm.MethodName) prog_20_method_51_code (9 : Nat) (Option.some Jvm.ClassFile.FieldType.long)) ∈ lw_all := lw_g (lw_at lw_m9 107 rfl) rfl
theorem q2163 : (Jvm.Cond.constantLong "LongerHalfModel" (425 : Nat) (-1 : Int64)) ∈ lw_all := lw_g (lw_at lw_m9 108 rfl) rfl
theorem q2165 : (Jvm.Cond.instanceMethod ({ cls := "LongerHalfModel", name := "breaksAt", desc := "(IIIIII)I" } : Jvm.MethodName)) ∈ lw_all := lw_g (lw_at lw_m9 110 rfl) rfl
theorem q2166 : (Jvm.Cond.selects "LongerHalfModel" ({ cls := "LongerHalfModel", name := "breaksAt", desc := "(IIIIII)I" } : Jvm.MethodName) ({ cls := "LongerHalfModel", name := "breaksAt", desc := "(IIIIII)I" } : Jvm.MethodName)) ∈ lw_all := lw_g (lw_at lw_m9 111 rfl) rfl
theorem q2167 : (Jvm.Cond.code ({ cls := "LongerHalfModel", name := "breaksAt", desc := "(IIIIII)I" } : Jvm.MethodName) prog_20_method_69_code (8 : Nat) (Option.some Jvm.ClassFile.FieldType.int)) ∈ lw_all := lw_g (lw_at lw_m9 112 rfl) rfl
theorem q2169 : (Jvm.Cond.instanceMethod ({ cls := "LongerHalfModel", name := "flawed", desc := "(IIIIIIII)I" } : Jvm.MethodName)) ∈ lw_all := lw_g (lw_at lw_m9 114 rfl) rfl
theorem q2170 : (Jvm.Cond.selects "LongerHalfModel" ({ cls := "LongerHalfModel", name := "flawed", desc := "(IIIIIIII)I" } : Jvm.MethodName) ({ cls := "LongerHalfModel", name := "flawed", desc := "(IIIIIIII)I" } : Jvm.MethodName)) ∈ lw_all := lw_g (lw_at lw_m9 115 rfl) rfl
theorem q2171 : (Jvm.Cond.code ({ cls := "LongerHalfModel", name := "flawed", desc := "(IIIIIIII)I" } : Jvm.MethodName) prog_20_method_70_code (10 : Nat) (Option.some Jvm.ClassFile.FieldType.int)) ∈ lw_all := lw_g (lw_at lw_m9 116 rfl) rfl
theorem q2173 : (Jvm.Cond.instanceMethod ({ cls := "LongerHalfModel", name := "odds", desc := "(IIIIIIIZ)J" } : Jvm.MethodName)) ∈ lw_all := lw_g (lw_at lw_m9 118 rfl) rfl
theorem q2174 : (Jvm.Cond.selects "LongerHalfModel" ({ cls := "LongerHalfModel", name := "odds", desc := "(IIIIIIIZ)J" } : Jvm.MethodName) ({ cls := "LongerHalfModel", name := "odds", desc := "(IIIIIIIZ)J" } : Jvm.MethodName)) ∈ lw_all := lw_g (lw_at lw_m9 119 rfl) rfl
theorem q2175 : (Jvm.Cond.code ({ cls := "LongerHalfModel", name := "odds", desc := "(IIIIIIIZ)J" } : Jvm.MethodName) prog_20_method_71_code (10 : Nat) (Option.some Jvm.ClassFile.FieldType.long)) ∈ lw_all := lw_g (lw_at lw_m9 120 rfl) rfl
theorem q2176 : (Jvm.Cond.methodLink "LongerHalfModel" (462 : Nat) ({ cls := "LongerHalfModel", name := "oddsOf", desc := "(I)J" } : Jvm.MethodName)) ∈ lw_all := lw_g (lw_at lw_m9 121 rfl) rfl
theorem q2177 : (Jvm.Cond.privateMethod ({ cls := "LongerHalfModel", name := "oddsOf", desc := "(I)J" } : Jvm.MethodName)) ∈ lw_tbl := lw_at lw_m9 122 rfl
theorem q2178 : (Jvm.Cond.instanceMethod ({ cls := "LongerHalfModel", name := "oddsOf", desc := "(I)J" } : Jvm.MethodName)) ∈ lw_all := lw_g (lw_at lw_m9 123 rfl) rfl
theorem q2179 : (Jvm.Cond.code ({ cls := "LongerHalfModel", name := "oddsOf", desc := "(I)J" } : Jvm.MethodName) prog_20_method_55_code (6 : Nat) (Option.some Jvm.ClassFile.FieldType.long)) ∈ lw_all := lw_g (lw_at lw_m9 124 rfl) rfl
theorem q2180 : (Jvm.Cond.methodLink "LongerHalfModel" (430 : Nat) ({ cls := "LongerHalfModel", name := "allPlaces", desc := "()I" } : Jvm.MethodName)) ∈ lw_all := lw_g (lw_at lw_m9 125 rfl) rfl
theorem q2181 : (Jvm.Cond.privateMethod ({ cls := "LongerHalfModel", name := "allPlaces", desc := "()I" } : Jvm.MethodName)) ∈ lw_tbl := lw_at lw_m9 126 rfl
theorem q2182 : (Jvm.Cond.instanceMethod ({ cls := "LongerHalfModel", name := "allPlaces", desc := "()I" } : Jvm.MethodName)) ∈ lw_all := lw_g (lw_at lw_m9 127 rfl) rfl
theorem q2183 : (Jvm.Cond.code ({ cls := "LongerHalfModel", name := "allPlaces", desc := "()I" } : Jvm.MethodName) prog_20_method_53_code (1 : Nat) (Option.some Jvm.ClassFile.FieldType.int)) ∈ lw_all := lw_g (lw_at lw_m9 128 rfl) rfl
theorem q2184 : (Jvm.Cond.constantLong "LongerHalfModel" (436 : Nat) (100 : Int64)) ∈ lw_all := lw_g (lw_at lw_m9 129 rfl) rfl
theorem q2185 : (Jvm.Cond.methodLink "LongerHalfModel" (438 : Nat) ({ cls := "LongerHalfModel", name := "flaws", desc := "(I)V" } : Jvm.MethodName)) ∈ lw_all := lw_g (lw_at lw_m9 130 rfl) rfl
theorem q2186 : (Jvm.Cond.privateMethod ({ cls := "LongerHalfModel", name := "flaws", desc := "(I)V" } : Jvm.MethodName)) ∈ lw_tbl := lw_at lw_m9 131 rfl
theorem q2187 : (Jvm.Cond.instanceMethod ({ cls := "LongerHalfModel", name := "flaws", desc := "(I)V" } : Jvm.MethodName)) ∈ lw_all := lw_g (lw_at lw_m9 132 rfl) rfl
theorem q2188 : (Jvm.Cond.code ({ cls := "LongerHalfModel", name := "flaws", desc := "(I)V" } : Jvm.MethodName) prog_20_method_54_code (2 : Nat) (Option.none : Option Jvm.ClassFile.FieldType)) ∈ lw_all := lw_g (lw_at lw_m9 133 rfl) rfl
theorem q2189 : (Jvm.Cond.methodLink "LongerHalfModel" (466 : Nat) ({ cls := "LongerHalfModel", name := "fraction", desc := "(JJZ)J" } : Jvm.MethodName)) ∈ lw_all := lw_g (lw_at lw_m9 134 rfl) rfl
theorem q2190 : (Jvm.Cond.privateMethod ({ cls := "LongerHalfModel", name := "fraction", desc := "(JJZ)J" } : Jvm.MethodName)) ∈ lw_tbl := lw_at lw_m9 135 rfl
theorem q2191 : (Jvm.Cond.instanceMethod ({ cls := "LongerHalfModel", name := "fraction", desc := "(JJZ)J" } : Jvm.MethodName)) ∈ lw_all := lw_g (lw_at lw_m9 136 rfl) rfl
theorem q2192 : (Jvm.Cond.code ({ cls := "LongerHalfModel", name := "fraction", desc := "(JJZ)J" } : Jvm.MethodName) prog_20_method_10_code (6 : Nat) (Option.some Jvm.ClassFile.FieldType.long)) ∈ lw_all := lw_g (lw_at lw_m9 137 rfl) rfl
theorem q2193 : (Jvm.Cond.methodLink "LongerHalfModel" (66 : Nat) ({ cls := "LongerHalfModel", name := "common", desc := "(JJ)J" } : Jvm.MethodName)) ∈ lw_all := lw_g (lw_at lw_m9 138 rfl) rfl
theorem q2194 : (Jvm.Cond.static ({ cls := "LongerHalfModel", name := "common", desc := "(JJ)J" } : Jvm.MethodName)) ∈ lw_all := lw_g (lw_at lw_m9 139 rfl) rfl
theorem q2195 : (Jvm.Cond.code ({ cls := "LongerHalfModel", name := "common", desc := "(JJ)J" } : Jvm.MethodName) prog_20_method_9_code (10 : Nat) (Option.some Jvm.ClassFile.FieldType.long)) ∈ lw_all := lw_g (lw_at lw_m9 140 rfl) rfl
theorem q2197 : (Jvm.Cond.instanceMethod ({ cls := "LongerHalfModel", name := "best", desc := "(IIII)I" } : Jvm.MethodName)) ∈ lw_all := lw_g (lw_at lw_m9 142 rfl) rfl
theorem q2198 : (Jvm.Cond.selects "LongerHalfModel" ({ cls := "LongerHalfModel", name := "best", desc := "(IIII)I" } : Jvm.MethodName) ({ cls := "LongerHalfModel", name := "best", desc := "(IIII)I" } : Jvm.MethodName)) ∈ lw_all := lw_g (lw_at lw_m9 143 rfl) rfl
theorem q2199 : (Jvm.Cond.code ({ cls := "LongerHalfModel", name := "best", desc := "(IIII)I" } : Jvm.MethodName) prog_20_method_76_code (11 : Nat) (Option.some Jvm.ClassFile.FieldType.int)) ∈ lw_all := lw_g (lw_at lw_m9 144 rfl) rfl
theorem q2200 : (Jvm.Cond.methodLink "LongerHalfModel" (470 : Nat) ({ cls := "LongerHalfModel", name := "isChoice", desc := "(IIII)Z" } : Jvm.MethodName)) ∈ lw_all := lw_g (lw_at lw_m9 145 rfl) rfl
theorem q2201 : (Jvm.Cond.privateMethod ({ cls := "LongerHalfModel", name := "isChoice", desc := "(IIII)Z" } : Jvm.MethodName)) ∈ lw_tbl := lw_at lw_m9 146 rfl
theorem q2202 : (Jvm.Cond.instanceMethod ({ cls := "LongerHalfModel", name := "isChoice", desc := "(IIII)Z" } : Jvm.MethodName)) ∈ lw_all := lw_g (lw_at lw_m9 147 rfl) rfl
theorem q2203 : (Jvm.Cond.code ({ cls := "LongerHalfModel", name := "isChoice", desc := "(IIII)Z" } : Jvm.MethodName) prog_20_method_72_code (5 : Nat) (Option.some Jvm.ClassFile.FieldType.boolean)) ∈ lw_all := lw_g (lw_at lw_m9 148 rfl) rfl
theorem q2204 : (Jvm.Cond.methodLink "LongerHalfModel" (474 : Nat) ({ cls := "LongerHalfModel", name := "told", desc := "(I)I" } : Jvm.MethodName)) ∈ lw_all := lw_g (lw_at lw_m9 149 rfl) rfl
theorem q2205 : (Jvm.Cond.static ({ cls := "LongerHalfModel", name := "told", desc := "(I)I" } : Jvm.MethodName)) ∈ lw_all := lw_g (lw_at lw_m9 150 rfl) rfl
theorem q2206 : (Jvm.Cond.code ({ cls := "LongerHalfModel", name := "told", desc := "(I)I" } : Jvm.MethodName) prog_20_method_75_code (1 : Nat) (Option.some Jvm.ClassFile.FieldType.int)) ∈ lw_all := lw_g (lw_at lw_m9 151 rfl) rfl
theorem q2208 : (Jvm.Cond.instanceMethod ({ cls := "LongerHalfModel", name := "rests", desc := "(III)I" } : Jvm.MethodName)) ∈ lw_all := lw_g (lw_at lw_m9 153 rfl) rfl
theorem q2209 : (Jvm.Cond.selects "LongerHalfModel" ({ cls := "LongerHalfModel", name := "rests", desc := "(III)I" } : Jvm.MethodName) ({ cls := "LongerHalfModel", name := "rests", desc := "(III)I" } : Jvm.MethodName)) ∈ lw_all := lw_g (lw_at lw_m9 154 rfl) rfl
theorem q2210 : (Jvm.Cond.code ({ cls := "LongerHalfModel", name := "rests", desc := "(III)I" } : Jvm.MethodName) prog_20_method_78_code (4 : Nat) (Option.some Jvm.ClassFile.FieldType.int)) ∈ lw_all := lw_g (lw_at lw_m9 155 rfl) rfl
theorem q2211 : (Jvm.Cond.methodLink "LongerHalfModel" (485 : Nat) ({ cls := "LongerHalfModel", name := "restAt", desc := "(IIII)I" } : Jvm.MethodName)) ∈ lw_all := lw_g (lw_at lw_m9 156 rfl) rfl
theorem q2212 : (Jvm.Cond.privateMethod ({ cls := "LongerHalfModel", name := "restAt", desc := "(IIII)I" } : Jvm.MethodName)) ∈ lw_tbl := lw_at lw_m9 157 rfl
theorem q2213 : (Jvm.Cond.instanceMethod ({ cls := "LongerHalfModel", name := "restAt", desc := "(IIII)I" } : Jvm.MethodName)) ∈ lw_all := lw_g (lw_at lw_m9 158 rfl) rfl
theorem q2214 : (Jvm.Cond.code ({ cls := "LongerHalfModel", name := "restAt", desc := "(IIII)I" } : Jvm.MethodName) prog_20_method_77_code (8 : Nat) (Option.some Jvm.ClassFile.FieldType.int)) ∈ lw_all := lw_g (lw_at lw_m9 159 rfl) rfl
theorem q2215 : (Jvm.Cond.methodLink "LongerHalfModel" (477 : Nat) ({ cls := "LongerHalfModel", name := "laysGame", desc := "(III)V" } : Jvm.MethodName)) ∈ lw_all := lw_g (lw_at lw_m9 160 rfl) rfl
theorem q2216 : (Jvm.Cond.privateMethod ({ cls := "LongerHalfModel", name := "laysGame", desc := "(III)V" } : Jvm.MethodName)) ∈ lw_tbl := lw_at lw_m9 161 rfl
theorem q2217 : (Jvm.Cond.instanceMethod ({ cls := "LongerHalfModel", name := "laysGame", desc := "(III)V" } : Jvm.MethodName)) ∈ lw_all := lw_g (lw_at lw_m9 162 rfl) rfl
theorem q2218 : (Jvm.Cond.code ({ cls := "LongerHalfModel", name := "laysGame", desc := "(III)V" } : Jvm.MethodName) prog_20_method_73_code (7 : Nat) (Option.none : Option Jvm.ClassFile.FieldType)) ∈ lw_all := lw_g (lw_at lw_m9 163 rfl) rfl
theorem q2219 : (Jvm.Cond.methodLink "LongerHalfModel" (481 : Nat) ({ cls := "LongerHalfModel", name := "isRest", desc := "(IIIII)Z" } : Jvm.MethodName)) ∈ lw_all := lw_g (lw_at lw_m9 164 rfl) rfl
theorem q2220 : (Jvm.Cond.privateMethod ({ cls := "LongerHalfModel", name := "isRest", desc := "(IIIII)Z" } : Jvm.MethodName)) ∈ lw_tbl := lw_at lw_m9 165 rfl
theorem q2221 : (Jvm.Cond.instanceMethod ({ cls := "LongerHalfModel", name := "isRest", desc := "(IIIII)Z" } : Jvm.MethodName)) ∈ lw_all := lw_g (lw_at lw_m9 166 rfl) rfl
theorem q2222 : (Jvm.Cond.code ({ cls := "LongerHalfModel", name := "isRest", desc := "(IIIII)Z" } : Jvm.MethodName) prog_20_method_74_code (7 : Nat) (Option.some Jvm.ClassFile.FieldType.boolean)) ∈ lw_all := lw_g (lw_at lw_m9 167 rfl) rfl
theorem q2224 : (Jvm.Cond.instanceMethod ({ cls := "LongerHalfModel", name := "rest", desc := "(III)I" } : Jvm.MethodName)) ∈ lw_all := lw_g (lw_at lw_m9 169 rfl) rfl
theorem q2225 : (Jvm.Cond.selects "LongerHalfModel" ({ cls := "LongerHalfModel", name := "rest", desc := "(III)I" } : Jvm.MethodName) ({ cls := "LongerHalfModel", name := "rest", desc := "(III)I" } : Jvm.MethodName)) ∈ lw_all := lw_g (lw_at lw_m9 170 rfl) rfl
theorem q2226 : (Jvm.Cond.code ({ cls := "LongerHalfModel", name := "rest", desc := "(III)I" } : Jvm.MethodName) prog_20_method_79_code (4 : Nat) (Option.some Jvm.ClassFile.FieldType.int)) ∈ lw_all := lw_g (lw_at lw_m9 171 rfl) rfl
theorem q2228 : (Jvm.Cond.instanceMethod ({ cls := "LongerHalfModel", name := "sure", desc := "(IIIZ)J" } : Jvm.MethodName)) ∈ lw_all := lw_g (lw_at lw_m9 173 rfl) rfl
theorem q2229 : (Jvm.Cond.selects "LongerHalfModel" ({ cls := "LongerHalfModel", name := "sure", desc := "(IIIZ)J" } : Jvm.MethodName) ({ cls := "LongerHalfModel", name := "sure", desc := "(IIIZ)J" } : Jvm.MethodName)) ∈ lw_all := lw_g (lw_at lw_m9 174 rfl) rfl
theorem q2230 : (Jvm.Cond.code ({ cls := "LongerHalfModel", name := "sure", desc := "(IIIZ)J" } : Jvm.MethodName) prog_20_method_80_code (11 : Nat) (Option.some Jvm.ClassFile.FieldType.long)) ∈ lw_all := lw_g (lw_at lw_m9 175 rfl) rfl
theorem q2232 : (Jvm.Cond.instanceMethod ({ cls := "LongerHalfModel", name := "curve", desc := "(IIIIZ)J" } : Jvm.MethodName)) ∈ lw_all := lw_g (lw_at lw_m9 177 rfl) rfl
theorem q2233 : (Jvm.Cond.selects "LongerHalfModel" ({ cls := "LongerHalfModel", name := "curve", desc := "(IIIIZ)J" } : Jvm.MethodName) ({ cls := "LongerHalfModel", name := "curve", desc := "(IIIIZ)J" } : Jvm.MethodName)) ∈ lw_all := lw_g (lw_at lw_m9 178 rfl) rfl
theorem q2234 : (Jvm.Cond.code ({ cls := "LongerHalfModel", name := "curve", desc := "(IIIIZ)J" } : Jvm.MethodName) prog_20_method_82_code (8 : Nat) (Option.some Jvm.ClassFile.FieldType.long)) ∈ lw_all := lw_g (lw_at lw_m9 179 rfl) rfl
theorem q2235 : (Jvm.Cond.methodLink "LongerHalfModel" (492 : Nat) ({ cls := "LongerHalfModel", name := "curveOf", desc := "(IIII)J" } : Jvm.MethodName)) ∈ lw_all := lw_g (lw_at lw_m9 180 rfl) rfl
theorem q2236 : (Jvm.Cond.privateMethod ({ cls := "LongerHalfModel", name := "curveOf", desc := "(IIII)J" } : Jvm.MethodName)) ∈ lw_tbl := lw_at lw_m9 181 rfl
theorem q2237 : (Jvm.Cond.instanceMethod ({ cls := "LongerHalfModel", name := "curveOf", desc := "(IIII)J" } : Jvm.MethodName)) ∈ lw_all := lw_g (lw_at lw_m9 182 rfl) rfl
theorem q2238 : (Jvm.Cond.code ({ cls := "LongerHalfModel", name := "curveOf", desc := "(IIII)J" } : Jvm.MethodName) prog_20_method_81_code (5 : Nat) (Option.some Jvm.ClassFile.FieldType.long)) ∈ lw_all := lw_g (lw_at lw_m9 183 rfl) rfl
theorem q2239 : (Jvm.Cond.methodLink "LongerHalfModel" (489 : Nat) ({ cls := "LongerHalfModel", name := "laysTold", desc := "(III)V" } : Jvm.MethodName)) ∈ lw_all := lw_g (lw_at lw_m9 184 rfl) rfl
theorem q2240 : (Jvm.Cond.privateMethod ({ cls := "LongerHalfModel", name := "laysTold", desc := "(III)V" } : Jvm.MethodName)) ∈ lw_tbl := lw_at lw_m9 185 rfl
theorem q2241 : (Jvm.Cond.instanceMethod ({ cls := "LongerHalfModel", name := "laysTold", desc := "(III)V" } : Jvm.MethodName)) ∈ lw_all := lw_g (lw_at lw_m9 186 rfl) rfl
theorem q2242 : (Jvm.Cond.code ({ cls := "LongerHalfModel", name := "laysTold", desc := "(III)V" } : Jvm.MethodName) prog_20_method_47_code (4 : Nat) (Option.none : Option Jvm.ClassFile.FieldType)) ∈ lw_all := lw_g (lw_at lw_m9 187 rfl) rfl
theorem q2243 : (Jvm.Cond.methodLink "LongerHalfModel" (392 : Nat) ({ cls := "LongerHalfModel$Kitchen", name := "holds", desc := "(III)I" } : Jvm.MethodName)) ∈ lw_all := lw_g (lw_at lw_m9 188 rfl) rfl
theorem q2249 : (Jvm.Cond.instanceMethod ({ cls := "LongerHalfModel", name := "bestDay", desc := "(III)I" } : Jvm.MethodName)) ∈ lw_all := lw_g (lw_at lw_m9 194 rfl) rfl
theorem q2250 : (Jvm.Cond.selects "LongerHalfModel" ({ cls := "LongerHalfModel", name := "bestDay", desc := "(III)I" } : Jvm.MethodName) ({ cls := "LongerHalfModel", name := "bestDay", desc := "(III)I" } : Jvm.MethodName)) ∈ lw_all := lw_g (lw_at lw_m9 195 rfl) rfl
theorem q2251 : (Jvm.Cond.code ({ cls := "LongerHalfModel", name := "bestDay", desc := "(III)I" } : Jvm.MethodName) prog_20_method_83_code (6 : Nat) (Option.some Jvm.ClassFile.FieldType.int)) ∈ lw_all := lw_g (lw_at lw_m9 196 rfl) rfl
theorem q2253 : (Jvm.Cond.instanceMethod ({ cls := "LongerHalfModel", name := "lawOdds", desc := "(IIIIZ)J" } : Jvm.MethodName)) ∈ lw_all := lw_g (lw_at lw_m9 198 rfl) rfl
theorem q2254 : (Jvm.Cond.selects "LongerHalfModel" ({ cls := "LongerHalfModel", name := "lawOdds", desc := "(IIIIZ)J" } : Jvm.MethodName) ({ cls := "LongerHalfModel", name := "lawOdds", desc := "(IIIIZ)J" } : Jvm.MethodName)) ∈ lw_all := lw_g (lw_at lw_m9 199 rfl) rfl
theorem q2255 : (Jvm.Cond.code ({ cls := "LongerHalfModel", name := "lawOdds", desc := "(IIIIZ)J" } : Jvm.MethodName) prog_20_method_88_code (8 : Nat) (Option.some Jvm.ClassFile.FieldType.long)) ∈ lw_all := lw_g (lw_at lw_m9 200 rfl) rfl
theorem q2256 : (Jvm.Cond.methodLink "LongerHalfModel" (506 : Nat) ({ cls := "LongerHalfModel", name := "byLaw", desc := "(IIII)J" } : Jvm.MethodName)) ∈ lw_all := lw_g (lw_at lw_m9 201 rfl) rfl
theorem q2257 : (Jvm.Cond.privateMethod ({ cls := "LongerHalfModel", name := "byLaw", desc := "(IIII)J" } : Jvm.MethodName)) ∈ lw_tbl := lw_at lw_m9 202 rfl
theorem q2258 : (Jvm.Cond.instanceMethod ({ cls := "LongerHalfModel", name := "byLaw", desc := "(IIII)J" } : Jvm.MethodName)) ∈ lw_all := lw_g (lw_at lw_m9 203 rfl) rfl
theorem q2259 : (Jvm.Cond.code ({ cls := "LongerHalfModel", name := "byLaw", desc := "(IIII)J" } : Jvm.MethodName) prog_20_method_87_code (6 : Nat) (Option.some Jvm.ClassFile.FieldType.long)) ∈ lw_all := lw_g (lw_at lw_m9 204 rfl) rfl
theorem q2260 : (Jvm.Cond.methodLink "LongerHalfModel" (498 : Nat) ({ cls := "LongerHalfModel", name := "oddsWith", desc := "(IIII)J" } : Jvm.MethodName)) ∈ lw_all := lw_g (lw_at lw_m9 205 rfl) rfl
theorem q2261 : (Jvm.Cond.privateMethod ({ cls := "LongerHalfModel", name := "oddsWith", desc := "(IIII)J" } : Jvm.MethodName)) ∈ lw_tbl := lw_at lw_m9 206 rfl
theorem q2262 : (Jvm.Cond.instanceMethod ({ cls := "LongerHalfModel", name := "oddsWith", desc := "(IIII)J" } : Jvm.MethodName)) ∈ lw_all := lw_g (lw_at lw_m9 207 rfl) rfl
theorem q2263 : (Jvm.Cond.code ({ cls := "LongerHalfModel", name := "oddsWith", desc := "(IIII)J" } : Jvm.MethodName) prog_20_method_84_code (5 : Nat) (Option.some Jvm.ClassFile.FieldType.long)) ∈ lw_all := lw_g (lw_at lw_m9 208 rfl) rfl
theorem q2264 : (Jvm.Cond.methodLink "LongerHalfModel" (501 : Nat) ({ cls := "LongerHalfModel", name := "chosen", desc := "(III)I" } : Jvm.MethodName)) ∈ lw_all := lw_g (lw_at lw_m9 209 rfl) rfl
theorem q2265 : (Jvm.Cond.privateMethod ({ cls := "LongerHalfModel", name := "chosen", desc := "(III)I" } : Jvm.MethodName)) ∈ lw_tbl := lw_at lw_m9 210 rfl
theorem q2266 : (Jvm.Cond.instanceMethod ({ cls := "LongerHalfModel", name := "chosen", desc := "(III)I" } : Jvm.MethodName)) ∈ lw_all := lw_g (lw_at lw_m9 211 rfl) rfl
theorem q2267 : (Jvm.Cond.code ({ cls := "LongerHalfModel", name := "chosen", desc := "(III)I" } : Jvm.MethodName) prog_20_method_86_code (4 : Nat) (Option.some Jvm.ClassFile.FieldType.int)) ∈ lw_all := lw_g (lw_at lw_m9 212 rfl) rfl
theorem q2268 : (Jvm.Cond.methodLink "LongerHalfModel" (495 : Nat) ({ cls := "LongerHalfModel", name := "thickness", desc := "(II)I" } : Jvm.MethodName)) ∈ lw_all := lw_g (lw_at lw_m9 213 rfl) rfl
theorem q2269 : (Jvm.Cond.privateMethod ({ cls := "LongerHalfModel", name := "thickness", desc := "(II)I" } : Jvm.MethodName)) ∈ lw_tbl := lw_at lw_m9 214 rfl
theorem q2270 : (Jvm.Cond.instanceMethod ({ cls := "LongerHalfModel", name := "thickness", desc := "(II)I" } : Jvm.MethodName)) ∈ lw_all := lw_g (lw_at lw_m9 215 rfl) rfl
theorem q2271 : (Jvm.Cond.code ({ cls := "LongerHalfModel", name := "thickness", desc := "(II)I" } : Jvm.MethodName) prog_20_method_85_code (5 : Nat) (Option.some Jvm.ClassFile.FieldType.int)) ∈ lw_all := lw_g (lw_at lw_m9 216 rfl) rfl
theorem q2272 : (Jvm.Cond.constantLong "LongerHalfModel" (504 : Nat) (2 : Int64)) ∈ lw_all := lw_g (lw_at lw_m9 217 rfl) rfl
theorem q2273 : (Jvm.Cond.constantLong "LongerHalfModel" (509 : Nat) (200 : Int64)) ∈ lw_all := lw_g (lw_at lw_m9 218 rfl) rfl
theorem q2275 : (Jvm.Cond.instanceMethod ({ cls := "LongerHalfModel", name := "fairest", desc := "(III)I" } : Jvm.MethodName)) ∈ lw_all := lw_g (lw_at lw_m9 220 rfl) rfl
theorem q2276 : (Jvm.Cond.selects "LongerHalfModel" ({ cls := "LongerHalfModel", name := "fairest", desc := "(III)I" } : Jvm.MethodName) ({ cls := "LongerHalfModel", name := "fairest", desc := "(III)I" } : Jvm.MethodName)) ∈ lw_all := lw_g (lw_at lw_m9 221 rfl) rfl
theorem q2277 : (Jvm.Cond.code ({ cls := "LongerHalfModel", name := "fairest", desc := "(III)I" } : Jvm.MethodName) prog_20_method_90_code (6 : Nat) (Option.some Jvm.ClassFile.FieldType.int)) ∈ lw_all := lw_g (lw_at lw_m9 222 rfl) rfl
theorem q2278 : (Jvm.Cond.methodLink "LongerHalfModel" (511 : Nat) ({ cls := "LongerHalfModel", name := "fromHalf", desc := "(IIII)J" } : Jvm.MethodName)) ∈ lw_all := lw_g (lw_at lw_m9 223 rfl) rfl
theorem q2279 : (Jvm.Cond.privateMethod ({ cls := "LongerHalfModel", name := "fromHalf", desc := "(IIII)J" } : Jvm.MethodName)) ∈ lw_tbl := lw_at lw_m9 224 rfl
theorem q2280 : (Jvm.Cond.instanceMethod ({ cls := "LongerHalfModel", name := "fromHalf", desc := "(IIII)J" } : Jvm.MethodName)) ∈ lw_all := lw_g (lw_at lw_m9 225 rfl) rfl
theorem q2281 : (Jvm.Cond.code ({ cls := "LongerHalfModel", name := "fromHalf", desc := "(IIII)J" } : Jvm.MethodName) prog_20_method_89_code (7 : Nat) (Option.some Jvm.ClassFile.FieldType.long)) ∈ lw_all := lw_g (lw_at lw_m9 226 rfl) rfl
theorem q2283 : (Jvm.Cond.instanceMethod ({ cls := "LongerHalfModel", name := "turnsOf", desc := "(I)I" } : Jvm.MethodName)) ∈ lw_all := lw_g (lw_at lw_m9 228 rfl) rfl
theorem q2284 : (Jvm.Cond.selects "LongerHalfModel" ({ cls := "LongerHalfModel", name := "turnsOf", desc := "(I)I" } : Jvm.MethodName) ({ cls := "LongerHalfModel", name := "turnsOf", desc := "(I)I" } : Jvm.MethodName)) ∈ lw_all := lw_g (lw_at lw_m9 229 rfl) rfl
theorem q2285 : (Jvm.Cond.code ({ cls := "LongerHalfModel", name := "turnsOf", desc := "(I)I" } : Jvm.MethodName) prog_20_method_99_code (3 : Nat) (Option.some Jvm.ClassFile.FieldType.int)) ∈ lw_all := lw_g (lw_at lw_m9 230 rfl) rfl
theorem q2286 : (Jvm.Cond.methodLink "LongerHalfModel" (532 : Nat) ({ cls := "LongerHalfModel", name := "refusesTurns", desc := "(I)I" } : Jvm.MethodName)) ∈ lw_all := lw_g (lw_at lw_m9 231 rfl) rfl
theorem q2287 : (Jvm.Cond.privateMethod ({ cls := "LongerHalfModel", name := "refusesTurns", desc := "(I)I" } : Jvm.MethodName)) ∈ lw_tbl := lw_at lw_m9 232 rfl
theorem q2288 : (Jvm.Cond.instanceMethod ({ cls := "LongerHalfModel", name := "refusesTurns", desc := "(I)I" } : Jvm.MethodName)) ∈ lw_all := lw_g (lw_at lw_m9 233 rfl) rfl
theorem q2289 : (Jvm.Cond.code ({ cls := "LongerHalfModel", name := "refusesTurns", desc := "(I)I" } : Jvm.MethodName) prog_20_method_98_code (2 : Nat) (Option.some Jvm.ClassFile.FieldType.int)) ∈ lw_all := lw_g (lw_at lw_m9 234 rfl) rfl
theorem q2290 : (Jvm.Cond.methodLink "LongerHalfModel" (535 : Nat) ({ cls := "LongerHalfModel", name := "laysTurns", desc := "(I)Z" } : Jvm.MethodName)) ∈ lw_all := lw_g (lw_at lw_m9 235 rfl) rfl
theorem q2291 : (Jvm.Cond.privateMethod ({ cls := "LongerHalfModel", name := "laysTurns", desc := "(I)Z" } : Jvm.MethodName)) ∈ lw_tbl := lw_at lw_m9 236 rfl
theorem q2292 : (Jvm.Cond.instanceMethod ({ cls := "LongerHalfModel", name := "laysTurns", desc := "(I)Z" } : Jvm.MethodName)) ∈ lw_all := lw_g (lw_at lw_m9 237 rfl) rfl
theorem q2293 : (Jvm.Cond.code ({ cls := "LongerHalfModel", name := "laysTurns", desc := "(I)Z" } : Jvm.MethodName) prog_20_method_97_code (4 : Nat) (Option.some Jvm.ClassFile.FieldType.boolean)) ∈ lw_all := lw_g (lw_at lw_m9 238 rfl) rfl
theorem q2294 : (Jvm.Cond.methodLink "LongerHalfModel" (520 : Nat) ({ cls := "LongerHalfModel", name := "isFair", desc := "()Z" } : Jvm.MethodName)) ∈ lw_all := lw_g (lw_at lw_m9 239 rfl) rfl
theorem q2295 : (Jvm.Cond.privateMethod ({ cls := "LongerHalfModel", name := "isFair", desc := "()Z" } : Jvm.MethodName)) ∈ lw_tbl := lw_at lw_m10 0 rfl
theorem q2296 : (Jvm.Cond.instanceMethod ({ cls := "LongerHalfModel", name := "isFair", desc := "()Z" } : Jvm.MethodName)) ∈ lw_all := lw_g (lw_at lw_m10 1 rfl) rfl
theorem q2297 : (Jvm.Cond.code ({ cls := "LongerHalfModel", name := "isFair", desc := "()Z" } : Jvm.MethodName) prog_20_method_94_code (4 : Nat) (Option.some Jvm.ClassFile.FieldType.boolean)) ∈ lw_all := lw_g (lw_at lw_m10 2 rfl) rfl
theorem q2298 : (Jvm.Cond.methodLink "LongerHalfModel" (523 : Nat) ({ cls := "LongerHalfModel", name := "counts", desc := "(II)V" } : Jvm.MethodName)) ∈ lw_all := lw_g (lw_at lw_m10 3 rfl) rfl
theorem q2299 : (Jvm.Cond.privateMethod ({ cls := "LongerHalfModel", name := "counts", desc := "(II)V" } : Jvm.MethodName)) ∈ lw_tbl := lw_at lw_m10 4 rfl
theorem q2300 : (Jvm.Cond.instanceMethod ({ cls := "LongerHalfModel", name := "counts", desc := "(II)V" } : Jvm.MethodName)) ∈ lw_all := lw_g (lw_at lw_m10 5 rfl) rfl
theorem q2301 : (Jvm.Cond.code ({ cls := "LongerHalfModel", name := "counts", desc := "(II)V" } : Jvm.MethodName) prog_20_method_96_code (3 : Nat) (Option.none : Option Jvm.ClassFile.FieldType)) ∈ lw_all := lw_g (lw_at lw_m10 6 rfl) rfl
theorem q2302 : (Jvm.Cond.methodLink "LongerHalfModel" (514 : Nat) ({ cls := "LongerHalfModel", name := "lesser", desc := "(I)I" } : Jvm.MethodName)) ∈ lw_all := lw_g (lw_at lw_m10 7 rfl) rfl
theorem q2303 : (Jvm.Cond.privateMethod ({ cls := "LongerHalfModel", name := "lesser", desc := "(I)I" } : Jvm.MethodName)) ∈ lw_tbl := lw_at lw_m10 8 rfl
theorem q2304 : (Jvm.Cond.instanceMethod ({ cls := "LongerHalfModel", name := "lesser", desc := "(I)I" } : Jvm.MethodName)) ∈ lw_all := lw_g (lw_at lw_m10 9 rfl) rfl
theorem q2305 : (Jvm.Cond.code ({ cls := "LongerHalfModel", name := "lesser", desc := "(I)I" } : Jvm.MethodName) prog_20_method_91_code (4 : Nat) (Option.some Jvm.ClassFile.FieldType.int)) ∈ lw_all := lw_g (lw_at lw_m10 10 rfl) rfl
theorem q2306 : (Jvm.Cond.methodLink "LongerHalfModel" (517 : Nat) ({ cls := "LongerHalfModel", name := "greater", desc := "(I)I" } : Jvm.MethodName)) ∈ lw_all := lw_g (lw_at lw_m10 11 rfl) rfl
theorem q2307 : (Jvm.Cond.privateMethod ({ cls := "LongerHalfModel", name := "greater", desc := "(I)I" } : Jvm.MethodName)) ∈ lw_tbl := lw_at lw_m10 12 rfl
theorem q2308 : (Jvm.Cond.instanceMethod ({ cls := "LongerHalfModel", name := "greater", desc := "(I)I" } : Jvm.MethodName)) ∈ lw_all := lw_g (lw_at lw_m10 13 rfl) rfl
theorem q2309 : (Jvm.Cond.code ({ cls := "LongerHalfModel", name := "greater", desc := "(I)I" } : Jvm.MethodName) prog_20_method_92_code (4 : Nat) (Option.some Jvm.ClassFile.FieldType.int)) ∈ lw_all := lw_g (lw_at lw_m10 14 rfl) rfl
theorem q2310 : (Jvm.Cond.methodLink "LongerHalfModel" (526 : Nat) ({ cls := "LongerHalfModel", name := "isIn", desc := "(II)Z" } : Jvm.MethodName)) ∈ lw_all := lw_g (lw_at lw_m10 15 rfl) rfl
theorem q2311 : (Jvm.Cond.privateMethod ({ cls := "LongerHalfModel", name := "isIn", desc := "(II)Z" } : Jvm.MethodName)) ∈ lw_tbl := lw_at lw_m10 16 rfl
theorem q2312 : (Jvm.Cond.instanceMethod ({ cls := "LongerHalfModel", name := "isIn", desc := "(II)Z" } : Jvm.MethodName)) ∈ lw_all := lw_g (lw_at lw_m10 17 rfl) rfl
theorem q2313 : (Jvm.Cond.code ({ cls := "LongerHalfModel", name := "isIn", desc := "(II)Z" } : Jvm.MethodName) prog_20_method_93_code (3 : Nat) (Option.some Jvm.ClassFile.FieldType.boolean)) ∈ lw_all := lw_g (lw_at lw_m10 18 rfl) rfl
theorem q2314 : (Jvm.Cond.methodLink "LongerHalfModel" (529 : Nat) ({ cls := "LongerHalfModel", name := "isLow", desc := "(I)Z" } : Jvm.MethodName)) ∈ lw_all := lw_g (lw_at lw_m10 19 rfl) rfl
theorem q2315 : (Jvm.Cond.privateMethod ({ cls := "LongerHalfModel", name := "isLow", desc := "(I)Z" } : Jvm.MethodName)) ∈ lw_tbl := lw_at lw_m10 20 rfl
theorem q2316 : (Jvm.Cond.instanceMethod ({ cls := "LongerHalfModel", name := "isLow", desc := "(I)Z" } : Jvm.MethodName)) ∈ lw_all := lw_g (lw_at lw_m10 21 rfl) rfl
theorem q2317 : (Jvm.Cond.code ({ cls := "LongerHalfModel", name := "isLow", desc := "(I)Z" } : Jvm.MethodName) prog_20_method_95_code (4 : Nat) (Option.some Jvm.ClassFile.FieldType.boolean)) ∈ lw_all := lw_g (lw_at lw_m10 22 rfl) rfl
theorem q2319 : (Jvm.Cond.instanceMethod ({ cls := "LongerHalfModel", name := "turnAt", desc := "(II)I" } : Jvm.MethodName)) ∈ lw_all := lw_g (lw_at lw_m10 24 rfl) rfl
theorem q2320 : (Jvm.Cond.selects "LongerHalfModel" ({ cls := "LongerHalfModel", name := "turnAt", desc := "(II)I" } : Jvm.MethodName) ({ cls := "LongerHalfModel", name := "turnAt", desc := "(II)I" } : Jvm.MethodName)) ∈ lw_all := lw_g (lw_at lw_m10 25 rfl) rfl
theorem q2321 : (Jvm.Cond.code ({ cls := "LongerHalfModel", name := "turnAt", desc := "(II)I" } : Jvm.MethodName) prog_20_method_100_code (4 : Nat) (Option.some Jvm.ClassFile.FieldType.int)) ∈ lw_all := lw_g (lw_at lw_m10 26 rfl) rfl
theorem q2323 : (Jvm.Cond.instanceMethod ({ cls := "LongerHalfModel", name := "hand", desc := "(IZ)J" } : Jvm.MethodName)) ∈ lw_all := lw_g (lw_at lw_m10 28 rfl) rfl
theorem q2324 : (Jvm.Cond.selects "LongerHalfModel" ({ cls := "LongerHalfModel", name := "hand", desc := "(IZ)J" } : Jvm.MethodName) ({ cls := "LongerHalfModel", name := "hand", desc := "(IZ)J" } : Jvm.MethodName)) ∈ lw_all := lw_g (lw_at lw_m10 29 rfl) rfl
theorem q2325 : (Jvm.Cond.code ({ cls := "LongerHalfModel", name := "hand", desc := "(IZ)J" } : Jvm.MethodName) prog_20_method_102_code (3 : Nat) (Option.some Jvm.ClassFile.FieldType.long)) ∈ lw_all := lw_g (lw_at lw_m10 30 rfl) rfl
theorem q2326 : (Jvm.Cond.methodLink "LongerHalfModel" (538 : Nat) ({ cls := "LongerHalfModel", name := "rowsOf", desc := "(II)J" } : Jvm.MethodName)) ∈ lw_all := lw_g (lw_at lw_m10 31 rfl) rfl
theorem q2327 : (Jvm.Cond.static ({ cls := "LongerHalfModel", name := "rowsOf", desc := "(II)J" } : Jvm.MethodName)) ∈ lw_all := lw_g (lw_at lw_m10 32 rfl) rfl
theorem q2328 : (Jvm.Cond.code ({ cls := "LongerHalfModel", name := "rowsOf", desc := "(II)J" } : Jvm.MethodName) prog_20_method_101_code (7 : Nat) (Option.some Jvm.ClassFile.FieldType.long)) ∈ lw_all := lw_g (lw_at lw_m10 33 rfl) rfl
theorem q2330 : (Jvm.Cond.instanceMethod ({ cls := "LongerHalfModel", name := "side", desc := "(Z)J" } : Jvm.MethodName)) ∈ lw_all := lw_g (lw_at lw_m10 35 rfl) rfl
theorem q2331 : (Jvm.Cond.selects "LongerHalfModel" ({ cls := "LongerHalfModel", name := "side", desc := "(Z)J" } : Jvm.MethodName) ({ cls := "LongerHalfModel", name := "side", desc := "(Z)J" } : Jvm.MethodName)) ∈ lw_all := lw_g (lw_at lw_m10 36 rfl) rfl
theorem q2332 : (Jvm.Cond.code ({ cls := "LongerHalfModel", name := "side", desc := "(Z)J" } : Jvm.MethodName) prog_20_method_103_code (4 : Nat) (Option.some Jvm.ClassFile.FieldType.long)) ∈ lw_all := lw_g (lw_at lw_m10 37 rfl) rfl
theorem q2334 : (Jvm.Cond.instanceMethod ({ cls := "LongerHalfModel", name := "known", desc := "()I" } : Jvm.MethodName)) ∈ lw_all := lw_g (lw_at lw_m10 39 rfl) rfl
theorem q2335 : (Jvm.Cond.selects "LongerHalfModel" ({ cls := "LongerHalfModel", name := "known", desc := "()I" } : Jvm.MethodName) ({ cls := "LongerHalfModel", name := "known", desc := "()I" } : Jvm.MethodName)) ∈ lw_all := lw_g (lw_at lw_m10 40 rfl) rfl
theorem q2336 : (Jvm.Cond.code ({ cls := "LongerHalfModel", name := "known", desc := "()I" } : Jvm.MethodName) prog_20_method_104_code (3 : Nat) (Option.some Jvm.ClassFile.FieldType.int)) ∈ lw_all := lw_g (lw_at lw_m10 41 rfl) rfl
theorem q2337 : (Jvm.Cond.constantLong "LongerHalfModel" (542 : Nat) (20 : Int64)) ∈ lw_all := lw_g (lw_at lw_m10 42 rfl) rfl
theorem q2339 : (Jvm.Cond.instanceMethod ({ cls := "LongerHalfModel", name := "hens", desc := "(I)I" } : Jvm.MethodName)) ∈ lw_all := lw_g (lw_at lw_m10 44 rfl) rfl
theorem q2340 : (Jvm.Cond.selects "LongerHalfModel" ({ cls := "LongerHalfModel", name := "hens", desc := "(I)I" } : Jvm.MethodName) ({ cls := "LongerHalfModel", name := "hens", desc := "(I)I" } : Jvm.MethodName)) ∈ lw_all := lw_g (lw_at lw_m10 45 rfl) rfl
theorem q2341 : (Jvm.Cond.code ({ cls := "LongerHalfModel", name := "hens", desc := "(I)I" } : Jvm.MethodName) prog_20_method_105_code (3 : Nat) (Option.some Jvm.ClassFile.FieldType.int)) ∈ lw_all := lw_g (lw_at lw_m10 46 rfl) rfl
theorem q2342 : (Jvm.Cond.constant "LongerHalfModel" (544 : Nat) (1000000 : Int32)) ∈ lw_all := lw_g (lw_at lw_m10 47 rfl) rfl
theorem q2344 : (Jvm.Cond.instanceMethod ({ cls := "LongerHalfModel", name := "thumbs", desc := "(IZ)J" } : Jvm.MethodName)) ∈ lw_all := lw_g (lw_at lw_m10 49 rfl) rfl
theorem q2345 : (Jvm.Cond.selects "LongerHalfModel" ({ cls := "LongerHalfModel", name := "thumbs", desc := "(IZ)J" } : Jvm.MethodName) ({ cls := "LongerHalfModel", name := "thumbs", desc := "(IZ)J" } : Jvm.MethodName)) ∈ lw_all := lw_g (lw_at lw_m10 50 rfl) rfl
theorem q2346 : (Jvm.Cond.code ({ cls := "LongerHalfModel", name := "thumbs", desc := "(IZ)J" } : Jvm.MethodName) prog_20_method_107_code (9 : Nat) (Option.some Jvm.ClassFile.FieldType.long)) ∈ lw_all := lw_g (lw_at lw_m10 51 rfl) rfl
theorem q2347 : (Jvm.Cond.methodLink "LongerHalfModel" (545 : Nat) ({ cls := "LongerHalfModel", name := "byTenths", desc := "(III)J" } : Jvm.MethodName)) ∈ lw_all := lw_g (lw_at lw_m10 52 rfl) rfl
theorem q2348 : (Jvm.Cond.privateMethod ({ cls := "LongerHalfModel", name := "byTenths", desc := "(III)J" } : Jvm.MethodName)) ∈ lw_tbl := lw_at lw_m10 53 rfl
theorem q2349 : (Jvm.Cond.instanceMethod ({ cls := "LongerHalfModel", name := "byTenths", desc := "(III)J" } : Jvm.MethodName)) ∈ lw_all := lw_g (lw_at lw_m10 54 rfl) rfl
theorem q2350 : (Jvm.Cond.code ({ cls := "LongerHalfModel", name := "byTenths", desc := "(III)J" } : Jvm.MethodName) prog_20_method_106_code (7 : Nat) (Option.some Jvm.ClassFile.FieldType.long)) ∈ lw_all := lw_g (lw_at lw_m10 55 rfl) rfl
theorem q2352 : (Jvm.Cond.instanceMethod ({ cls := "LongerHalfModel", name := "let", desc := "(II)I" } : Jvm.MethodName)) ∈ lw_all := lw_g (lw_at lw_m10 57 rfl) rfl
theorem q2353 : (Jvm.Cond.selects "LongerHalfModel" ({ cls := "LongerHalfModel", name := "let", desc := "(II)I" } : Jvm.MethodName) ({ cls := "LongerHalfModel", name := "let", desc := "(II)I" } : Jvm.MethodName)) ∈ lw_all := lw_g (lw_at lw_m10 58 rfl) rfl
theorem q2354 : (Jvm.Cond.code ({ cls := "LongerHalfModel", name := "let", desc := "(II)I" } : Jvm.MethodName) prog_20_method_109_code (5 : Nat) (Option.some Jvm.ClassFile.FieldType.int)) ∈ lw_all := lw_g (lw_at lw_m10 59 rfl) rfl
theorem q2355 : (Jvm.Cond.methodLink "LongerHalfModel" (549 : Nat) ({ cls := "LongerHalfModel", name := "worthOf", desc := "(I)I" } : Jvm.MethodName)) ∈ lw_all := lw_g (lw_at lw_m10 60 rfl) rfl
theorem q2356 : (Jvm.Cond.privateMethod ({ cls := "LongerHalfModel", name := "worthOf", desc := "(I)I" } : Jvm.MethodName)) ∈ lw_tbl := lw_at lw_m10 61 rfl
theorem q2357 : (Jvm.Cond.instanceMethod ({ cls := "LongerHalfModel", name := "worthOf", desc := "(I)I" } : Jvm.MethodName)) ∈ lw_all := lw_g (lw_at lw_m10 62 rfl) rfl
theorem q2358 : (Jvm.Cond.code ({ cls := "LongerHalfModel", name := "worthOf", desc := "(I)I" } : Jvm.MethodName) prog_20_method_108_code (2 : Nat) (Option.some Jvm.ClassFile.FieldType.int)) ∈ lw_all := lw_g (lw_at lw_m10 63 rfl) rfl
theorem q2360 : (Jvm.Cond.instanceMethod ({ cls := "LongerHalfModel", name := "worth", desc := "(I)I" } : Jvm.MethodName)) ∈ lw_all := lw_g (lw_at lw_m10 65 rfl) rfl
theorem q2361 : (Jvm.Cond.selects "LongerHalfModel" ({ cls := "LongerHalfModel", name := "worth", desc := "(I)I" } : Jvm.MethodName) ({ cls := "LongerHalfModel", name := "worth", desc := "(I)I" } : Jvm.MethodName)) ∈ lw_all := lw_g (lw_at lw_m10 66 rfl) rfl
theorem q2362 : (Jvm.Cond.code ({ cls := "LongerHalfModel", name := "worth", desc := "(I)I" } : Jvm.MethodName) prog_20_method_110_code (2 : Nat) (Option.some Jvm.ClassFile.FieldType.int)) ∈ lw_all := lw_g (lw_at lw_m10 67 rfl) rfl
theorem q2364 : (Jvm.Cond.instanceMethod ({ cls := "LongerHalfModel", name := "knob", desc := "(I)I" } : Jvm.MethodName)) ∈ lw_all := lw_g (lw_at lw_m10 69 rfl) rfl
theorem q2365 : (Jvm.Cond.selects "LongerHalfModel" ({ cls := "LongerHalfModel", name := "knob", desc := "(I)I" } : Jvm.MethodName) ({ cls := "LongerHalfModel", name := "knob", desc := "(I)I" } : Jvm.MethodName)) ∈ lw_all := lw_g (lw_at lw_m10 70 rfl) rfl
theorem q2366 : (Jvm.Cond.code ({ cls := "LongerHalfModel", name := "knob", desc := "(I)I" } : Jvm.MethodName) prog_20_method_113_code (2 : Nat) (Option.some Jvm.ClassFile.FieldType.int)) ∈ lw_all := lw_g (lw_at lw_m10 71 rfl) rfl
theorem q2367 : (Jvm.Cond.methodLink "LongerHalfModel" (555 : Nat) ({ cls := "LongerHalfModel", name := "isPiece", desc := "(I)Z" } : Jvm.MethodName)) ∈ lw_all := lw_g (lw_at lw_m10 72 rfl) rfl
theorem q2368 : (Jvm.Cond.privateMethod ({ cls := "LongerHalfModel", name := "isPiece", desc := "(I)Z" } : Jvm.MethodName)) ∈ lw_tbl := lw_at lw_m10 73 rfl
theorem q2369 : (Jvm.Cond.instanceMethod ({ cls := "LongerHalfModel", name := "isPiece", desc := "(I)Z" } : Jvm.MethodName)) ∈ lw_all := lw_g (lw_at lw_m10 74 rfl) rfl
theorem q2370 : (Jvm.Cond.code ({ cls := "LongerHalfModel", name := "isPiece", desc := "(I)Z" } : Jvm.MethodName) prog_20_method_112_code (2 : Nat) (Option.some Jvm.ClassFile.FieldType.boolean)) ∈ lw_all := lw_g (lw_at lw_m10 75 rfl) rfl
theorem q2371 : (Jvm.Cond.methodLink "LongerHalfModel" (558 : Nat) ({ cls := "LongerHalfModel", name := "knobs", desc := "(I)I" } : Jvm.MethodName)) ∈ lw_all := lw_g (lw_at lw_m10 76 rfl) rfl
theorem q2372 : (Jvm.Cond.privateMethod ({ cls := "LongerHalfModel", name := "knobs", desc := "(I)I" } : Jvm.MethodName)) ∈ lw_tbl := lw_at lw_m10 77 rfl
theorem q2373 : (Jvm.Cond.instanceMethod ({ cls := "LongerHalfModel", name := "knobs", desc := "(I)I" } : Jvm.MethodName)) ∈ lw_all := lw_g (lw_at lw_m10 78 rfl) rfl
theorem q2374 : (Jvm.Cond.code ({ cls := "LongerHalfModel", name := "knobs", desc := "(I)I" } : Jvm.MethodName) prog_20_method_111_code (7 : Nat) (Option.some Jvm.ClassFile.FieldType.int)) ∈ lw_all := lw_g (lw_at lw_m10 79 rfl) rfl
theorem q2376 : (Jvm.Cond.instanceMethod ({ cls := "LongerHalfModel", name := "owners", desc := "(I)I" } : Jvm.MethodName)) ∈ lw_all := lw_g (lw_at lw_m10 81 rfl) rfl
theorem q2377 : (Jvm.Cond.selects "LongerHalfModel" ({ cls := "LongerHalfModel", name := "owners", desc := "(I)I" } : Jvm.MethodName) ({ cls := "LongerHalfModel", name := "owners", desc := "(I)I" } : Jvm.MethodName)) ∈ lw_all := lw_g (lw_at lw_m10 82 rfl) rfl
theorem q2378 : (Jvm.Cond.code ({ cls := "LongerHalfModel", name := "owners", desc := "(I)I" } : Jvm.MethodName) prog_20_method_114_code (2 : Nat) (Option.some Jvm.ClassFile.FieldType.int)) ∈ lw_all := lw_g (lw_at lw_m10 83 rfl) rfl
theorem q2380 : (Jvm.Cond.instanceMethod ({ cls := "LongerHalfModel", name := "wins", desc := "(III)I" } : Jvm.MethodName)) ∈ lw_all := lw_g (lw_at lw_m10 85 rfl) rfl
theorem q2381 : (Jvm.Cond.selects "LongerHalfModel" ({ cls := "LongerHalfModel", name := "wins", desc := "(III)I" } : Jvm.MethodName) ({ cls := "LongerHalfModel", name := "wins", desc := "(III)I" } : Jvm.MethodName)) ∈ lw_all := lw_g (lw_at lw_m10 86 rfl) rfl
theorem q2382 : (Jvm.Cond.code ({ cls := "LongerHalfModel", name := "wins", desc := "(III)I" } : Jvm.MethodName) prog_20_method_119_code (5 : Nat) (Option.some Jvm.ClassFile.FieldType.int)) ∈ lw_all := lw_g (lw_at lw_m10 87 rfl) rfl
theorem q2383 : (Jvm.Cond.methodLink "LongerHalfModel" (583 : Nat) ({ cls := "LongerHalfModel", name := "refusesYear", desc := "(ZII)I" } : Jvm.MethodName)) ∈ lw_all := lw_g (lw_at lw_m10 88 rfl) rfl
theorem q2384 : (Jvm.Cond.privateMethod ({ cls := "LongerHalfModel", name := "refusesYear", desc := "(ZII)I" } : Jvm.MethodName)) ∈ lw_tbl := lw_at lw_m10 89 rfl
theorem q2385 : (Jvm.Cond.instanceMethod ({ cls := "LongerHalfModel", name := "refusesYear", desc := "(ZII)I" } : Jvm.MethodName)) ∈ lw_all := lw_g (lw_at lw_m10 90 rfl) rfl
theorem q2386 : (Jvm.Cond.code ({ cls := "LongerHalfModel", name := "refusesYear", desc := "(ZII)I" } : Jvm.MethodName) prog_20_method_118_code (4 : Nat) (Option.some Jvm.ClassFile.FieldType.int)) ∈ lw_all := lw_g (lw_at lw_m10 91 rfl) rfl
theorem q2387 : (Jvm.Cond.constant "LongerHalfModel" (582 : Nat) (65536 : Int32)) ∈ lw_all := lw_g (lw_at lw_m10 92 rfl) rfl
theorem q2388 : (Jvm.Cond.methodLink "LongerHalfModel" (587 : Nat) ({ cls := "LongerHalfModel", name := "year", desc := "(II)V" } : Jvm.MethodName)) ∈ lw_all := lw_g (lw_at lw_m10 93 rfl) rfl
theorem q2389 : (Jvm.Cond.privateMethod ({ cls := "LongerHalfModel", name := "year", desc := "(II)V" } : Jvm.MethodName)) ∈ lw_tbl := lw_at lw_m10 94 rfl
theorem q2390 : (Jvm.Cond.instanceMethod ({ cls := "LongerHalfModel", name := "year", desc := "(II)V" } : Jvm.MethodName)) ∈ lw_all := lw_g (lw_at lw_m10 95 rfl) rfl
theorem q2391 : (Jvm.Cond.code ({ cls := "LongerHalfModel", name := "year", desc := "(II)V" } : Jvm.MethodName) prog_20_method_117_code (8 : Nat) (Option.none : Option Jvm.ClassFile.FieldType)) ∈ lw_all := lw_g (lw_at lw_m10 96 rfl) rfl
theorem q2392 : (Jvm.Cond.methodLink "LongerHalfModel" (570 : Nat) ({ cls := "LongerHalfModel", name := "drawn", desc := "(I)I" } : Jvm.MethodName)) ∈ lw_all := lw_g (lw_at lw_m10 97 rfl) rfl
theorem q2393 : (Jvm.Cond.privateMethod ({ cls := "LongerHalfModel", name := "drawn", desc := "(I)I" } : Jvm.MethodName)) ∈ lw_tbl := lw_at lw_m10 98 rfl
theorem q2394 : (Jvm.Cond.instanceMethod ({ cls := "LongerHalfModel", name := "drawn", desc := "(I)I" } : Jvm.MethodName)) ∈ lw_all := lw_g (lw_at lw_m10 99 rfl) rfl
theorem q2395 : (Jvm.Cond.code ({ cls := "LongerHalfModel", name := "drawn", desc := "(I)I" } : Jvm.MethodName) prog_20_method_115_code (2 : Nat) (Option.some Jvm.ClassFile.FieldType.int)) ∈ lw_all := lw_g (lw_at lw_m10 100 rfl) rfl
theorem q2396 : (Jvm.Cond.constantLong "LongerHalfModel" (561 : Nat) (75 : Int64)) ∈ lw_all := lw_g (lw_at lw_m10 101 rfl) rfl
theorem q2397 : (Jvm.Cond.constantLong "LongerHalfModel" (566 : Nat) (74 : Int64)) ∈ lw_all := lw_g (lw_at lw_m10 102 rfl) rfl
theorem q2398 : (Jvm.Cond.constantLong "LongerHalfModel" (568 : Nat) (65537 : Int64)) ∈ lw_all := lw_g (lw_at lw_m10 103 rfl) rfl
theorem q2399 : (Jvm.Cond.methodLink "LongerHalfModel" (579 : Nat) ({ cls := "LongerHalfModel", name := "flawsByDraws", desc := "()V" } : Jvm.MethodName)) ∈ lw_all := lw_g (lw_at lw_m10 104 rfl) rfl
theorem q2400 : (Jvm.Cond.privateMethod ({ cls := "LongerHalfModel", name := "flawsByDraws", desc := "()V" } : Jvm.MethodName)) ∈ lw_tbl := lw_at lw_m10 105 rfl
theorem q2401 : (Jvm.Cond.instanceMethod ({ cls := "LongerHalfModel", name := "flawsByDraws", desc := "()V" } : Jvm.MethodName)) ∈ lw_all := lw_g (lw_at lw_m10 106 rfl) rfl
theorem q2402 : (Jvm.Cond.code ({ cls := "LongerHalfModel", name := "flawsByDraws", desc := "()V" } : Jvm.MethodName) prog_20_method_116_code (1 : Nat) (Option.none : Option Jvm.ClassFile.FieldType)) ∈ lw_all := lw_g (lw_at lw_m10 107 rfl) rfl
theorem q2404 : (Jvm.Cond.instanceMethod ({ cls := "LongerHalfModel", name := "spoilt", desc := "(IIZ)I" } : Jvm.MethodName)) ∈ lw_all := lw_g (lw_at lw_m10 109 rfl) rfl
theorem q2405 : (Jvm.Cond.selects "LongerHalfModel" ({ cls := "LongerHalfModel", name := "spoilt", desc := "(IIZ)I" } : Jvm.MethodName) ({ cls := "LongerHalfModel", name := "spoilt", desc := "(IIZ)I" } : Jvm.MethodName)) ∈ lw_all := lw_g (lw_at lw_m10 110 rfl) rfl
theorem q2406 : (Jvm.Cond.code ({ cls := "LongerHalfModel", name := "spoilt", desc := "(IIZ)I" } : Jvm.MethodName) prog_20_method_120_code (5 : Nat) (Option.some Jvm.ClassFile.FieldType.int)) ∈ lw_all := lw_g (lw_at lw_m10 111 rfl) rfl
theorem q2408 : (Jvm.Cond.instanceMethod ({ cls := "LongerHalfModel", name := "dry", desc := "(I)Z" } : Jvm.MethodName)) ∈ lw_all := lw_g (lw_at lw_m10 113 rfl) rfl
theorem q2409 : (Jvm.Cond.selects "LongerHalfModel" ({ cls := "LongerHalfModel", name := "dry", desc := "(I)Z" } : Jvm.MethodName) ({ cls := "LongerHalfModel", name := "dry", desc := "(I)Z" } : Jvm.MethodName)) ∈ lw_all := lw_g (lw_at lw_m10 114 rfl) rfl
theorem q2410 : (Jvm.Cond.code ({ cls := "LongerHalfModel", name := "dry", desc := "(I)Z" } : Jvm.MethodName) prog_20_method_122_code (3 : Nat) (Option.some Jvm.ClassFile.FieldType.boolean)) ∈ lw_all := lw_g (lw_at lw_m10 115 rfl) rfl
theorem q2411 : (Jvm.Cond.methodLink "LongerHalfModel" (590 : Nat) ({ cls := "LongerHalfModel", name := "denied", desc := "(I)Z" } : Jvm.MethodName)) ∈ lw_all := lw_g (lw_at lw_m10 116 rfl) rfl
theorem q2412 : (Jvm.Cond.privateMethod ({ cls := "LongerHalfModel", name := "denied", desc := "(I)Z" } : Jvm.MethodName)) ∈ lw_tbl := lw_at lw_m10 117 rfl
theorem q2413 : (Jvm.Cond.instanceMethod ({ cls := "LongerHalfModel", name := "denied", desc := "(I)Z" } : Jvm.MethodName)) ∈ lw_all := lw_g (lw_at lw_m10 118 rfl) rfl
theorem q2414 : (Jvm.Cond.code ({ cls := "LongerHalfModel", name := "denied", desc := "(I)Z" } : Jvm.MethodName) prog_20_method_4_code (2 : Nat) (Option.some Jvm.ClassFile.FieldType.boolean)) ∈ lw_all := lw_g (lw_at lw_m10 119 rfl) rfl
theorem q2415 : (Jvm.Cond.methodLink "LongerHalfModel" (593 : Nat) ({ cls := "LongerHalfModel", name := "keeps", desc := "()V" } : Jvm.MethodName)) ∈ lw_all := lw_g (lw_at lw_m10 120 rfl) rfl
theorem q2416 : (Jvm.Cond.privateMethod ({ cls := "LongerHalfModel", name := "keeps", desc := "()V" } : Jvm.MethodName)) ∈ lw_tbl := lw_at lw_m10 121 rfl
theorem q2417 : (Jvm.Cond.instanceMethod ({ cls := "LongerHalfModel", name := "keeps", desc := "()V" } : Jvm.MethodName)) ∈ lw_all := lw_g (lw_at lw_m10 122 rfl) rfl
theorem q2418 : (Jvm.Cond.code ({ cls := "LongerHalfModel", name := "keeps", desc := "()V" } : Jvm.MethodName) prog_20_method_121_code (2 : Nat) (Option.none : Option Jvm.ClassFile.FieldType)) ∈ lw_all := lw_g (lw_at lw_m10 123 rfl) rfl
theorem q2419 : (Jvm.Cond.methodLink "LongerHalfModel" (596 : Nat) ({ cls := "LongerHalfModel", name := "granted", desc := "()Z" } : Jvm.MethodName)) ∈ lw_all := lw_g (lw_at lw_m10 124 rfl) rfl
theorem q2420 : (Jvm.Cond.privateMethod ({ cls := "LongerHalfModel", name := "granted", desc := "()Z" } : Jvm.MethodName)) ∈ lw_tbl := lw_at lw_m10 125 rfl
theorem q2421 : (Jvm.Cond.instanceMethod ({ cls := "LongerHalfModel", name := "granted", desc := "()Z" } : Jvm.MethodName)) ∈ lw_all := lw_g (lw_at lw_m10 126 rfl) rfl
theorem q2422 : (Jvm.Cond.code ({ cls := "LongerHalfModel", name := "granted", desc := "()Z" } : Jvm.MethodName) prog_20_method_6_code (1 : Nat) (Option.some Jvm.ClassFile.FieldType.boolean)) ∈ lw_all := lw_g (lw_at lw_m10 127 rfl) rfl
theorem q2424 : (Jvm.Cond.instanceMethod ({ cls := "LongerHalfModel", name := "boil", desc := "(I)Z" } : Jvm.MethodName)) ∈ lw_all := lw_g (lw_at lw_m10 129 rfl) rfl
theorem q2425 : (Jvm.Cond.selects "LongerHalfModel" ({ cls := "LongerHalfModel", name := "boil", desc := "(I)Z" } : Jvm.MethodName) ({ cls := "LongerHalfModel", name := "boil", desc := "(I)Z" } : Jvm.MethodName)) ∈ lw_all := lw_g (lw_at lw_m10 130 rfl) rfl
theorem q2426 : (Jvm.Cond.code ({ cls := "LongerHalfModel", name := "boil", desc := "(I)Z" } : Jvm.MethodName) prog_20_method_123_code (2 : Nat) (Option.some Jvm.ClassFile.FieldType.boolean)) ∈ lw_all := lw_g (lw_at lw_m10 131 rfl) rfl
theorem q2428 : (Jvm.Cond.instanceMethod ({ cls := "LongerHalfModel", name := "pull", desc := "(IIIIII)I" } : Jvm.MethodName)) ∈ lw_all := lw_g (lw_at lw_m10 133 rfl) rfl
theorem q2429 : (Jvm.Cond.selects "LongerHalfModel" ({ cls := "LongerHalfModel", name := "pull", desc := "(IIIIII)I" } : Jvm.MethodName) ({ cls := "LongerHalfModel", name := "pull", desc := "(IIIIII)I" } : Jvm.MethodName)) ∈ lw_all := lw_g (lw_at lw_m10 134 rfl) rfl
theorem q2430 : (Jvm.Cond.code ({ cls := "LongerHalfModel", name := "pull", desc := "(IIIIII)I" } : Jvm.MethodName) prog_20_method_124_code (9 : Nat) (Option.some Jvm.ClassFile.FieldType.int)) ∈ lw_all := lw_g (lw_at lw_m10 135 rfl) rfl
theorem q2432 : (Jvm.Cond.instanceMethod ({ cls := "LongerHalfModel", name := "seed", desc := "(I)Z" } : Jvm.MethodName)) ∈ lw_all := lw_g (lw_at lw_m10 137 rfl) rfl
theorem q2433 : (Jvm.Cond.selects "LongerHalfModel" ({ cls := "LongerHalfModel", name := "seed", desc := "(I)Z" } : Jvm.MethodName) ({ cls := "LongerHalfModel", name := "seed", desc := "(I)Z" } : Jvm.MethodName)) ∈ lw_all := lw_g (lw_at lw_m10 138 rfl) rfl
theorem q2434 : (Jvm.Cond.code ({ cls := "LongerHalfModel", name := "seed", desc := "(I)Z" } : Jvm.MethodName) prog_20_method_125_code (2 : Nat) (Option.some Jvm.ClassFile.FieldType.boolean)) ∈ lw_all := lw_g (lw_at lw_m10 139 rfl) rfl
theorem q2436 : (Jvm.Cond.instanceMethod ({ cls := "LongerHalfModel", name := "undo", desc := "()Z" } : Jvm.MethodName)) ∈ lw_all := lw_g (lw_at lw_m10 141 rfl) rfl
theorem q2437 : (Jvm.Cond.selects "LongerHalfModel" ({ cls := "LongerHalfModel", name := "undo", desc := "()Z" } : Jvm.MethodName) ({ cls := "LongerHalfModel", name := "undo", desc := "()Z" } : Jvm.MethodName)) ∈ lw_all := lw_g (lw_at lw_m10 142 rfl) rfl
theorem q2438 : (Jvm.Cond.code ({ cls := "LongerHalfModel", name := "undo", desc := "()Z" } : Jvm.MethodName) prog_20_method_126_code (2 : Nat) (Option.some Jvm.ClassFile.FieldType.boolean)) ∈ lw_all := lw_g (lw_at lw_m10 143 rfl) rfl
theorem q2440 : (Jvm.Cond.instanceMethod ({ cls := "LongerHalfModel", name := "mark", desc := "()I" } : Jvm.MethodName)) ∈ lw_all := lw_g (lw_at lw_m10 145 rfl) rfl
theorem q2441 : (Jvm.Cond.selects "LongerHalfModel" ({ cls := "LongerHalfModel", name := "mark", desc := "()I" } : Jvm.MethodName) ({ cls := "LongerHalfModel", name := "mark", desc := "()I" } : Jvm.MethodName)) ∈ lw_all := lw_g (lw_at lw_m10 146 rfl) rfl
theorem q2442 : (Jvm.Cond.code ({ cls := "LongerHalfModel", name := "mark", desc := "()I" } : Jvm.MethodName) prog_20_method_127_code (2 : Nat) (Option.some Jvm.ClassFile.FieldType.int)) ∈ lw_all := lw_g (lw_at lw_m10 147 rfl) rfl
theorem q2444 : (Jvm.Cond.instanceMethod ({ cls := "LongerHalfModel", name := "back", desc := "(I)Z" } : Jvm.MethodName)) ∈ lw_all := lw_g (lw_at lw_m10 149 rfl) rfl
theorem q2445 : (Jvm.Cond.selects "LongerHalfModel" ({ cls := "LongerHalfModel", name := "back", desc := "(I)Z" } : Jvm.MethodName) ({ cls := "LongerHalfModel", name := "back", desc := "(I)Z" } : Jvm.MethodName)) ∈ lw_all := lw_g (lw_at lw_m10 150 rfl) rfl
theorem q2446 : (Jvm.Cond.code ({ cls := "LongerHalfModel", name := "back", desc := "(I)Z" } : Jvm.MethodName) prog_20_method_128_code (3 : Nat) (Option.some Jvm.ClassFile.FieldType.boolean)) ∈ lw_all := lw_g (lw_at lw_m10 151 rfl) rfl
theorem q2448 : (Jvm.Cond.instanceMethod ({ cls := "LongerHalfModel", name := "led", desc := "(I)I" } : Jvm.MethodName)) ∈ lw_all := lw_g (lw_at lw_m10 153 rfl) rfl
theorem q2449 : (Jvm.Cond.selects "LongerHalfModel" ({ cls := "LongerHalfModel", name := "led", desc := "(I)I" } : Jvm.MethodName) ({ cls := "LongerHalfModel", name := "led", desc := "(I)I" } : Jvm.MethodName)) ∈ lw_all := lw_g (lw_at lw_m10 154 rfl) rfl
theorem q2450 : (Jvm.Cond.code ({ cls := "LongerHalfModel", name := "led", desc := "(I)I" } : Jvm.MethodName) prog_20_method_129_code (4 : Nat) (Option.some Jvm.ClassFile.FieldType.int)) ∈ lw_all := lw_g (lw_at lw_m10 155 rfl) rfl
theorem q2452 : (Jvm.Cond.instanceMethod ({ cls := "LongerHalfModel", name := "size", desc := "(I)I" } : Jvm.MethodName)) ∈ lw_all := lw_g (lw_at lw_m10 157 rfl) rfl
theorem q2453 : (Jvm.Cond.selects "LongerHalfModel" ({ cls := "LongerHalfModel", name := "size", desc := "(I)I" } : Jvm.MethodName) ({ cls := "LongerHalfModel", name := "size", desc := "(I)I" } : Jvm.MethodName)) ∈ lw_all := lw_g (lw_at lw_m10 158 rfl) rfl
theorem q2454 : (Jvm.Cond.code ({ cls := "LongerHalfModel", name := "size", desc := "(I)I" } : Jvm.MethodName) prog_20_method_130_code (2 : Nat) (Option.some Jvm.ClassFile.FieldType.int)) ∈ lw_all := lw_g (lw_at lw_m10 159 rfl) rfl
theorem q2456 : (Jvm.Cond.instanceMethod ({ cls := "LongerHalfModel", name := "trouble", desc := "()I" } : Jvm.MethodName)) ∈ lw_all := lw_g (lw_at lw_m10 161 rfl) rfl
theorem q2457 : (Jvm.Cond.selects "LongerHalfModel" ({ cls := "LongerHalfModel", name := "trouble", desc := "()I" } : Jvm.MethodName) ({ cls := "LongerHalfModel", name := "trouble", desc := "()I" } : Jvm.MethodName)) ∈ lw_all := lw_g (lw_at lw_m10 162 rfl) rfl
theorem q2458 : (Jvm.Cond.code ({ cls := "LongerHalfModel", name := "trouble", desc := "()I" } : Jvm.MethodName) prog_20_method_131_code (1 : Nat) (Option.some Jvm.ClassFile.FieldType.int)) ∈ lw_all := lw_g (lw_at lw_m10 163 rfl) rfl
theorem q2471 : (Jvm.Cond.castable "LongerHalfModel" "java/lang/Object") ∈ lw_tbl := lw_at lw_m10 176 rfl
theorem in_X8 : ∀ w ∈ wsX80, w ∈ lw_all := lw_in wsX80 [1657, 1659, 1661, 1663, 1665, 1667, 1669, 1671, 1673, 1675, 1677, 1679, 1681, 1683, 1685, 1687, 1689, 1691, 1693, 1695, 1697, 1699, 1701, 1703, 1705, 1707, 1709, 1711, 1713, 1715, 1717, 1719, 1721, 1723, 1725, 1727, 1729, 1731, 1733] (by decide +kernel) (by decide +kernel)

