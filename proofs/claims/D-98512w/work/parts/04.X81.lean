set_option maxRecDepth 100000
abbrev cX8_good : ByteArray := prog_20_method_5_code
def yX8_good : MethodName := ⟨RX8, "good", "(I)I"⟩
def dkwX8_good_0 : List UInt8 := [42, 3, 181, 0, 56, 42, 2, 181, 0, 9, 27, 172]
abbrev dktX8_good_0 : List UInt8 := dkwX8_good_0 ++ []
theorem dksX8_good_0 : cX8_good.data.toList.drop 0 = dktX8_good_0 := by decide +kernel
theorem dX8_good_0 : decode cX8_good 0 = .ok (.aload_n 0, 1) := dk_42 (dk_at dksX8_good_0 0 rfl rfl)
theorem dX8_good_1 : decode cX8_good 1 = .ok (.iconst 0, 1) := dk_3 (dk_at dksX8_good_0 1 rfl rfl)
theorem dX8_good_2 : decode cX8_good 2 = .ok (.putfield 56, 3) := dk_181 0 56 (dk_at dksX8_good_0 2 rfl rfl)
theorem dX8_good_5 : decode cX8_good 5 = .ok (.aload_n 0, 1) := dk_42 (dk_at dksX8_good_0 5 rfl rfl)
theorem dX8_good_6 : decode cX8_good 6 = .ok (.iconst (-1), 1) := dk_2 (dk_at dksX8_good_0 6 rfl rfl)
theorem dX8_good_7 : decode cX8_good 7 = .ok (.putfield 9, 3) := dk_181 0 9 (dk_at dksX8_good_0 7 rfl rfl)
theorem dX8_good_10 : decode cX8_good 10 = .ok (.iload_n 1, 1) := dk_27 (dk_at dksX8_good_0 10 rfl rfl)
theorem dX8_good_11 : decode cX8_good 11 = .ok (.ireturn, 1) := dk_172 (dk_at dksX8_good_0 11 rfl rfl)
abbrev cX8_fault : ByteArray := prog_20_method_43_code
def yX8_fault : MethodName := ⟨RX8, "fault", "()I"⟩
def dkwX8_fault_0 : List UInt8 := [42, 3, 181, 0, 53, 42, 180, 0, 114, 172]
abbrev dktX8_fault_0 : List UInt8 := dkwX8_fault_0 ++ []
theorem dksX8_fault_0 : cX8_fault.data.toList.drop 0 = dktX8_fault_0 := by decide +kernel
theorem dX8_fault_0 : decode cX8_fault 0 = .ok (.aload_n 0, 1) := dk_42 (dk_at dksX8_fault_0 0 rfl rfl)
theorem dX8_fault_1 : decode cX8_fault 1 = .ok (.iconst 0, 1) := dk_3 (dk_at dksX8_fault_0 1 rfl rfl)
theorem dX8_fault_2 : decode cX8_fault 2 = .ok (.putfield 53, 3) := dk_181 0 53 (dk_at dksX8_fault_0 2 rfl rfl)
theorem dX8_fault_5 : decode cX8_fault 5 = .ok (.aload_n 0, 1) := dk_42 (dk_at dksX8_fault_0 5 rfl rfl)
theorem dX8_fault_6 : decode cX8_fault 6 = .ok (.getfield 114, 3) := dk_180 0 114 (dk_at dksX8_fault_0 6 rfl rfl)
theorem dX8_fault_9 : decode cX8_fault 9 = .ok (.ireturn, 1) := dk_172 (dk_at dksX8_fault_0 9 rfl rfl)
abbrev cX8_where : ByteArray := prog_20_method_44_code
def yX8_where : MethodName := ⟨RX8, "where", "()I"⟩
def dkwX8_where_0 : List UInt8 := [42, 3, 181, 0, 53, 42, 180, 0, 9, 172]
abbrev dktX8_where_0 : List UInt8 := dkwX8_where_0 ++ []
theorem dksX8_where_0 : cX8_where.data.toList.drop 0 = dktX8_where_0 := by decide +kernel
theorem dX8_where_0 : decode cX8_where 0 = .ok (.aload_n 0, 1) := dk_42 (dk_at dksX8_where_0 0 rfl rfl)
theorem dX8_where_1 : decode cX8_where 1 = .ok (.iconst 0, 1) := dk_3 (dk_at dksX8_where_0 1 rfl rfl)
theorem dX8_where_2 : decode cX8_where 2 = .ok (.putfield 53, 3) := dk_181 0 53 (dk_at dksX8_where_0 2 rfl rfl)
theorem dX8_where_5 : decode cX8_where 5 = .ok (.aload_n 0, 1) := dk_42 (dk_at dksX8_where_0 5 rfl rfl)
theorem dX8_where_6 : decode cX8_where 6 = .ok (.getfield 9, 3) := dk_180 0 9 (dk_at dksX8_where_0 6 rfl rfl)
theorem dX8_where_9 : decode cX8_where 9 = .ok (.ireturn, 1) := dk_172 (dk_at dksX8_where_0 9 rfl rfl)
abbrev cX8_bone : ByteArray := prog_20_method_61_code
def yX8_bone : MethodName := ⟨RX8, "bone", "(II)I"⟩
def dkwX8_bone_5 : List UInt8 := [4, 182, 1, 150, 182, 0, 63, 172, 42, 42, 180, 0, 17, 16, 10, 46, 27, 122, 4, 126, 182, 0, 63, 172]
abbrev dktX8_bone_5 : List UInt8 := dkwX8_bone_5 ++ []
def dkwX8_bone_4 : List UInt8 := [182, 0, 63, 172, 42, 42, 180, 1, 117, 27, 3, 182, 1, 150, 182, 0, 63, 172, 42, 42, 180, 1, 117, 27]
abbrev dktX8_bone_4 : List UInt8 := dkwX8_bone_4 ++ dktX8_bone_5
def dkwX8_bone_3 : List UInt8 := [42, 42, 180, 0, 17, 3, 27, 96, 46, 182, 0, 63, 172, 42, 42, 180, 0, 17, 8, 27, 96, 46]
abbrev dktX8_bone_3 : List UInt8 := dkwX8_bone_3 ++ dktX8_bone_4
def dkwX8_bone_2 : List UInt8 := [170, 0, 0, 0, 0, 0, 85, 0, 0, 0, 0, 0, 0, 0, 3, 0, 0, 0, 31, 0, 0, 0, 44, 0, 0, 0, 57, 0, 0, 0, 71]
abbrev dktX8_bone_2 : List UInt8 := dkwX8_bone_2 ++ dktX8_bone_3
def dkwX8_bone_1 : List UInt8 := [182, 0, 59, 172, 28]
abbrev dktX8_bone_1 : List UInt8 := dkwX8_bone_1 ++ dktX8_bone_2
def dkwX8_bone_0 : List UInt8 := [42, 3, 181, 0, 53, 42, 27, 182, 1, 188, 153, 0, 12, 28, 3, 7, 184, 0, 138, 154, 0, 9, 42, 4]
abbrev dktX8_bone_0 : List UInt8 := dkwX8_bone_0 ++ dktX8_bone_1
theorem dksX8_bone_0 : cX8_bone.data.toList.drop 0 = dktX8_bone_0 := by decide +kernel
theorem dksX8_bone_1 : cX8_bone.data.toList.drop 24 = dktX8_bone_1 := dk_seg dksX8_bone_0 24 rfl rfl
theorem dksX8_bone_2 : cX8_bone.data.toList.drop 29 = dktX8_bone_2 := dk_seg dksX8_bone_1 5 rfl rfl
theorem dksX8_bone_3 : cX8_bone.data.toList.drop 60 = dktX8_bone_3 := dk_seg dksX8_bone_2 31 rfl rfl
theorem dksX8_bone_4 : cX8_bone.data.toList.drop 82 = dktX8_bone_4 := dk_seg dksX8_bone_3 22 rfl rfl
theorem dksX8_bone_5 : cX8_bone.data.toList.drop 106 = dktX8_bone_5 := dk_seg dksX8_bone_4 24 rfl rfl
theorem dX8_bone_0 : decode cX8_bone 0 = .ok (.aload_n 0, 1) := dk_42 (dk_at dksX8_bone_0 0 rfl rfl)
theorem dX8_bone_1 : decode cX8_bone 1 = .ok (.iconst 0, 1) := dk_3 (dk_at dksX8_bone_0 1 rfl rfl)
theorem dX8_bone_2 : decode cX8_bone 2 = .ok (.putfield 53, 3) := dk_181 0 53 (dk_at dksX8_bone_0 2 rfl rfl)
theorem dX8_bone_5 : decode cX8_bone 5 = .ok (.aload_n 0, 1) := dk_42 (dk_at dksX8_bone_0 5 rfl rfl)
theorem dX8_bone_6 : decode cX8_bone 6 = .ok (.iload_n 1, 1) := dk_27 (dk_at dksX8_bone_0 6 rfl rfl)
theorem dX8_bone_7 : decode cX8_bone 7 = .ok (.invokevirtual 444, 3) := dk_182 1 188 (dk_at dksX8_bone_0 7 rfl rfl)
theorem dX8_bone_10 : decode cX8_bone 10 = .ok (.ifCond .eq 12, 3) := dk_153 0 12 (dk_at dksX8_bone_0 10 rfl rfl)
theorem dX8_bone_13 : decode cX8_bone 13 = .ok (.iload_n 2, 1) := dk_28 (dk_at dksX8_bone_0 13 rfl rfl)
theorem dX8_bone_14 : decode cX8_bone 14 = .ok (.iconst 0, 1) := dk_3 (dk_at dksX8_bone_0 14 rfl rfl)
theorem dX8_bone_15 : decode cX8_bone 15 = .ok (.iconst 4, 1) := dk_7 (dk_at dksX8_bone_0 15 rfl rfl)
theorem dX8_bone_16 : decode cX8_bone 16 = .ok (.invokestatic 138, 3) := dk_184 0 138 (dk_at dksX8_bone_0 16 rfl rfl)
theorem dX8_bone_19 : decode cX8_bone 19 = .ok (.ifCond .ne 9, 3) := dk_154 0 9 (dk_at dksX8_bone_0 19 rfl rfl)
theorem dX8_bone_22 : decode cX8_bone 22 = .ok (.aload_n 0, 1) := dk_42 (dk_at dksX8_bone_0 22 rfl rfl)
theorem dX8_bone_23 : decode cX8_bone 23 = .ok (.iconst 1, 1) := dk_4 (dk_at dksX8_bone_0 23 rfl rfl)
theorem dX8_bone_24 : decode cX8_bone 24 = .ok (.invokevirtual 59, 3) := dk_182 0 59 (dk_at dksX8_bone_1 0 rfl rfl)
theorem dX8_bone_27 : decode cX8_bone 27 = .ok (.ireturn, 1) := dk_172 (dk_at dksX8_bone_1 3 rfl rfl)
theorem dX8_bone_28 : decode cX8_bone 28 = .ok (.iload_n 2, 1) := dk_28 (dk_at dksX8_bone_1 4 rfl rfl)
theorem dX8_bone_29 : decode cX8_bone 29 = .ok (.tableswitch 85 0 3 #[31, 44, 57, 71], 31) := by decide +kernel
theorem dX8_bone_60 : decode cX8_bone 60 = .ok (.aload_n 0, 1) := dk_42 (dk_at dksX8_bone_3 0 rfl rfl)
theorem dX8_bone_61 : decode cX8_bone 61 = .ok (.aload_n 0, 1) := dk_42 (dk_at dksX8_bone_3 1 rfl rfl)
theorem dX8_bone_62 : decode cX8_bone 62 = .ok (.getfield 17, 3) := dk_180 0 17 (dk_at dksX8_bone_3 2 rfl rfl)
theorem dX8_bone_65 : decode cX8_bone 65 = .ok (.iconst 0, 1) := dk_3 (dk_at dksX8_bone_3 5 rfl rfl)
theorem dX8_bone_66 : decode cX8_bone 66 = .ok (.iload_n 1, 1) := dk_27 (dk_at dksX8_bone_3 6 rfl rfl)
theorem dX8_bone_67 : decode cX8_bone 67 = .ok (.iadd, 1) := dk_96 (dk_at dksX8_bone_3 7 rfl rfl)
theorem dX8_bone_68 : decode cX8_bone 68 = .ok (.iaload, 1) := dk_46 (dk_at dksX8_bone_3 8 rfl rfl)
theorem dX8_bone_69 : decode cX8_bone 69 = .ok (.invokevirtual 63, 3) := dk_182 0 63 (dk_at dksX8_bone_3 9 rfl rfl)
theorem dX8_bone_72 : decode cX8_bone 72 = .ok (.ireturn, 1) := dk_172 (dk_at dksX8_bone_3 12 rfl rfl)
theorem dX8_bone_73 : decode cX8_bone 73 = .ok (.aload_n 0, 1) := dk_42 (dk_at dksX8_bone_3 13 rfl rfl)
theorem dX8_bone_74 : decode cX8_bone 74 = .ok (.aload_n 0, 1) := dk_42 (dk_at dksX8_bone_3 14 rfl rfl)
theorem dX8_bone_75 : decode cX8_bone 75 = .ok (.getfield 17, 3) := dk_180 0 17 (dk_at dksX8_bone_3 15 rfl rfl)
theorem dX8_bone_78 : decode cX8_bone 78 = .ok (.iconst 5, 1) := dk_8 (dk_at dksX8_bone_3 18 rfl rfl)
theorem dX8_bone_79 : decode cX8_bone 79 = .ok (.iload_n 1, 1) := dk_27 (dk_at dksX8_bone_3 19 rfl rfl)
theorem dX8_bone_80 : decode cX8_bone 80 = .ok (.iadd, 1) := dk_96 (dk_at dksX8_bone_3 20 rfl rfl)
theorem dX8_bone_81 : decode cX8_bone 81 = .ok (.iaload, 1) := dk_46 (dk_at dksX8_bone_3 21 rfl rfl)
theorem dX8_bone_82 : decode cX8_bone 82 = .ok (.invokevirtual 63, 3) := dk_182 0 63 (dk_at dksX8_bone_4 0 rfl rfl)
theorem dX8_bone_85 : decode cX8_bone 85 = .ok (.ireturn, 1) := dk_172 (dk_at dksX8_bone_4 3 rfl rfl)
theorem dX8_bone_86 : decode cX8_bone 86 = .ok (.aload_n 0, 1) := dk_42 (dk_at dksX8_bone_4 4 rfl rfl)
theorem dX8_bone_87 : decode cX8_bone 87 = .ok (.aload_n 0, 1) := dk_42 (dk_at dksX8_bone_4 5 rfl rfl)
theorem dX8_bone_88 : decode cX8_bone 88 = .ok (.getfield 373, 3) := dk_180 1 117 (dk_at dksX8_bone_4 6 rfl rfl)
theorem dX8_bone_91 : decode cX8_bone 91 = .ok (.iload_n 1, 1) := dk_27 (dk_at dksX8_bone_4 9 rfl rfl)
theorem dX8_bone_92 : decode cX8_bone 92 = .ok (.iconst 0, 1) := dk_3 (dk_at dksX8_bone_4 10 rfl rfl)
theorem dX8_bone_93 : decode cX8_bone 93 = .ok (.invokevirtual 406, 3) := dk_182 1 150 (dk_at dksX8_bone_4 11 rfl rfl)
theorem dX8_bone_96 : decode cX8_bone 96 = .ok (.invokevirtual 63, 3) := dk_182 0 63 (dk_at dksX8_bone_4 14 rfl rfl)
theorem dX8_bone_99 : decode cX8_bone 99 = .ok (.ireturn, 1) := dk_172 (dk_at dksX8_bone_4 17 rfl rfl)
theorem dX8_bone_100 : decode cX8_bone 100 = .ok (.aload_n 0, 1) := dk_42 (dk_at dksX8_bone_4 18 rfl rfl)
theorem dX8_bone_101 : decode cX8_bone 101 = .ok (.aload_n 0, 1) := dk_42 (dk_at dksX8_bone_4 19 rfl rfl)
theorem dX8_bone_102 : decode cX8_bone 102 = .ok (.getfield 373, 3) := dk_180 1 117 (dk_at dksX8_bone_4 20 rfl rfl)
theorem dX8_bone_105 : decode cX8_bone 105 = .ok (.iload_n 1, 1) := dk_27 (dk_at dksX8_bone_4 23 rfl rfl)
theorem dX8_bone_106 : decode cX8_bone 106 = .ok (.iconst 1, 1) := dk_4 (dk_at dksX8_bone_5 0 rfl rfl)
theorem dX8_bone_107 : decode cX8_bone 107 = .ok (.invokevirtual 406, 3) := dk_182 1 150 (dk_at dksX8_bone_5 1 rfl rfl)
theorem dX8_bone_110 : decode cX8_bone 110 = .ok (.invokevirtual 63, 3) := dk_182 0 63 (dk_at dksX8_bone_5 4 rfl rfl)
theorem dX8_bone_113 : decode cX8_bone 113 = .ok (.ireturn, 1) := dk_172 (dk_at dksX8_bone_5 7 rfl rfl)
theorem dX8_bone_114 : decode cX8_bone 114 = .ok (.aload_n 0, 1) := dk_42 (dk_at dksX8_bone_5 8 rfl rfl)
theorem dX8_bone_115 : decode cX8_bone 115 = .ok (.aload_n 0, 1) := dk_42 (dk_at dksX8_bone_5 9 rfl rfl)
theorem dX8_bone_116 : decode cX8_bone 116 = .ok (.getfield 17, 3) := dk_180 0 17 (dk_at dksX8_bone_5 10 rfl rfl)
theorem dX8_bone_119 : decode cX8_bone 119 = .ok (.bipush 10, 2) := dk_16 10 (dk_at dksX8_bone_5 13 rfl rfl)
theorem dX8_bone_121 : decode cX8_bone 121 = .ok (.iaload, 1) := dk_46 (dk_at dksX8_bone_5 15 rfl rfl)
theorem dX8_bone_122 : decode cX8_bone 122 = .ok (.iload_n 1, 1) := dk_27 (dk_at dksX8_bone_5 16 rfl rfl)
theorem dX8_bone_123 : decode cX8_bone 123 = .ok (.ishr, 1) := dk_122 (dk_at dksX8_bone_5 17 rfl rfl)
theorem dX8_bone_124 : decode cX8_bone 124 = .ok (.iconst 1, 1) := dk_4 (dk_at dksX8_bone_5 18 rfl rfl)
theorem dX8_bone_125 : decode cX8_bone 125 = .ok (.iand, 1) := dk_126 (dk_at dksX8_bone_5 19 rfl rfl)
theorem dX8_bone_126 : decode cX8_bone 126 = .ok (.invokevirtual 63, 3) := dk_182 0 63 (dk_at dksX8_bone_5 20 rfl rfl)
theorem dX8_bone_129 : decode cX8_bone 129 = .ok (.ireturn, 1) := dk_172 (dk_at dksX8_bone_5 23 rfl rfl)
abbrev cX8_isBone : ByteArray := prog_20_method_56_code
def yX8_isBone : MethodName := ⟨RX8, "isBone", "(I)Z"⟩
def dkwX8_isBone_1 : List UInt8 := [167, 0, 4, 3, 172]
abbrev dktX8_isBone_1 : List UInt8 := dkwX8_isBone_1 ++ []
def dkwX8_isBone_0 : List UInt8 := [42, 180, 1, 117, 198, 0, 22, 27, 155, 0, 18, 27, 42, 180, 1, 117, 180, 0, 210, 162, 0, 7, 4]
abbrev dktX8_isBone_0 : List UInt8 := dkwX8_isBone_0 ++ dktX8_isBone_1
theorem dksX8_isBone_0 : cX8_isBone.data.toList.drop 0 = dktX8_isBone_0 := by decide +kernel
theorem dksX8_isBone_1 : cX8_isBone.data.toList.drop 23 = dktX8_isBone_1 := dk_seg dksX8_isBone_0 23 rfl rfl
theorem dX8_isBone_0 : decode cX8_isBone 0 = .ok (.aload_n 0, 1) := dk_42 (dk_at dksX8_isBone_0 0 rfl rfl)
theorem dX8_isBone_1 : decode cX8_isBone 1 = .ok (.getfield 373, 3) := dk_180 1 117 (dk_at dksX8_isBone_0 1 rfl rfl)
theorem dX8_isBone_4 : decode cX8_isBone 4 = .ok (.ifnull 22, 3) := dk_198 0 22 (dk_at dksX8_isBone_0 4 rfl rfl)
theorem dX8_isBone_7 : decode cX8_isBone 7 = .ok (.iload_n 1, 1) := dk_27 (dk_at dksX8_isBone_0 7 rfl rfl)
theorem dX8_isBone_8 : decode cX8_isBone 8 = .ok (.ifCond .lt 18, 3) := dk_155 0 18 (dk_at dksX8_isBone_0 8 rfl rfl)
theorem dX8_isBone_11 : decode cX8_isBone 11 = .ok (.iload_n 1, 1) := dk_27 (dk_at dksX8_isBone_0 11 rfl rfl)
theorem dX8_isBone_12 : decode cX8_isBone 12 = .ok (.aload_n 0, 1) := dk_42 (dk_at dksX8_isBone_0 12 rfl rfl)
theorem dX8_isBone_13 : decode cX8_isBone 13 = .ok (.getfield 373, 3) := dk_180 1 117 (dk_at dksX8_isBone_0 13 rfl rfl)
theorem dX8_isBone_16 : decode cX8_isBone 16 = .ok (.getfield 210, 3) := dk_180 0 210 (dk_at dksX8_isBone_0 16 rfl rfl)
theorem dX8_isBone_19 : decode cX8_isBone 19 = .ok (.if_icmp .ge 7, 3) := dk_162 0 7 (dk_at dksX8_isBone_0 19 rfl rfl)
theorem dX8_isBone_22 : decode cX8_isBone 22 = .ok (.iconst 1, 1) := dk_4 (dk_at dksX8_isBone_0 22 rfl rfl)
theorem dX8_isBone_23 : decode cX8_isBone 23 = .ok (.goto 4, 3) := dk_167 0 4 (dk_at dksX8_isBone_1 0 rfl rfl)
theorem dX8_isBone_26 : decode cX8_isBone 26 = .ok (.iconst 0, 1) := dk_3 (dk_at dksX8_isBone_1 3 rfl rfl)
theorem dX8_isBone_27 : decode cX8_isBone 27 = .ok (.ireturn, 1) := dk_172 (dk_at dksX8_isBone_1 4 rfl rfl)
abbrev cX8_thick : ByteArray := prog_20_method_62_code
def yX8_thick : MethodName := ⟨RX8, "thick", "(III)I"⟩
def dkwX8_thick_1 : List UInt8 := [182, 1, 144, 182, 0, 63, 167, 0, 8, 42, 4, 182, 0, 59, 172]
abbrev dktX8_thick_1 : List UInt8 := dkwX8_thick_1 ++ []
def dkwX8_thick_0 : List UInt8 := [42, 3, 181, 0, 53, 42, 27, 28, 29, 182, 1, 190, 153, 0, 20, 42, 42, 180, 1, 117, 27, 28, 29]
abbrev dktX8_thick_0 : List UInt8 := dkwX8_thick_0 ++ dktX8_thick_1
theorem dksX8_thick_0 : cX8_thick.data.toList.drop 0 = dktX8_thick_0 := by decide +kernel
theorem dksX8_thick_1 : cX8_thick.data.toList.drop 23 = dktX8_thick_1 := dk_seg dksX8_thick_0 23 rfl rfl
theorem dX8_thick_0 : decode cX8_thick 0 = .ok (.aload_n 0, 1) := dk_42 (dk_at dksX8_thick_0 0 rfl rfl)
theorem dX8_thick_1 : decode cX8_thick 1 = .ok (.iconst 0, 1) := dk_3 (dk_at dksX8_thick_0 1 rfl rfl)
theorem dX8_thick_2 : decode cX8_thick 2 = .ok (.putfield 53, 3) := dk_181 0 53 (dk_at dksX8_thick_0 2 rfl rfl)
theorem dX8_thick_5 : decode cX8_thick 5 = .ok (.aload_n 0, 1) := dk_42 (dk_at dksX8_thick_0 5 rfl rfl)
theorem dX8_thick_6 : decode cX8_thick 6 = .ok (.iload_n 1, 1) := dk_27 (dk_at dksX8_thick_0 6 rfl rfl)
theorem dX8_thick_7 : decode cX8_thick 7 = .ok (.iload_n 2, 1) := dk_28 (dk_at dksX8_thick_0 7 rfl rfl)
theorem dX8_thick_8 : decode cX8_thick 8 = .ok (.iload_n 3, 1) := dk_29 (dk_at dksX8_thick_0 8 rfl rfl)
theorem dX8_thick_9 : decode cX8_thick 9 = .ok (.invokevirtual 446, 3) := dk_182 1 190 (dk_at dksX8_thick_0 9 rfl rfl)
theorem dX8_thick_12 : decode cX8_thick 12 = .ok (.ifCond .eq 20, 3) := dk_153 0 20 (dk_at dksX8_thick_0 12 rfl rfl)
theorem dX8_thick_15 : decode cX8_thick 15 = .ok (.aload_n 0, 1) := dk_42 (dk_at dksX8_thick_0 15 rfl rfl)
theorem dX8_thick_16 : decode cX8_thick 16 = .ok (.aload_n 0, 1) := dk_42 (dk_at dksX8_thick_0 16 rfl rfl)
theorem dX8_thick_17 : decode cX8_thick 17 = .ok (.getfield 373, 3) := dk_180 1 117 (dk_at dksX8_thick_0 17 rfl rfl)
theorem dX8_thick_20 : decode cX8_thick 20 = .ok (.iload_n 1, 1) := dk_27 (dk_at dksX8_thick_0 20 rfl rfl)
theorem dX8_thick_21 : decode cX8_thick 21 = .ok (.iload_n 2, 1) := dk_28 (dk_at dksX8_thick_0 21 rfl rfl)
theorem dX8_thick_22 : decode cX8_thick 22 = .ok (.iload_n 3, 1) := dk_29 (dk_at dksX8_thick_0 22 rfl rfl)
theorem dX8_thick_23 : decode cX8_thick 23 = .ok (.invokevirtual 400, 3) := dk_182 1 144 (dk_at dksX8_thick_1 0 rfl rfl)
theorem dX8_thick_26 : decode cX8_thick 26 = .ok (.invokevirtual 63, 3) := dk_182 0 63 (dk_at dksX8_thick_1 3 rfl rfl)
theorem dX8_thick_29 : decode cX8_thick 29 = .ok (.goto 8, 3) := dk_167 0 8 (dk_at dksX8_thick_1 6 rfl rfl)
theorem dX8_thick_32 : decode cX8_thick 32 = .ok (.aload_n 0, 1) := dk_42 (dk_at dksX8_thick_1 9 rfl rfl)
theorem dX8_thick_33 : decode cX8_thick 33 = .ok (.iconst 1, 1) := dk_4 (dk_at dksX8_thick_1 10 rfl rfl)
theorem dX8_thick_34 : decode cX8_thick 34 = .ok (.invokevirtual 59, 3) := dk_182 0 59 (dk_at dksX8_thick_1 11 rfl rfl)
theorem dX8_thick_37 : decode cX8_thick 37 = .ok (.ireturn, 1) := dk_172 (dk_at dksX8_thick_1 14 rfl rfl)
abbrev cX8_isPlace : ByteArray := prog_20_method_59_code
def yX8_isPlace : MethodName := ⟨RX8, "isPlace", "(III)Z"⟩
def dkwX8_isPlace_1 : List UInt8 := [180, 1, 117, 27, 28, 182, 1, 150, 162, 0, 7, 4, 167, 0, 4, 3, 172]
abbrev dktX8_isPlace_1 : List UInt8 := dkwX8_isPlace_1 ++ []
def dkwX8_isPlace_0 : List UInt8 := [42, 27, 182, 1, 188, 153, 0, 33, 28, 3, 4, 184, 0, 138, 153, 0, 24, 29, 155, 0, 20, 29, 42]
abbrev dktX8_isPlace_0 : List UInt8 := dkwX8_isPlace_0 ++ dktX8_isPlace_1
theorem dksX8_isPlace_0 : cX8_isPlace.data.toList.drop 0 = dktX8_isPlace_0 := by decide +kernel
theorem dksX8_isPlace_1 : cX8_isPlace.data.toList.drop 23 = dktX8_isPlace_1 := dk_seg dksX8_isPlace_0 23 rfl rfl
theorem dX8_isPlace_0 : decode cX8_isPlace 0 = .ok (.aload_n 0, 1) := dk_42 (dk_at dksX8_isPlace_0 0 rfl rfl)
theorem dX8_isPlace_1 : decode cX8_isPlace 1 = .ok (.iload_n 1, 1) := dk_27 (dk_at dksX8_isPlace_0 1 rfl rfl)
theorem dX8_isPlace_2 : decode cX8_isPlace 2 = .ok (.invokevirtual 444, 3) := dk_182 1 188 (dk_at dksX8_isPlace_0 2 rfl rfl)
theorem dX8_isPlace_5 : decode cX8_isPlace 5 = .ok (.ifCond .eq 33, 3) := dk_153 0 33 (dk_at dksX8_isPlace_0 5 rfl rfl)
theorem dX8_isPlace_8 : decode cX8_isPlace 8 = .ok (.iload_n 2, 1) := dk_28 (dk_at dksX8_isPlace_0 8 rfl rfl)
theorem dX8_isPlace_9 : decode cX8_isPlace 9 = .ok (.iconst 0, 1) := dk_3 (dk_at dksX8_isPlace_0 9 rfl rfl)
theorem dX8_isPlace_10 : decode cX8_isPlace 10 = .ok (.iconst 1, 1) := dk_4 (dk_at dksX8_isPlace_0 10 rfl rfl)
theorem dX8_isPlace_11 : decode cX8_isPlace 11 = .ok (.invokestatic 138, 3) := dk_184 0 138 (dk_at dksX8_isPlace_0 11 rfl rfl)
theorem dX8_isPlace_14 : decode cX8_isPlace 14 = .ok (.ifCond .eq 24, 3) := dk_153 0 24 (dk_at dksX8_isPlace_0 14 rfl rfl)
theorem dX8_isPlace_17 : decode cX8_isPlace 17 = .ok (.iload_n 3, 1) := dk_29 (dk_at dksX8_isPlace_0 17 rfl rfl)
theorem dX8_isPlace_18 : decode cX8_isPlace 18 = .ok (.ifCond .lt 20, 3) := dk_155 0 20 (dk_at dksX8_isPlace_0 18 rfl rfl)
theorem dX8_isPlace_21 : decode cX8_isPlace 21 = .ok (.iload_n 3, 1) := dk_29 (dk_at dksX8_isPlace_0 21 rfl rfl)
theorem dX8_isPlace_22 : decode cX8_isPlace 22 = .ok (.aload_n 0, 1) := dk_42 (dk_at dksX8_isPlace_0 22 rfl rfl)
theorem dX8_isPlace_23 : decode cX8_isPlace 23 = .ok (.getfield 373, 3) := dk_180 1 117 (dk_at dksX8_isPlace_1 0 rfl rfl)
theorem dX8_isPlace_26 : decode cX8_isPlace 26 = .ok (.iload_n 1, 1) := dk_27 (dk_at dksX8_isPlace_1 3 rfl rfl)
theorem dX8_isPlace_27 : decode cX8_isPlace 27 = .ok (.iload_n 2, 1) := dk_28 (dk_at dksX8_isPlace_1 4 rfl rfl)
theorem dX8_isPlace_28 : decode cX8_isPlace 28 = .ok (.invokevirtual 406, 3) := dk_182 1 150 (dk_at dksX8_isPlace_1 5 rfl rfl)
theorem dX8_isPlace_31 : decode cX8_isPlace 31 = .ok (.if_icmp .ge 7, 3) := dk_162 0 7 (dk_at dksX8_isPlace_1 8 rfl rfl)
theorem dX8_isPlace_34 : decode cX8_isPlace 34 = .ok (.iconst 1, 1) := dk_4 (dk_at dksX8_isPlace_1 11 rfl rfl)
theorem dX8_isPlace_35 : decode cX8_isPlace 35 = .ok (.goto 4, 3) := dk_167 0 4 (dk_at dksX8_isPlace_1 12 rfl rfl)
theorem dX8_isPlace_38 : decode cX8_isPlace 38 = .ok (.iconst 0, 1) := dk_3 (dk_at dksX8_isPlace_1 15 rfl rfl)
theorem dX8_isPlace_39 : decode cX8_isPlace 39 = .ok (.ireturn, 1) := dk_172 (dk_at dksX8_isPlace_1 16 rfl rfl)
abbrev cX8_person : ByteArray := prog_20_method_65_code
def yX8_person : MethodName := ⟨RX8, "person", "(II)I"⟩
def dkwX8_person_6 : List UInt8 := [182, 1, 193, 182, 0, 63, 172, 42, 42, 180, 0, 17, 16, 11, 27, 96, 46, 182, 0, 63, 172]
abbrev dktX8_person_6 : List UInt8 := dkwX8_person_6 ++ []
def dkwX8_person_5 : List UInt8 := [180, 1, 58, 27, 46, 182, 0, 63, 172, 42, 42, 27, 182, 1, 196, 182, 0, 63, 172, 42, 42, 27]
abbrev dktX8_person_5 : List UInt8 := dkwX8_person_5 ++ dktX8_person_6
def dkwX8_person_4 : List UInt8 := [182, 0, 63, 172, 42, 42, 180, 1, 117, 180, 1, 56, 27, 46, 182, 0, 63, 172, 42, 42, 180, 1, 117]
abbrev dktX8_person_4 : List UInt8 := dkwX8_person_4 ++ dktX8_person_5
def dkwX8_person_3 : List UInt8 := [42, 42, 180, 1, 117, 180, 1, 51, 27, 46, 182, 0, 63, 172, 42, 42, 180, 1, 117, 180, 1, 54, 27, 46]
abbrev dktX8_person_3 : List UInt8 := dkwX8_person_3 ++ dktX8_person_4
def dkwX8_person_2 : List UInt8 := [170, 0, 0, 0, 0, 114, 0, 0, 0, 0, 0, 0, 0, 5, 0, 0, 0, 38, 0, 0, 0, 52, 0, 0, 0, 66, 0, 0, 0, 80, 0, 0, 0, 94, 0, 0, 0, 104]
abbrev dktX8_person_2 : List UInt8 := dkwX8_person_2 ++ dktX8_person_3
def dkwX8_person_1 : List UInt8 := [4, 182, 0, 59, 172, 28]
abbrev dktX8_person_1 : List UInt8 := dkwX8_person_1 ++ dktX8_person_2
def dkwX8_person_0 : List UInt8 := [42, 3, 181, 0, 53, 42, 27, 182, 1, 185, 153, 0, 13, 28, 3, 16, 6, 184, 0, 138, 154, 0, 9, 42]
abbrev dktX8_person_0 : List UInt8 := dkwX8_person_0 ++ dktX8_person_1
theorem dksX8_person_0 : cX8_person.data.toList.drop 0 = dktX8_person_0 := by decide +kernel
theorem dksX8_person_1 : cX8_person.data.toList.drop 24 = dktX8_person_1 := dk_seg dksX8_person_0 24 rfl rfl
theorem dksX8_person_2 : cX8_person.data.toList.drop 30 = dktX8_person_2 := dk_seg dksX8_person_1 6 rfl rfl
theorem dksX8_person_3 : cX8_person.data.toList.drop 68 = dktX8_person_3 := dk_seg dksX8_person_2 38 rfl rfl
theorem dksX8_person_4 : cX8_person.data.toList.drop 92 = dktX8_person_4 := dk_seg dksX8_person_3 24 rfl rfl
theorem dksX8_person_5 : cX8_person.data.toList.drop 115 = dktX8_person_5 := dk_seg dksX8_person_4 23 rfl rfl
theorem dksX8_person_6 : cX8_person.data.toList.drop 137 = dktX8_person_6 := dk_seg dksX8_person_5 22 rfl rfl
theorem dX8_person_0 : decode cX8_person 0 = .ok (.aload_n 0, 1) := dk_42 (dk_at dksX8_person_0 0 rfl rfl)
theorem dX8_person_1 : decode cX8_person 1 = .ok (.iconst 0, 1) := dk_3 (dk_at dksX8_person_0 1 rfl rfl)
theorem dX8_person_2 : decode cX8_person 2 = .ok (.putfield 53, 3) := dk_181 0 53 (dk_at dksX8_person_0 2 rfl rfl)
theorem dX8_person_5 : decode cX8_person 5 = .ok (.aload_n 0, 1) := dk_42 (dk_at dksX8_person_0 5 rfl rfl)
theorem dX8_person_6 : decode cX8_person 6 = .ok (.iload_n 1, 1) := dk_27 (dk_at dksX8_person_0 6 rfl rfl)
theorem dX8_person_7 : decode cX8_person 7 = .ok (.invokevirtual 441, 3) := dk_182 1 185 (dk_at dksX8_person_0 7 rfl rfl)
theorem dX8_person_10 : decode cX8_person 10 = .ok (.ifCond .eq 13, 3) := dk_153 0 13 (dk_at dksX8_person_0 10 rfl rfl)
theorem dX8_person_13 : decode cX8_person 13 = .ok (.iload_n 2, 1) := dk_28 (dk_at dksX8_person_0 13 rfl rfl)
theorem dX8_person_14 : decode cX8_person 14 = .ok (.iconst 0, 1) := dk_3 (dk_at dksX8_person_0 14 rfl rfl)
theorem dX8_person_15 : decode cX8_person 15 = .ok (.bipush 6, 2) := dk_16 6 (dk_at dksX8_person_0 15 rfl rfl)
theorem dX8_person_17 : decode cX8_person 17 = .ok (.invokestatic 138, 3) := dk_184 0 138 (dk_at dksX8_person_0 17 rfl rfl)
theorem dX8_person_20 : decode cX8_person 20 = .ok (.ifCond .ne 9, 3) := dk_154 0 9 (dk_at dksX8_person_0 20 rfl rfl)
theorem dX8_person_23 : decode cX8_person 23 = .ok (.aload_n 0, 1) := dk_42 (dk_at dksX8_person_0 23 rfl rfl)
theorem dX8_person_24 : decode cX8_person 24 = .ok (.iconst 1, 1) := dk_4 (dk_at dksX8_person_1 0 rfl rfl)
theorem dX8_person_25 : decode cX8_person 25 = .ok (.invokevirtual 59, 3) := dk_182 0 59 (dk_at dksX8_person_1 1 rfl rfl)
theorem dX8_person_28 : decode cX8_person 28 = .ok (.ireturn, 1) := dk_172 (dk_at dksX8_person_1 4 rfl rfl)
theorem dX8_person_29 : decode cX8_person 29 = .ok (.iload_n 2, 1) := dk_28 (dk_at dksX8_person_1 5 rfl rfl)
theorem dX8_person_30 : decode cX8_person 30 = .ok (.tableswitch 114 0 5 #[38, 52, 66, 80, 94, 104], 38) := by decide +kernel
theorem dX8_person_68 : decode cX8_person 68 = .ok (.aload_n 0, 1) := dk_42 (dk_at dksX8_person_3 0 rfl rfl)
theorem dX8_person_69 : decode cX8_person 69 = .ok (.aload_n 0, 1) := dk_42 (dk_at dksX8_person_3 1 rfl rfl)
theorem dX8_person_70 : decode cX8_person 70 = .ok (.getfield 373, 3) := dk_180 1 117 (dk_at dksX8_person_3 2 rfl rfl)
theorem dX8_person_73 : decode cX8_person 73 = .ok (.getfield 307, 3) := dk_180 1 51 (dk_at dksX8_person_3 5 rfl rfl)
theorem dX8_person_76 : decode cX8_person 76 = .ok (.iload_n 1, 1) := dk_27 (dk_at dksX8_person_3 8 rfl rfl)
theorem dX8_person_77 : decode cX8_person 77 = .ok (.iaload, 1) := dk_46 (dk_at dksX8_person_3 9 rfl rfl)
theorem dX8_person_78 : decode cX8_person 78 = .ok (.invokevirtual 63, 3) := dk_182 0 63 (dk_at dksX8_person_3 10 rfl rfl)
theorem dX8_person_81 : decode cX8_person 81 = .ok (.ireturn, 1) := dk_172 (dk_at dksX8_person_3 13 rfl rfl)
theorem dX8_person_82 : decode cX8_person 82 = .ok (.aload_n 0, 1) := dk_42 (dk_at dksX8_person_3 14 rfl rfl)
theorem dX8_person_83 : decode cX8_person 83 = .ok (.aload_n 0, 1) := dk_42 (dk_at dksX8_person_3 15 rfl rfl)
theorem dX8_person_84 : decode cX8_person 84 = .ok (.getfield 373, 3) := dk_180 1 117 (dk_at dksX8_person_3 16 rfl rfl)
theorem dX8_person_87 : decode cX8_person 87 = .ok (.getfield 310, 3) := dk_180 1 54 (dk_at dksX8_person_3 19 rfl rfl)
theorem dX8_person_90 : decode cX8_person 90 = .ok (.iload_n 1, 1) := dk_27 (dk_at dksX8_person_3 22 rfl rfl)
theorem dX8_person_91 : decode cX8_person 91 = .ok (.iaload, 1) := dk_46 (dk_at dksX8_person_3 23 rfl rfl)
theorem dX8_person_92 : decode cX8_person 92 = .ok (.invokevirtual 63, 3) := dk_182 0 63 (dk_at dksX8_person_4 0 rfl rfl)
theorem dX8_person_95 : decode cX8_person 95 = .ok (.ireturn, 1) := dk_172 (dk_at dksX8_person_4 3 rfl rfl)
theorem dX8_person_96 : decode cX8_person 96 = .ok (.aload_n 0, 1) := dk_42 (dk_at dksX8_person_4 4 rfl rfl)
theorem dX8_person_97 : decode cX8_person 97 = .ok (.aload_n 0, 1) := dk_42 (dk_at dksX8_person_4 5 rfl rfl)
theorem dX8_person_98 : decode cX8_person 98 = .ok (.getfield 373, 3) := dk_180 1 117 (dk_at dksX8_person_4 6 rfl rfl)
theorem dX8_person_101 : decode cX8_person 101 = .ok (.getfield 312, 3) := dk_180 1 56 (dk_at dksX8_person_4 9 rfl rfl)
theorem dX8_person_104 : decode cX8_person 104 = .ok (.iload_n 1, 1) := dk_27 (dk_at dksX8_person_4 12 rfl rfl)
theorem dX8_person_105 : decode cX8_person 105 = .ok (.iaload, 1) := dk_46 (dk_at dksX8_person_4 13 rfl rfl)
theorem dX8_person_106 : decode cX8_person 106 = .ok (.invokevirtual 63, 3) := dk_182 0 63 (dk_at dksX8_person_4 14 rfl rfl)
theorem dX8_person_109 : decode cX8_person 109 = .ok (.ireturn, 1) := dk_172 (dk_at dksX8_person_4 17 rfl rfl)
theorem dX8_person_110 : decode cX8_person 110 = .ok (.aload_n 0, 1) := dk_42 (dk_at dksX8_person_4 18 rfl rfl)
theorem dX8_person_111 : decode cX8_person 111 = .ok (.aload_n 0, 1) := dk_42 (dk_at dksX8_person_4 19 rfl rfl)
theorem dX8_person_112 : decode cX8_person 112 = .ok (.getfield 373, 3) := dk_180 1 117 (dk_at dksX8_person_4 20 rfl rfl)
theorem dX8_person_115 : decode cX8_person 115 = .ok (.getfield 314, 3) := dk_180 1 58 (dk_at dksX8_person_5 0 rfl rfl)
theorem dX8_person_118 : decode cX8_person 118 = .ok (.iload_n 1, 1) := dk_27 (dk_at dksX8_person_5 3 rfl rfl)
theorem dX8_person_119 : decode cX8_person 119 = .ok (.iaload, 1) := dk_46 (dk_at dksX8_person_5 4 rfl rfl)
theorem dX8_person_120 : decode cX8_person 120 = .ok (.invokevirtual 63, 3) := dk_182 0 63 (dk_at dksX8_person_5 5 rfl rfl)
theorem dX8_person_123 : decode cX8_person 123 = .ok (.ireturn, 1) := dk_172 (dk_at dksX8_person_5 8 rfl rfl)
theorem dX8_person_124 : decode cX8_person 124 = .ok (.aload_n 0, 1) := dk_42 (dk_at dksX8_person_5 9 rfl rfl)
theorem dX8_person_125 : decode cX8_person 125 = .ok (.aload_n 0, 1) := dk_42 (dk_at dksX8_person_5 10 rfl rfl)
theorem dX8_person_126 : decode cX8_person 126 = .ok (.iload_n 1, 1) := dk_27 (dk_at dksX8_person_5 11 rfl rfl)
theorem dX8_person_127 : decode cX8_person 127 = .ok (.invokevirtual 452, 3) := dk_182 1 196 (dk_at dksX8_person_5 12 rfl rfl)
theorem dX8_person_130 : decode cX8_person 130 = .ok (.invokevirtual 63, 3) := dk_182 0 63 (dk_at dksX8_person_5 15 rfl rfl)
theorem dX8_person_133 : decode cX8_person 133 = .ok (.ireturn, 1) := dk_172 (dk_at dksX8_person_5 18 rfl rfl)
theorem dX8_person_134 : decode cX8_person 134 = .ok (.aload_n 0, 1) := dk_42 (dk_at dksX8_person_5 19 rfl rfl)
theorem dX8_person_135 : decode cX8_person 135 = .ok (.aload_n 0, 1) := dk_42 (dk_at dksX8_person_5 20 rfl rfl)
theorem dX8_person_136 : decode cX8_person 136 = .ok (.iload_n 1, 1) := dk_27 (dk_at dksX8_person_5 21 rfl rfl)
theorem dX8_person_137 : decode cX8_person 137 = .ok (.invokevirtual 449, 3) := dk_182 1 193 (dk_at dksX8_person_6 0 rfl rfl)
theorem dX8_person_140 : decode cX8_person 140 = .ok (.invokevirtual 63, 3) := dk_182 0 63 (dk_at dksX8_person_6 3 rfl rfl)
theorem dX8_person_143 : decode cX8_person 143 = .ok (.ireturn, 1) := dk_172 (dk_at dksX8_person_6 6 rfl rfl)
theorem dX8_person_144 : decode cX8_person 144 = .ok (.aload_n 0, 1) := dk_42 (dk_at dksX8_person_6 7 rfl rfl)
theorem dX8_person_145 : decode cX8_person 145 = .ok (.aload_n 0, 1) := dk_42 (dk_at dksX8_person_6 8 rfl rfl)
theorem dX8_person_146 : decode cX8_person 146 = .ok (.getfield 17, 3) := dk_180 0 17 (dk_at dksX8_person_6 9 rfl rfl)
theorem dX8_person_149 : decode cX8_person 149 = .ok (.bipush 11, 2) := dk_16 11 (dk_at dksX8_person_6 12 rfl rfl)
theorem dX8_person_151 : decode cX8_person 151 = .ok (.iload_n 1, 1) := dk_27 (dk_at dksX8_person_6 14 rfl rfl)
theorem dX8_person_152 : decode cX8_person 152 = .ok (.iadd, 1) := dk_96 (dk_at dksX8_person_6 15 rfl rfl)
theorem dX8_person_153 : decode cX8_person 153 = .ok (.iaload, 1) := dk_46 (dk_at dksX8_person_6 16 rfl rfl)
theorem dX8_person_154 : decode cX8_person 154 = .ok (.invokevirtual 63, 3) := dk_182 0 63 (dk_at dksX8_person_6 17 rfl rfl)
theorem dX8_person_157 : decode cX8_person 157 = .ok (.ireturn, 1) := dk_172 (dk_at dksX8_person_6 20 rfl rfl)
abbrev cX8_isPerson : ByteArray := prog_20_method_57_code
def yX8_isPerson : MethodName := ⟨RX8, "isPerson", "(I)Z"⟩
def dkwX8_isPerson_1 : List UInt8 := [167, 0, 4, 3, 172]
abbrev dktX8_isPerson_1 : List UInt8 := dkwX8_isPerson_1 ++ []
def dkwX8_isPerson_0 : List UInt8 := [42, 180, 1, 117, 198, 0, 22, 27, 155, 0, 18, 27, 42, 180, 1, 117, 180, 0, 213, 162, 0, 7, 4]
abbrev dktX8_isPerson_0 : List UInt8 := dkwX8_isPerson_0 ++ dktX8_isPerson_1
theorem dksX8_isPerson_0 : cX8_isPerson.data.toList.drop 0 = dktX8_isPerson_0 := by decide +kernel
theorem dksX8_isPerson_1 : cX8_isPerson.data.toList.drop 23 = dktX8_isPerson_1 := dk_seg dksX8_isPerson_0 23 rfl rfl
theorem dX8_isPerson_0 : decode cX8_isPerson 0 = .ok (.aload_n 0, 1) := dk_42 (dk_at dksX8_isPerson_0 0 rfl rfl)
theorem dX8_isPerson_1 : decode cX8_isPerson 1 = .ok (.getfield 373, 3) := dk_180 1 117 (dk_at dksX8_isPerson_0 1 rfl rfl)
theorem dX8_isPerson_4 : decode cX8_isPerson 4 = .ok (.ifnull 22, 3) := dk_198 0 22 (dk_at dksX8_isPerson_0 4 rfl rfl)
theorem dX8_isPerson_7 : decode cX8_isPerson 7 = .ok (.iload_n 1, 1) := dk_27 (dk_at dksX8_isPerson_0 7 rfl rfl)
theorem dX8_isPerson_8 : decode cX8_isPerson 8 = .ok (.ifCond .lt 18, 3) := dk_155 0 18 (dk_at dksX8_isPerson_0 8 rfl rfl)
theorem dX8_isPerson_11 : decode cX8_isPerson 11 = .ok (.iload_n 1, 1) := dk_27 (dk_at dksX8_isPerson_0 11 rfl rfl)
theorem dX8_isPerson_12 : decode cX8_isPerson 12 = .ok (.aload_n 0, 1) := dk_42 (dk_at dksX8_isPerson_0 12 rfl rfl)
theorem dX8_isPerson_13 : decode cX8_isPerson 13 = .ok (.getfield 373, 3) := dk_180 1 117 (dk_at dksX8_isPerson_0 13 rfl rfl)
theorem dX8_isPerson_16 : decode cX8_isPerson 16 = .ok (.getfield 213, 3) := dk_180 0 213 (dk_at dksX8_isPerson_0 16 rfl rfl)
theorem dX8_isPerson_19 : decode cX8_isPerson 19 = .ok (.if_icmp .ge 7, 3) := dk_162 0 7 (dk_at dksX8_isPerson_0 19 rfl rfl)
theorem dX8_isPerson_22 : decode cX8_isPerson 22 = .ok (.iconst 1, 1) := dk_4 (dk_at dksX8_isPerson_0 22 rfl rfl)
theorem dX8_isPerson_23 : decode cX8_isPerson 23 = .ok (.goto 4, 3) := dk_167 0 4 (dk_at dksX8_isPerson_1 0 rfl rfl)
theorem dX8_isPerson_26 : decode cX8_isPerson 26 = .ok (.iconst 0, 1) := dk_3 (dk_at dksX8_isPerson_1 3 rfl rfl)
theorem dX8_isPerson_27 : decode cX8_isPerson 27 = .ok (.ireturn, 1) := dk_172 (dk_at dksX8_isPerson_1 4 rfl rfl)
abbrev cX8_pullsOf : ByteArray := prog_20_method_64_code
def yX8_pullsOf : MethodName := ⟨RX8, "pullsOf", "(I)I"⟩
def dkwX8_pullsOf_1 : List UInt8 := [180, 1, 87, 29, 46, 27, 160, 0, 7, 4, 167, 0, 4, 3, 96, 61, 132, 3, 1, 167, 255, 221, 28, 172]
abbrev dktX8_pullsOf_1 : List UInt8 := dkwX8_pullsOf_1 ++ []
def dkwX8_pullsOf_0 : List UInt8 := [42, 27, 182, 1, 193, 61, 3, 62, 29, 42, 180, 1, 117, 180, 1, 78, 162, 0, 30, 28, 42, 180, 1, 117]
abbrev dktX8_pullsOf_0 : List UInt8 := dkwX8_pullsOf_0 ++ dktX8_pullsOf_1
theorem dksX8_pullsOf_0 : cX8_pullsOf.data.toList.drop 0 = dktX8_pullsOf_0 := by decide +kernel
theorem dksX8_pullsOf_1 : cX8_pullsOf.data.toList.drop 24 = dktX8_pullsOf_1 := dk_seg dksX8_pullsOf_0 24 rfl rfl
theorem dX8_pullsOf_0 : decode cX8_pullsOf 0 = .ok (.aload_n 0, 1) := dk_42 (dk_at dksX8_pullsOf_0 0 rfl rfl)
theorem dX8_pullsOf_1 : decode cX8_pullsOf 1 = .ok (.iload_n 1, 1) := dk_27 (dk_at dksX8_pullsOf_0 1 rfl rfl)
theorem dX8_pullsOf_2 : decode cX8_pullsOf 2 = .ok (.invokevirtual 449, 3) := dk_182 1 193 (dk_at dksX8_pullsOf_0 2 rfl rfl)
theorem dX8_pullsOf_5 : decode cX8_pullsOf 5 = .ok (.istore_n 2, 1) := dk_61 (dk_at dksX8_pullsOf_0 5 rfl rfl)
theorem dX8_pullsOf_6 : decode cX8_pullsOf 6 = .ok (.iconst 0, 1) := dk_3 (dk_at dksX8_pullsOf_0 6 rfl rfl)
theorem dX8_pullsOf_7 : decode cX8_pullsOf 7 = .ok (.istore_n 3, 1) := dk_62 (dk_at dksX8_pullsOf_0 7 rfl rfl)
theorem dX8_pullsOf_8 : decode cX8_pullsOf 8 = .ok (.iload_n 3, 1) := dk_29 (dk_at dksX8_pullsOf_0 8 rfl rfl)
theorem dX8_pullsOf_9 : decode cX8_pullsOf 9 = .ok (.aload_n 0, 1) := dk_42 (dk_at dksX8_pullsOf_0 9 rfl rfl)
theorem dX8_pullsOf_10 : decode cX8_pullsOf 10 = .ok (.getfield 373, 3) := dk_180 1 117 (dk_at dksX8_pullsOf_0 10 rfl rfl)
theorem dX8_pullsOf_13 : decode cX8_pullsOf 13 = .ok (.getfield 334, 3) := dk_180 1 78 (dk_at dksX8_pullsOf_0 13 rfl rfl)
theorem dX8_pullsOf_16 : decode cX8_pullsOf 16 = .ok (.if_icmp .ge 30, 3) := dk_162 0 30 (dk_at dksX8_pullsOf_0 16 rfl rfl)
theorem dX8_pullsOf_19 : decode cX8_pullsOf 19 = .ok (.iload_n 2, 1) := dk_28 (dk_at dksX8_pullsOf_0 19 rfl rfl)
theorem dX8_pullsOf_20 : decode cX8_pullsOf 20 = .ok (.aload_n 0, 1) := dk_42 (dk_at dksX8_pullsOf_0 20 rfl rfl)
theorem dX8_pullsOf_21 : decode cX8_pullsOf 21 = .ok (.getfield 373, 3) := dk_180 1 117 (dk_at dksX8_pullsOf_0 21 rfl rfl)
theorem dX8_pullsOf_24 : decode cX8_pullsOf 24 = .ok (.getfield 343, 3) := dk_180 1 87 (dk_at dksX8_pullsOf_1 0 rfl rfl)
theorem dX8_pullsOf_27 : decode cX8_pullsOf 27 = .ok (.iload_n 3, 1) := dk_29 (dk_at dksX8_pullsOf_1 3 rfl rfl)
theorem dX8_pullsOf_28 : decode cX8_pullsOf 28 = .ok (.iaload, 1) := dk_46 (dk_at dksX8_pullsOf_1 4 rfl rfl)
theorem dX8_pullsOf_29 : decode cX8_pullsOf 29 = .ok (.iload_n 1, 1) := dk_27 (dk_at dksX8_pullsOf_1 5 rfl rfl)
theorem dX8_pullsOf_30 : decode cX8_pullsOf 30 = .ok (.if_icmp .ne 7, 3) := dk_160 0 7 (dk_at dksX8_pullsOf_1 6 rfl rfl)
theorem dX8_pullsOf_33 : decode cX8_pullsOf 33 = .ok (.iconst 1, 1) := dk_4 (dk_at dksX8_pullsOf_1 9 rfl rfl)
theorem dX8_pullsOf_34 : decode cX8_pullsOf 34 = .ok (.goto 4, 3) := dk_167 0 4 (dk_at dksX8_pullsOf_1 10 rfl rfl)
theorem dX8_pullsOf_37 : decode cX8_pullsOf 37 = .ok (.iconst 0, 1) := dk_3 (dk_at dksX8_pullsOf_1 13 rfl rfl)
theorem dX8_pullsOf_38 : decode cX8_pullsOf 38 = .ok (.iadd, 1) := dk_96 (dk_at dksX8_pullsOf_1 14 rfl rfl)
theorem dX8_pullsOf_39 : decode cX8_pullsOf 39 = .ok (.istore_n 2, 1) := dk_61 (dk_at dksX8_pullsOf_1 15 rfl rfl)
theorem dX8_pullsOf_40 : decode cX8_pullsOf 40 = .ok (.iinc 3 1, 3) := dk_132 3 1 (dk_at dksX8_pullsOf_1 16 rfl rfl)
theorem dX8_pullsOf_43 : decode cX8_pullsOf 43 = .ok (.goto (-35), 3) := dk_167 255 221 (dk_at dksX8_pullsOf_1 19 rfl rfl)
theorem dX8_pullsOf_46 : decode cX8_pullsOf 46 = .ok (.iload_n 2, 1) := dk_28 (dk_at dksX8_pullsOf_1 22 rfl rfl)
theorem dX8_pullsOf_47 : decode cX8_pullsOf 47 = .ok (.ireturn, 1) := dk_172 (dk_at dksX8_pullsOf_1 23 rfl rfl)
abbrev cX8_wonBy : ByteArray := prog_20_method_63_code
def yX8_wonBy : MethodName := ⟨RX8, "wonBy", "(I)I"⟩
def dkwX8_wonBy_1 : List UInt8 := [46, 27, 160, 0, 7, 4, 167, 0, 4, 3, 96, 61, 132, 3, 1, 167, 255, 221, 28, 172]
abbrev dktX8_wonBy_1 : List UInt8 := dkwX8_wonBy_1 ++ []
def dkwX8_wonBy_0 : List UInt8 := [3, 61, 3, 62, 29, 42, 180, 1, 117, 180, 1, 78, 162, 0, 30, 28, 42, 180, 1, 117, 180, 1, 84, 29]
abbrev dktX8_wonBy_0 : List UInt8 := dkwX8_wonBy_0 ++ dktX8_wonBy_1
theorem dksX8_wonBy_0 : cX8_wonBy.data.toList.drop 0 = dktX8_wonBy_0 := by decide +kernel
theorem dksX8_wonBy_1 : cX8_wonBy.data.toList.drop 24 = dktX8_wonBy_1 := dk_seg dksX8_wonBy_0 24 rfl rfl
theorem dX8_wonBy_0 : decode cX8_wonBy 0 = .ok (.iconst 0, 1) := dk_3 (dk_at dksX8_wonBy_0 0 rfl rfl)
theorem dX8_wonBy_1 : decode cX8_wonBy 1 = .ok (.istore_n 2, 1) := dk_61 (dk_at dksX8_wonBy_0 1 rfl rfl)
theorem dX8_wonBy_2 : decode cX8_wonBy 2 = .ok (.iconst 0, 1) := dk_3 (dk_at dksX8_wonBy_0 2 rfl rfl)
theorem dX8_wonBy_3 : decode cX8_wonBy 3 = .ok (.istore_n 3, 1) := dk_62 (dk_at dksX8_wonBy_0 3 rfl rfl)
theorem dX8_wonBy_4 : decode cX8_wonBy 4 = .ok (.iload_n 3, 1) := dk_29 (dk_at dksX8_wonBy_0 4 rfl rfl)
theorem dX8_wonBy_5 : decode cX8_wonBy 5 = .ok (.aload_n 0, 1) := dk_42 (dk_at dksX8_wonBy_0 5 rfl rfl)
theorem dX8_wonBy_6 : decode cX8_wonBy 6 = .ok (.getfield 373, 3) := dk_180 1 117 (dk_at dksX8_wonBy_0 6 rfl rfl)
theorem dX8_wonBy_9 : decode cX8_wonBy 9 = .ok (.getfield 334, 3) := dk_180 1 78 (dk_at dksX8_wonBy_0 9 rfl rfl)
theorem dX8_wonBy_12 : decode cX8_wonBy 12 = .ok (.if_icmp .ge 30, 3) := dk_162 0 30 (dk_at dksX8_wonBy_0 12 rfl rfl)
theorem dX8_wonBy_15 : decode cX8_wonBy 15 = .ok (.iload_n 2, 1) := dk_28 (dk_at dksX8_wonBy_0 15 rfl rfl)
theorem dX8_wonBy_16 : decode cX8_wonBy 16 = .ok (.aload_n 0, 1) := dk_42 (dk_at dksX8_wonBy_0 16 rfl rfl)
theorem dX8_wonBy_17 : decode cX8_wonBy 17 = .ok (.getfield 373, 3) := dk_180 1 117 (dk_at dksX8_wonBy_0 17 rfl rfl)
theorem dX8_wonBy_20 : decode cX8_wonBy 20 = .ok (.getfield 340, 3) := dk_180 1 84 (dk_at dksX8_wonBy_0 20 rfl rfl)
theorem dX8_wonBy_23 : decode cX8_wonBy 23 = .ok (.iload_n 3, 1) := dk_29 (dk_at dksX8_wonBy_0 23 rfl rfl)
theorem dX8_wonBy_24 : decode cX8_wonBy 24 = .ok (.iaload, 1) := dk_46 (dk_at dksX8_wonBy_1 0 rfl rfl)
theorem dX8_wonBy_25 : decode cX8_wonBy 25 = .ok (.iload_n 1, 1) := dk_27 (dk_at dksX8_wonBy_1 1 rfl rfl)
theorem dX8_wonBy_26 : decode cX8_wonBy 26 = .ok (.if_icmp .ne 7, 3) := dk_160 0 7 (dk_at dksX8_wonBy_1 2 rfl rfl)
theorem dX8_wonBy_29 : decode cX8_wonBy 29 = .ok (.iconst 1, 1) := dk_4 (dk_at dksX8_wonBy_1 5 rfl rfl)
theorem dX8_wonBy_30 : decode cX8_wonBy 30 = .ok (.goto 4, 3) := dk_167 0 4 (dk_at dksX8_wonBy_1 6 rfl rfl)
theorem dX8_wonBy_33 : decode cX8_wonBy 33 = .ok (.iconst 0, 1) := dk_3 (dk_at dksX8_wonBy_1 9 rfl rfl)
theorem dX8_wonBy_34 : decode cX8_wonBy 34 = .ok (.iadd, 1) := dk_96 (dk_at dksX8_wonBy_1 10 rfl rfl)
theorem dX8_wonBy_35 : decode cX8_wonBy 35 = .ok (.istore_n 2, 1) := dk_61 (dk_at dksX8_wonBy_1 11 rfl rfl)
theorem dX8_wonBy_36 : decode cX8_wonBy 36 = .ok (.iinc 3 1, 3) := dk_132 3 1 (dk_at dksX8_wonBy_1 12 rfl rfl)
theorem dX8_wonBy_39 : decode cX8_wonBy 39 = .ok (.goto (-35), 3) := dk_167 255 221 (dk_at dksX8_wonBy_1 15 rfl rfl)
theorem dX8_wonBy_42 : decode cX8_wonBy 42 = .ok (.iload_n 2, 1) := dk_28 (dk_at dksX8_wonBy_1 18 rfl rfl)
theorem dX8_wonBy_43 : decode cX8_wonBy 43 = .ok (.ireturn, 1) := dk_172 (dk_at dksX8_wonBy_1 19 rfl rfl)
abbrev cX8_strength : ByteArray := prog_20_method_66_code
def yX8_strength : MethodName := ⟨RX8, "strength", "(IIII)I"⟩
def dkwX8_strength_2 : List UInt8 := [182, 1, 156, 182, 0, 63, 172]
abbrev dktX8_strength_2 : List UInt8 := dkwX8_strength_2 ++ []
def dkwX8_strength_1 : List UInt8 := [42, 4, 182, 0, 59, 172, 42, 27, 21, 4, 4, 21, 4, 4, 5, 182, 1, 140, 42, 42, 28, 29]
abbrev dktX8_strength_1 : List UInt8 := dkwX8_strength_1 ++ dktX8_strength_2
def dkwX8_strength_0 : List UInt8 := [42, 3, 181, 0, 53, 42, 27, 28, 29, 182, 1, 190, 153, 0, 12, 42, 21, 4, 182, 1, 185, 154, 0, 9]
abbrev dktX8_strength_0 : List UInt8 := dkwX8_strength_0 ++ dktX8_strength_1
theorem dksX8_strength_0 : cX8_strength.data.toList.drop 0 = dktX8_strength_0 := by decide +kernel
theorem dksX8_strength_1 : cX8_strength.data.toList.drop 24 = dktX8_strength_1 := dk_seg dksX8_strength_0 24 rfl rfl
theorem dksX8_strength_2 : cX8_strength.data.toList.drop 46 = dktX8_strength_2 := dk_seg dksX8_strength_1 22 rfl rfl
theorem dX8_strength_0 : decode cX8_strength 0 = .ok (.aload_n 0, 1) := dk_42 (dk_at dksX8_strength_0 0 rfl rfl)
theorem dX8_strength_1 : decode cX8_strength 1 = .ok (.iconst 0, 1) := dk_3 (dk_at dksX8_strength_0 1 rfl rfl)
theorem dX8_strength_2 : decode cX8_strength 2 = .ok (.putfield 53, 3) := dk_181 0 53 (dk_at dksX8_strength_0 2 rfl rfl)
theorem dX8_strength_5 : decode cX8_strength 5 = .ok (.aload_n 0, 1) := dk_42 (dk_at dksX8_strength_0 5 rfl rfl)
theorem dX8_strength_6 : decode cX8_strength 6 = .ok (.iload_n 1, 1) := dk_27 (dk_at dksX8_strength_0 6 rfl rfl)
theorem dX8_strength_7 : decode cX8_strength 7 = .ok (.iload_n 2, 1) := dk_28 (dk_at dksX8_strength_0 7 rfl rfl)
theorem dX8_strength_8 : decode cX8_strength 8 = .ok (.iload_n 3, 1) := dk_29 (dk_at dksX8_strength_0 8 rfl rfl)
theorem dX8_strength_9 : decode cX8_strength 9 = .ok (.invokevirtual 446, 3) := dk_182 1 190 (dk_at dksX8_strength_0 9 rfl rfl)
theorem dX8_strength_12 : decode cX8_strength 12 = .ok (.ifCond .eq 12, 3) := dk_153 0 12 (dk_at dksX8_strength_0 12 rfl rfl)
theorem dX8_strength_15 : decode cX8_strength 15 = .ok (.aload_n 0, 1) := dk_42 (dk_at dksX8_strength_0 15 rfl rfl)
theorem dX8_strength_16 : decode cX8_strength 16 = .ok (.iload 4, 2) := dk_21 4 (dk_at dksX8_strength_0 16 rfl rfl)
theorem dX8_strength_18 : decode cX8_strength 18 = .ok (.invokevirtual 441, 3) := dk_182 1 185 (dk_at dksX8_strength_0 18 rfl rfl)
theorem dX8_strength_21 : decode cX8_strength 21 = .ok (.ifCond .ne 9, 3) := dk_154 0 9 (dk_at dksX8_strength_0 21 rfl rfl)
theorem dX8_strength_24 : decode cX8_strength 24 = .ok (.aload_n 0, 1) := dk_42 (dk_at dksX8_strength_1 0 rfl rfl)
theorem dX8_strength_25 : decode cX8_strength 25 = .ok (.iconst 1, 1) := dk_4 (dk_at dksX8_strength_1 1 rfl rfl)
theorem dX8_strength_26 : decode cX8_strength 26 = .ok (.invokevirtual 59, 3) := dk_182 0 59 (dk_at dksX8_strength_1 2 rfl rfl)
theorem dX8_strength_29 : decode cX8_strength 29 = .ok (.ireturn, 1) := dk_172 (dk_at dksX8_strength_1 5 rfl rfl)
theorem dX8_strength_30 : decode cX8_strength 30 = .ok (.aload_n 0, 1) := dk_42 (dk_at dksX8_strength_1 6 rfl rfl)
theorem dX8_strength_31 : decode cX8_strength 31 = .ok (.iload_n 1, 1) := dk_27 (dk_at dksX8_strength_1 7 rfl rfl)
theorem dX8_strength_32 : decode cX8_strength 32 = .ok (.iload 4, 2) := dk_21 4 (dk_at dksX8_strength_1 8 rfl rfl)
theorem dX8_strength_34 : decode cX8_strength 34 = .ok (.iconst 1, 1) := dk_4 (dk_at dksX8_strength_1 10 rfl rfl)
theorem dX8_strength_35 : decode cX8_strength 35 = .ok (.iload 4, 2) := dk_21 4 (dk_at dksX8_strength_1 11 rfl rfl)
theorem dX8_strength_37 : decode cX8_strength 37 = .ok (.iconst 1, 1) := dk_4 (dk_at dksX8_strength_1 13 rfl rfl)
theorem dX8_strength_38 : decode cX8_strength 38 = .ok (.iconst 2, 1) := dk_5 (dk_at dksX8_strength_1 14 rfl rfl)
theorem dX8_strength_39 : decode cX8_strength 39 = .ok (.invokevirtual 396, 3) := dk_182 1 140 (dk_at dksX8_strength_1 15 rfl rfl)
theorem dX8_strength_42 : decode cX8_strength 42 = .ok (.aload_n 0, 1) := dk_42 (dk_at dksX8_strength_1 18 rfl rfl)
theorem dX8_strength_43 : decode cX8_strength 43 = .ok (.aload_n 0, 1) := dk_42 (dk_at dksX8_strength_1 19 rfl rfl)
theorem dX8_strength_44 : decode cX8_strength 44 = .ok (.iload_n 2, 1) := dk_28 (dk_at dksX8_strength_1 20 rfl rfl)
theorem dX8_strength_45 : decode cX8_strength 45 = .ok (.iload_n 3, 1) := dk_29 (dk_at dksX8_strength_1 21 rfl rfl)
theorem dX8_strength_46 : decode cX8_strength 46 = .ok (.invokevirtual 412, 3) := dk_182 1 156 (dk_at dksX8_strength_2 0 rfl rfl)
theorem dX8_strength_49 : decode cX8_strength 49 = .ok (.invokevirtual 63, 3) := dk_182 0 63 (dk_at dksX8_strength_2 3 rfl rfl)
theorem dX8_strength_52 : decode cX8_strength 52 = .ok (.ireturn, 1) := dk_172 (dk_at dksX8_strength_2 6 rfl rfl)
abbrev cX8_lays : ByteArray := prog_20_method_46_code
def yX8_lays : MethodName := ⟨RX8, "lays", "(IIIIII)V"⟩
def dkwX8_lays_4 : List UInt8 := [21, 4, 182, 1, 130, 153, 0, 7, 4, 167, 0, 4, 3, 84, 42, 2, 181, 1, 133, 177]
abbrev dktX8_lays_4 : List UInt8 := dkwX8_lays_4 ++ []
def dkwX8_lays_3 : List UInt8 := [167, 0, 4, 3, 84, 42, 180, 0, 33, 4, 21, 6, 4, 159, 0, 18, 21, 6, 6, 159, 0, 12, 42]
abbrev dktX8_lays_3 : List UInt8 := dkwX8_lays_3 ++ dktX8_lays_4
def dkwX8_lays_2 : List UInt8 := [180, 0, 33, 3, 21, 6, 153, 0, 17, 21, 6, 6, 159, 0, 11, 42, 28, 182, 1, 130, 153, 0, 7, 4]
abbrev dktX8_lays_2 : List UInt8 := dkwX8_lays_2 ++ dktX8_lays_3
def dkwX8_lays_1 : List UInt8 := [42, 180, 0, 27, 4, 21, 4, 79, 42, 180, 0, 30, 3, 29, 79, 42, 180, 0, 30, 4, 21, 5, 79, 42]
abbrev dktX8_lays_1 : List UInt8 := dkwX8_lays_1 ++ dktX8_lays_2
def dkwX8_lays_0 : List UInt8 := [42, 27, 181, 1, 125, 42, 42, 180, 0, 17, 8, 27, 96, 46, 181, 1, 127, 42, 180, 0, 27, 3, 28, 79]
abbrev dktX8_lays_0 : List UInt8 := dkwX8_lays_0 ++ dktX8_lays_1
theorem dksX8_lays_0 : cX8_lays.data.toList.drop 0 = dktX8_lays_0 := by decide +kernel
theorem dksX8_lays_1 : cX8_lays.data.toList.drop 24 = dktX8_lays_1 := dk_seg dksX8_lays_0 24 rfl rfl
theorem dksX8_lays_2 : cX8_lays.data.toList.drop 48 = dktX8_lays_2 := dk_seg dksX8_lays_1 24 rfl rfl
theorem dksX8_lays_3 : cX8_lays.data.toList.drop 72 = dktX8_lays_3 := dk_seg dksX8_lays_2 24 rfl rfl
theorem dksX8_lays_4 : cX8_lays.data.toList.drop 95 = dktX8_lays_4 := dk_seg dksX8_lays_3 23 rfl rfl
theorem dX8_lays_0 : decode cX8_lays 0 = .ok (.aload_n 0, 1) := dk_42 (dk_at dksX8_lays_0 0 rfl rfl)
theorem dX8_lays_1 : decode cX8_lays 1 = .ok (.iload_n 1, 1) := dk_27 (dk_at dksX8_lays_0 1 rfl rfl)
theorem dX8_lays_2 : decode cX8_lays 2 = .ok (.putfield 381, 3) := dk_181 1 125 (dk_at dksX8_lays_0 2 rfl rfl)
theorem dX8_lays_5 : decode cX8_lays 5 = .ok (.aload_n 0, 1) := dk_42 (dk_at dksX8_lays_0 5 rfl rfl)
theorem dX8_lays_6 : decode cX8_lays 6 = .ok (.aload_n 0, 1) := dk_42 (dk_at dksX8_lays_0 6 rfl rfl)
theorem dX8_lays_7 : decode cX8_lays 7 = .ok (.getfield 17, 3) := dk_180 0 17 (dk_at dksX8_lays_0 7 rfl rfl)
theorem dX8_lays_10 : decode cX8_lays 10 = .ok (.iconst 5, 1) := dk_8 (dk_at dksX8_lays_0 10 rfl rfl)
theorem dX8_lays_11 : decode cX8_lays 11 = .ok (.iload_n 1, 1) := dk_27 (dk_at dksX8_lays_0 11 rfl rfl)
theorem dX8_lays_12 : decode cX8_lays 12 = .ok (.iadd, 1) := dk_96 (dk_at dksX8_lays_0 12 rfl rfl)
theorem dX8_lays_13 : decode cX8_lays 13 = .ok (.iaload, 1) := dk_46 (dk_at dksX8_lays_0 13 rfl rfl)
theorem dX8_lays_14 : decode cX8_lays 14 = .ok (.putfield 383, 3) := dk_181 1 127 (dk_at dksX8_lays_0 14 rfl rfl)
theorem dX8_lays_17 : decode cX8_lays 17 = .ok (.aload_n 0, 1) := dk_42 (dk_at dksX8_lays_0 17 rfl rfl)
theorem dX8_lays_18 : decode cX8_lays 18 = .ok (.getfield 27, 3) := dk_180 0 27 (dk_at dksX8_lays_0 18 rfl rfl)
theorem dX8_lays_21 : decode cX8_lays 21 = .ok (.iconst 0, 1) := dk_3 (dk_at dksX8_lays_0 21 rfl rfl)
theorem dX8_lays_22 : decode cX8_lays 22 = .ok (.iload_n 2, 1) := dk_28 (dk_at dksX8_lays_0 22 rfl rfl)
theorem dX8_lays_23 : decode cX8_lays 23 = .ok (.iastore, 1) := dk_79 (dk_at dksX8_lays_0 23 rfl rfl)
theorem dX8_lays_24 : decode cX8_lays 24 = .ok (.aload_n 0, 1) := dk_42 (dk_at dksX8_lays_1 0 rfl rfl)
theorem dX8_lays_25 : decode cX8_lays 25 = .ok (.getfield 27, 3) := dk_180 0 27 (dk_at dksX8_lays_1 1 rfl rfl)
theorem dX8_lays_28 : decode cX8_lays 28 = .ok (.iconst 1, 1) := dk_4 (dk_at dksX8_lays_1 4 rfl rfl)
theorem dX8_lays_29 : decode cX8_lays 29 = .ok (.iload 4, 2) := dk_21 4 (dk_at dksX8_lays_1 5 rfl rfl)
theorem dX8_lays_31 : decode cX8_lays 31 = .ok (.iastore, 1) := dk_79 (dk_at dksX8_lays_1 7 rfl rfl)
theorem dX8_lays_32 : decode cX8_lays 32 = .ok (.aload_n 0, 1) := dk_42 (dk_at dksX8_lays_1 8 rfl rfl)
theorem dX8_lays_33 : decode cX8_lays 33 = .ok (.getfield 30, 3) := dk_180 0 30 (dk_at dksX8_lays_1 9 rfl rfl)
theorem dX8_lays_36 : decode cX8_lays 36 = .ok (.iconst 0, 1) := dk_3 (dk_at dksX8_lays_1 12 rfl rfl)
theorem dX8_lays_37 : decode cX8_lays 37 = .ok (.iload_n 3, 1) := dk_29 (dk_at dksX8_lays_1 13 rfl rfl)
theorem dX8_lays_38 : decode cX8_lays 38 = .ok (.iastore, 1) := dk_79 (dk_at dksX8_lays_1 14 rfl rfl)
theorem dX8_lays_39 : decode cX8_lays 39 = .ok (.aload_n 0, 1) := dk_42 (dk_at dksX8_lays_1 15 rfl rfl)
theorem dX8_lays_40 : decode cX8_lays 40 = .ok (.getfield 30, 3) := dk_180 0 30 (dk_at dksX8_lays_1 16 rfl rfl)
theorem dX8_lays_43 : decode cX8_lays 43 = .ok (.iconst 1, 1) := dk_4 (dk_at dksX8_lays_1 19 rfl rfl)
theorem dX8_lays_44 : decode cX8_lays 44 = .ok (.iload 5, 2) := dk_21 5 (dk_at dksX8_lays_1 20 rfl rfl)
theorem dX8_lays_46 : decode cX8_lays 46 = .ok (.iastore, 1) := dk_79 (dk_at dksX8_lays_1 22 rfl rfl)
theorem dX8_lays_47 : decode cX8_lays 47 = .ok (.aload_n 0, 1) := dk_42 (dk_at dksX8_lays_1 23 rfl rfl)
theorem dX8_lays_48 : decode cX8_lays 48 = .ok (.getfield 33, 3) := dk_180 0 33 (dk_at dksX8_lays_2 0 rfl rfl)
theorem dX8_lays_51 : decode cX8_lays 51 = .ok (.iconst 0, 1) := dk_3 (dk_at dksX8_lays_2 3 rfl rfl)
theorem dX8_lays_52 : decode cX8_lays 52 = .ok (.iload 6, 2) := dk_21 6 (dk_at dksX8_lays_2 4 rfl rfl)
theorem dX8_lays_54 : decode cX8_lays 54 = .ok (.ifCond .eq 17, 3) := dk_153 0 17 (dk_at dksX8_lays_2 6 rfl rfl)
theorem dX8_lays_57 : decode cX8_lays 57 = .ok (.iload 6, 2) := dk_21 6 (dk_at dksX8_lays_2 9 rfl rfl)
theorem dX8_lays_59 : decode cX8_lays 59 = .ok (.iconst 3, 1) := dk_6 (dk_at dksX8_lays_2 11 rfl rfl)
theorem dX8_lays_60 : decode cX8_lays 60 = .ok (.if_icmp .eq 11, 3) := dk_159 0 11 (dk_at dksX8_lays_2 12 rfl rfl)
theorem dX8_lays_63 : decode cX8_lays 63 = .ok (.aload_n 0, 1) := dk_42 (dk_at dksX8_lays_2 15 rfl rfl)
theorem dX8_lays_64 : decode cX8_lays 64 = .ok (.iload_n 2, 1) := dk_28 (dk_at dksX8_lays_2 16 rfl rfl)
theorem dX8_lays_65 : decode cX8_lays 65 = .ok (.invokevirtual 386, 3) := dk_182 1 130 (dk_at dksX8_lays_2 17 rfl rfl)
theorem dX8_lays_68 : decode cX8_lays 68 = .ok (.ifCond .eq 7, 3) := dk_153 0 7 (dk_at dksX8_lays_2 20 rfl rfl)
theorem dX8_lays_71 : decode cX8_lays 71 = .ok (.iconst 1, 1) := dk_4 (dk_at dksX8_lays_2 23 rfl rfl)
theorem dX8_lays_72 : decode cX8_lays 72 = .ok (.goto 4, 3) := dk_167 0 4 (dk_at dksX8_lays_3 0 rfl rfl)
theorem dX8_lays_75 : decode cX8_lays 75 = .ok (.iconst 0, 1) := dk_3 (dk_at dksX8_lays_3 3 rfl rfl)
theorem dX8_lays_76 : decode cX8_lays 76 = .ok (.bastore, 1) := dk_84 (dk_at dksX8_lays_3 4 rfl rfl)
theorem dX8_lays_77 : decode cX8_lays 77 = .ok (.aload_n 0, 1) := dk_42 (dk_at dksX8_lays_3 5 rfl rfl)
theorem dX8_lays_78 : decode cX8_lays 78 = .ok (.getfield 33, 3) := dk_180 0 33 (dk_at dksX8_lays_3 6 rfl rfl)
theorem dX8_lays_81 : decode cX8_lays 81 = .ok (.iconst 1, 1) := dk_4 (dk_at dksX8_lays_3 9 rfl rfl)
theorem dX8_lays_82 : decode cX8_lays 82 = .ok (.iload 6, 2) := dk_21 6 (dk_at dksX8_lays_3 10 rfl rfl)
theorem dX8_lays_84 : decode cX8_lays 84 = .ok (.iconst 1, 1) := dk_4 (dk_at dksX8_lays_3 12 rfl rfl)
theorem dX8_lays_85 : decode cX8_lays 85 = .ok (.if_icmp .eq 18, 3) := dk_159 0 18 (dk_at dksX8_lays_3 13 rfl rfl)
theorem dX8_lays_88 : decode cX8_lays 88 = .ok (.iload 6, 2) := dk_21 6 (dk_at dksX8_lays_3 16 rfl rfl)
theorem dX8_lays_90 : decode cX8_lays 90 = .ok (.iconst 3, 1) := dk_6 (dk_at dksX8_lays_3 18 rfl rfl)
theorem dX8_lays_91 : decode cX8_lays 91 = .ok (.if_icmp .eq 12, 3) := dk_159 0 12 (dk_at dksX8_lays_3 19 rfl rfl)
theorem dX8_lays_94 : decode cX8_lays 94 = .ok (.aload_n 0, 1) := dk_42 (dk_at dksX8_lays_3 22 rfl rfl)
theorem dX8_lays_95 : decode cX8_lays 95 = .ok (.iload 4, 2) := dk_21 4 (dk_at dksX8_lays_4 0 rfl rfl)
theorem dX8_lays_97 : decode cX8_lays 97 = .ok (.invokevirtual 386, 3) := dk_182 1 130 (dk_at dksX8_lays_4 2 rfl rfl)
theorem dX8_lays_100 : decode cX8_lays 100 = .ok (.ifCond .eq 7, 3) := dk_153 0 7 (dk_at dksX8_lays_4 5 rfl rfl)
theorem dX8_lays_103 : decode cX8_lays 103 = .ok (.iconst 1, 1) := dk_4 (dk_at dksX8_lays_4 8 rfl rfl)
theorem dX8_lays_104 : decode cX8_lays 104 = .ok (.goto 4, 3) := dk_167 0 4 (dk_at dksX8_lays_4 9 rfl rfl)
theorem dX8_lays_107 : decode cX8_lays 107 = .ok (.iconst 0, 1) := dk_3 (dk_at dksX8_lays_4 12 rfl rfl)
theorem dX8_lays_108 : decode cX8_lays 108 = .ok (.bastore, 1) := dk_84 (dk_at dksX8_lays_4 13 rfl rfl)
theorem dX8_lays_109 : decode cX8_lays 109 = .ok (.aload_n 0, 1) := dk_42 (dk_at dksX8_lays_4 14 rfl rfl)
theorem dX8_lays_110 : decode cX8_lays 110 = .ok (.iconst (-1), 1) := dk_2 (dk_at dksX8_lays_4 15 rfl rfl)
theorem dX8_lays_111 : decode cX8_lays 111 = .ok (.putfield 389, 3) := dk_181 1 133 (dk_at dksX8_lays_4 16 rfl rfl)
theorem dX8_lays_114 : decode cX8_lays 114 = .ok (.return_, 1) := dk_177 (dk_at dksX8_lays_4 19 rfl rfl)
abbrev cX8_isChild : ByteArray := prog_20_method_45_code
def yX8_isChild : MethodName := ⟨RX8, "isChild", "(I)Z"⟩
def dkwX8_isChild_0 : List UInt8 := [42, 180, 1, 117, 180, 1, 51, 27, 46, 5, 160, 0, 7, 4, 167, 0, 4, 3, 172]
abbrev dktX8_isChild_0 : List UInt8 := dkwX8_isChild_0 ++ []
theorem dksX8_isChild_0 : cX8_isChild.data.toList.drop 0 = dktX8_isChild_0 := by decide +kernel
theorem dX8_isChild_0 : decode cX8_isChild 0 = .ok (.aload_n 0, 1) := dk_42 (dk_at dksX8_isChild_0 0 rfl rfl)
theorem dX8_isChild_1 : decode cX8_isChild 1 = .ok (.getfield 373, 3) := dk_180 1 117 (dk_at dksX8_isChild_0 1 rfl rfl)
theorem dX8_isChild_4 : decode cX8_isChild 4 = .ok (.getfield 307, 3) := dk_180 1 51 (dk_at dksX8_isChild_0 4 rfl rfl)
theorem dX8_isChild_7 : decode cX8_isChild 7 = .ok (.iload_n 1, 1) := dk_27 (dk_at dksX8_isChild_0 7 rfl rfl)
theorem dX8_isChild_8 : decode cX8_isChild 8 = .ok (.iaload, 1) := dk_46 (dk_at dksX8_isChild_0 8 rfl rfl)
theorem dX8_isChild_9 : decode cX8_isChild 9 = .ok (.iconst 2, 1) := dk_5 (dk_at dksX8_isChild_0 9 rfl rfl)
theorem dX8_isChild_10 : decode cX8_isChild 10 = .ok (.if_icmp .ne 7, 3) := dk_160 0 7 (dk_at dksX8_isChild_0 10 rfl rfl)
theorem dX8_isChild_13 : decode cX8_isChild 13 = .ok (.iconst 1, 1) := dk_4 (dk_at dksX8_isChild_0 13 rfl rfl)
theorem dX8_isChild_14 : decode cX8_isChild 14 = .ok (.goto 4, 3) := dk_167 0 4 (dk_at dksX8_isChild_0 14 rfl rfl)
theorem dX8_isChild_17 : decode cX8_isChild 17 = .ok (.iconst 0, 1) := dk_3 (dk_at dksX8_isChild_0 17 rfl rfl)
theorem dX8_isChild_18 : decode cX8_isChild 18 = .ok (.ireturn, 1) := dk_172 (dk_at dksX8_isChild_0 18 rfl rfl)
abbrev cX8_strengthAt : ByteArray := prog_20_method_48_code
def yX8_strengthAt : MethodName := ⟨RX8, "strengthAt", "(II)I"⟩
def dkwX8_strengthAt_3 : List UInt8 := [28, 42, 180, 1, 147, 160, 0, 9, 29, 5, 108, 167, 0, 4, 29, 172]
abbrev dktX8_strengthAt_3 : List UInt8 := dkwX8_strengthAt_3 ++ []
def dkwX8_strengthAt_2 : List UInt8 := [160, 0, 13, 42, 180, 1, 117, 180, 1, 0, 167, 0, 4, 3, 96, 62, 27, 42, 180, 1, 133, 160, 0, 17]
abbrev dktX8_strengthAt_2 : List UInt8 := dkwX8_strengthAt_2 ++ dktX8_strengthAt_3
def dkwX8_strengthAt_1 : List UInt8 := [100, 104, 28, 5, 162, 0, 31, 42, 180, 1, 117, 180, 1, 51, 42, 180, 0, 27, 27, 46, 46, 6]
abbrev dktX8_strengthAt_1 : List UInt8 := dkwX8_strengthAt_1 ++ dktX8_strengthAt_2
def dkwX8_strengthAt_0 : List UInt8 := [42, 180, 1, 117, 42, 180, 1, 125, 27, 28, 182, 1, 144, 42, 180, 1, 117, 180, 0, 252, 42, 180, 1, 127]
abbrev dktX8_strengthAt_0 : List UInt8 := dkwX8_strengthAt_0 ++ dktX8_strengthAt_1
theorem dksX8_strengthAt_0 : cX8_strengthAt.data.toList.drop 0 = dktX8_strengthAt_0 := by decide +kernel
theorem dksX8_strengthAt_1 : cX8_strengthAt.data.toList.drop 24 = dktX8_strengthAt_1 := dk_seg dksX8_strengthAt_0 24 rfl rfl
theorem dksX8_strengthAt_2 : cX8_strengthAt.data.toList.drop 46 = dktX8_strengthAt_2 := dk_seg dksX8_strengthAt_1 22 rfl rfl
theorem dksX8_strengthAt_3 : cX8_strengthAt.data.toList.drop 70 = dktX8_strengthAt_3 := dk_seg dksX8_strengthAt_2 24 rfl rfl
theorem dX8_strengthAt_0 : decode cX8_strengthAt 0 = .ok (.aload_n 0, 1) := dk_42 (dk_at dksX8_strengthAt_0 0 rfl rfl)
theorem dX8_strengthAt_1 : decode cX8_strengthAt 1 = .ok (.getfield 373, 3) := dk_180 1 117 (dk_at dksX8_strengthAt_0 1 rfl rfl)
theorem dX8_strengthAt_4 : decode cX8_strengthAt 4 = .ok (.aload_n 0, 1) := dk_42 (dk_at dksX8_strengthAt_0 4 rfl rfl)
theorem dX8_strengthAt_5 : decode cX8_strengthAt 5 = .ok (.getfield 381, 3) := dk_180 1 125 (dk_at dksX8_strengthAt_0 5 rfl rfl)
theorem dX8_strengthAt_8 : decode cX8_strengthAt 8 = .ok (.iload_n 1, 1) := dk_27 (dk_at dksX8_strengthAt_0 8 rfl rfl)
theorem dX8_strengthAt_9 : decode cX8_strengthAt 9 = .ok (.iload_n 2, 1) := dk_28 (dk_at dksX8_strengthAt_0 9 rfl rfl)
theorem dX8_strengthAt_10 : decode cX8_strengthAt 10 = .ok (.invokevirtual 400, 3) := dk_182 1 144 (dk_at dksX8_strengthAt_0 10 rfl rfl)
theorem dX8_strengthAt_13 : decode cX8_strengthAt 13 = .ok (.aload_n 0, 1) := dk_42 (dk_at dksX8_strengthAt_0 13 rfl rfl)
theorem dX8_strengthAt_14 : decode cX8_strengthAt 14 = .ok (.getfield 373, 3) := dk_180 1 117 (dk_at dksX8_strengthAt_0 14 rfl rfl)
theorem dX8_strengthAt_17 : decode cX8_strengthAt 17 = .ok (.getfield 252, 3) := dk_180 0 252 (dk_at dksX8_strengthAt_0 17 rfl rfl)
theorem dX8_strengthAt_20 : decode cX8_strengthAt 20 = .ok (.aload_n 0, 1) := dk_42 (dk_at dksX8_strengthAt_0 20 rfl rfl)
theorem dX8_strengthAt_21 : decode cX8_strengthAt 21 = .ok (.getfield 383, 3) := dk_180 1 127 (dk_at dksX8_strengthAt_0 21 rfl rfl)
theorem dX8_strengthAt_24 : decode cX8_strengthAt 24 = .ok (.isub, 1) := dk_100 (dk_at dksX8_strengthAt_1 0 rfl rfl)
theorem dX8_strengthAt_25 : decode cX8_strengthAt 25 = .ok (.imul, 1) := dk_104 (dk_at dksX8_strengthAt_1 1 rfl rfl)
theorem dX8_strengthAt_26 : decode cX8_strengthAt 26 = .ok (.iload_n 2, 1) := dk_28 (dk_at dksX8_strengthAt_1 2 rfl rfl)
theorem dX8_strengthAt_27 : decode cX8_strengthAt 27 = .ok (.iconst 2, 1) := dk_5 (dk_at dksX8_strengthAt_1 3 rfl rfl)
theorem dX8_strengthAt_28 : decode cX8_strengthAt 28 = .ok (.if_icmp .ge 31, 3) := dk_162 0 31 (dk_at dksX8_strengthAt_1 4 rfl rfl)
theorem dX8_strengthAt_31 : decode cX8_strengthAt 31 = .ok (.aload_n 0, 1) := dk_42 (dk_at dksX8_strengthAt_1 7 rfl rfl)
theorem dX8_strengthAt_32 : decode cX8_strengthAt 32 = .ok (.getfield 373, 3) := dk_180 1 117 (dk_at dksX8_strengthAt_1 8 rfl rfl)
theorem dX8_strengthAt_35 : decode cX8_strengthAt 35 = .ok (.getfield 307, 3) := dk_180 1 51 (dk_at dksX8_strengthAt_1 11 rfl rfl)
theorem dX8_strengthAt_38 : decode cX8_strengthAt 38 = .ok (.aload_n 0, 1) := dk_42 (dk_at dksX8_strengthAt_1 14 rfl rfl)
theorem dX8_strengthAt_39 : decode cX8_strengthAt 39 = .ok (.getfield 27, 3) := dk_180 0 27 (dk_at dksX8_strengthAt_1 15 rfl rfl)
theorem dX8_strengthAt_42 : decode cX8_strengthAt 42 = .ok (.iload_n 1, 1) := dk_27 (dk_at dksX8_strengthAt_1 18 rfl rfl)
theorem dX8_strengthAt_43 : decode cX8_strengthAt 43 = .ok (.iaload, 1) := dk_46 (dk_at dksX8_strengthAt_1 19 rfl rfl)
theorem dX8_strengthAt_44 : decode cX8_strengthAt 44 = .ok (.iaload, 1) := dk_46 (dk_at dksX8_strengthAt_1 20 rfl rfl)
theorem dX8_strengthAt_45 : decode cX8_strengthAt 45 = .ok (.iconst 3, 1) := dk_6 (dk_at dksX8_strengthAt_1 21 rfl rfl)
theorem dX8_strengthAt_46 : decode cX8_strengthAt 46 = .ok (.if_icmp .ne 13, 3) := dk_160 0 13 (dk_at dksX8_strengthAt_2 0 rfl rfl)
theorem dX8_strengthAt_49 : decode cX8_strengthAt 49 = .ok (.aload_n 0, 1) := dk_42 (dk_at dksX8_strengthAt_2 3 rfl rfl)
theorem dX8_strengthAt_50 : decode cX8_strengthAt 50 = .ok (.getfield 373, 3) := dk_180 1 117 (dk_at dksX8_strengthAt_2 4 rfl rfl)
theorem dX8_strengthAt_53 : decode cX8_strengthAt 53 = .ok (.getfield 256, 3) := dk_180 1 0 (dk_at dksX8_strengthAt_2 7 rfl rfl)
theorem dX8_strengthAt_56 : decode cX8_strengthAt 56 = .ok (.goto 4, 3) := dk_167 0 4 (dk_at dksX8_strengthAt_2 10 rfl rfl)
theorem dX8_strengthAt_59 : decode cX8_strengthAt 59 = .ok (.iconst 0, 1) := dk_3 (dk_at dksX8_strengthAt_2 13 rfl rfl)
theorem dX8_strengthAt_60 : decode cX8_strengthAt 60 = .ok (.iadd, 1) := dk_96 (dk_at dksX8_strengthAt_2 14 rfl rfl)
theorem dX8_strengthAt_61 : decode cX8_strengthAt 61 = .ok (.istore_n 3, 1) := dk_62 (dk_at dksX8_strengthAt_2 15 rfl rfl)
theorem dX8_strengthAt_62 : decode cX8_strengthAt 62 = .ok (.iload_n 1, 1) := dk_27 (dk_at dksX8_strengthAt_2 16 rfl rfl)
theorem dX8_strengthAt_63 : decode cX8_strengthAt 63 = .ok (.aload_n 0, 1) := dk_42 (dk_at dksX8_strengthAt_2 17 rfl rfl)
theorem dX8_strengthAt_64 : decode cX8_strengthAt 64 = .ok (.getfield 389, 3) := dk_180 1 133 (dk_at dksX8_strengthAt_2 18 rfl rfl)
theorem dX8_strengthAt_67 : decode cX8_strengthAt 67 = .ok (.if_icmp .ne 17, 3) := dk_160 0 17 (dk_at dksX8_strengthAt_2 21 rfl rfl)
theorem dX8_strengthAt_70 : decode cX8_strengthAt 70 = .ok (.iload_n 2, 1) := dk_28 (dk_at dksX8_strengthAt_3 0 rfl rfl)
theorem dX8_strengthAt_71 : decode cX8_strengthAt 71 = .ok (.aload_n 0, 1) := dk_42 (dk_at dksX8_strengthAt_3 1 rfl rfl)
theorem dX8_strengthAt_72 : decode cX8_strengthAt 72 = .ok (.getfield 403, 3) := dk_180 1 147 (dk_at dksX8_strengthAt_3 2 rfl rfl)
theorem dX8_strengthAt_75 : decode cX8_strengthAt 75 = .ok (.if_icmp .ne 9, 3) := dk_160 0 9 (dk_at dksX8_strengthAt_3 5 rfl rfl)
theorem dX8_strengthAt_78 : decode cX8_strengthAt 78 = .ok (.iload_n 3, 1) := dk_29 (dk_at dksX8_strengthAt_3 8 rfl rfl)
theorem dX8_strengthAt_79 : decode cX8_strengthAt 79 = .ok (.iconst 2, 1) := dk_5 (dk_at dksX8_strengthAt_3 9 rfl rfl)
theorem dX8_strengthAt_80 : decode cX8_strengthAt 80 = .ok (.idiv, 1) := dk_108 (dk_at dksX8_strengthAt_3 10 rfl rfl)
theorem dX8_strengthAt_81 : decode cX8_strengthAt 81 = .ok (.goto 4, 3) := dk_167 0 4 (dk_at dksX8_strengthAt_3 11 rfl rfl)
theorem dX8_strengthAt_84 : decode cX8_strengthAt 84 = .ok (.iload_n 3, 1) := dk_29 (dk_at dksX8_strengthAt_3 14 rfl rfl)
theorem dX8_strengthAt_85 : decode cX8_strengthAt 85 = .ok (.ireturn, 1) := dk_172 (dk_at dksX8_strengthAt_3 15 rfl rfl)
abbrev cX8_strain : ByteArray := prog_20_method_67_code
def yX8_strain : MethodName := ⟨RX8, "strain", "(IIIIIIII)I"⟩
def dkwX8_strain_3 : List UInt8 := [182, 1, 140, 42, 42, 28, 29, 182, 1, 153, 182, 0, 63, 172]
abbrev dktX8_strain_3 : List UInt8 := dkwX8_strain_3 ++ []
def dkwX8_strain_2 : List UInt8 := [158, 0, 10, 42, 21, 9, 182, 0, 59, 172, 42, 27, 21, 4, 21, 5, 21, 6, 21, 7, 21, 8]
abbrev dktX8_strain_2 : List UInt8 := dkwX8_strain_2 ++ dktX8_strain_3
def dkwX8_strain_1 : List UInt8 := [153, 0, 7, 4, 167, 0, 4, 3, 27, 21, 5, 21, 7, 21, 8, 182, 1, 202, 54, 9, 21, 9]
abbrev dktX8_strain_1 : List UInt8 := dkwX8_strain_1 ++ dktX8_strain_2
def dkwX8_strain_0 : List UInt8 := [42, 3, 181, 0, 53, 42, 42, 27, 28, 29, 182, 1, 190, 153, 0, 18, 42, 21, 4, 21, 6, 182, 1, 199]
abbrev dktX8_strain_0 : List UInt8 := dkwX8_strain_0 ++ dktX8_strain_1
theorem dksX8_strain_0 : cX8_strain.data.toList.drop 0 = dktX8_strain_0 := by decide +kernel
theorem dksX8_strain_1 : cX8_strain.data.toList.drop 24 = dktX8_strain_1 := dk_seg dksX8_strain_0 24 rfl rfl
theorem dksX8_strain_2 : cX8_strain.data.toList.drop 46 = dktX8_strain_2 := dk_seg dksX8_strain_1 22 rfl rfl
theorem dksX8_strain_3 : cX8_strain.data.toList.drop 68 = dktX8_strain_3 := dk_seg dksX8_strain_2 22 rfl rfl
theorem dX8_strain_0 : decode cX8_strain 0 = .ok (.aload_n 0, 1) := dk_42 (dk_at dksX8_strain_0 0 rfl rfl)
theorem dX8_strain_1 : decode cX8_strain 1 = .ok (.iconst 0, 1) := dk_3 (dk_at dksX8_strain_0 1 rfl rfl)
theorem dX8_strain_2 : decode cX8_strain 2 = .ok (.putfield 53, 3) := dk_181 0 53 (dk_at dksX8_strain_0 2 rfl rfl)
theorem dX8_strain_5 : decode cX8_strain 5 = .ok (.aload_n 0, 1) := dk_42 (dk_at dksX8_strain_0 5 rfl rfl)
theorem dX8_strain_6 : decode cX8_strain 6 = .ok (.aload_n 0, 1) := dk_42 (dk_at dksX8_strain_0 6 rfl rfl)
theorem dX8_strain_7 : decode cX8_strain 7 = .ok (.iload_n 1, 1) := dk_27 (dk_at dksX8_strain_0 7 rfl rfl)
theorem dX8_strain_8 : decode cX8_strain 8 = .ok (.iload_n 2, 1) := dk_28 (dk_at dksX8_strain_0 8 rfl rfl)
theorem dX8_strain_9 : decode cX8_strain 9 = .ok (.iload_n 3, 1) := dk_29 (dk_at dksX8_strain_0 9 rfl rfl)
theorem dX8_strain_10 : decode cX8_strain 10 = .ok (.invokevirtual 446, 3) := dk_182 1 190 (dk_at dksX8_strain_0 10 rfl rfl)
theorem dX8_strain_13 : decode cX8_strain 13 = .ok (.ifCond .eq 18, 3) := dk_153 0 18 (dk_at dksX8_strain_0 13 rfl rfl)
theorem dX8_strain_16 : decode cX8_strain 16 = .ok (.aload_n 0, 1) := dk_42 (dk_at dksX8_strain_0 16 rfl rfl)
theorem dX8_strain_17 : decode cX8_strain 17 = .ok (.iload 4, 2) := dk_21 4 (dk_at dksX8_strain_0 17 rfl rfl)
theorem dX8_strain_19 : decode cX8_strain 19 = .ok (.iload 6, 2) := dk_21 6 (dk_at dksX8_strain_0 19 rfl rfl)
theorem dX8_strain_21 : decode cX8_strain 21 = .ok (.invokevirtual 455, 3) := dk_182 1 199 (dk_at dksX8_strain_0 21 rfl rfl)
theorem dX8_strain_24 : decode cX8_strain 24 = .ok (.ifCond .eq 7, 3) := dk_153 0 7 (dk_at dksX8_strain_1 0 rfl rfl)
theorem dX8_strain_27 : decode cX8_strain 27 = .ok (.iconst 1, 1) := dk_4 (dk_at dksX8_strain_1 3 rfl rfl)
theorem dX8_strain_28 : decode cX8_strain 28 = .ok (.goto 4, 3) := dk_167 0 4 (dk_at dksX8_strain_1 4 rfl rfl)
theorem dX8_strain_31 : decode cX8_strain 31 = .ok (.iconst 0, 1) := dk_3 (dk_at dksX8_strain_1 7 rfl rfl)
theorem dX8_strain_32 : decode cX8_strain 32 = .ok (.iload_n 1, 1) := dk_27 (dk_at dksX8_strain_1 8 rfl rfl)
theorem dX8_strain_33 : decode cX8_strain 33 = .ok (.iload 5, 2) := dk_21 5 (dk_at dksX8_strain_1 9 rfl rfl)
theorem dX8_strain_35 : decode cX8_strain 35 = .ok (.iload 7, 2) := dk_21 7 (dk_at dksX8_strain_1 11 rfl rfl)
theorem dX8_strain_37 : decode cX8_strain 37 = .ok (.iload 8, 2) := dk_21 8 (dk_at dksX8_strain_1 13 rfl rfl)
theorem dX8_strain_39 : decode cX8_strain 39 = .ok (.invokevirtual 458, 3) := dk_182 1 202 (dk_at dksX8_strain_1 15 rfl rfl)
theorem dX8_strain_42 : decode cX8_strain 42 = .ok (.istore 9, 2) := dk_54 9 (dk_at dksX8_strain_1 18 rfl rfl)
theorem dX8_strain_44 : decode cX8_strain 44 = .ok (.iload 9, 2) := dk_21 9 (dk_at dksX8_strain_1 20 rfl rfl)
theorem dX8_strain_46 : decode cX8_strain 46 = .ok (.ifCond .le 10, 3) := dk_158 0 10 (dk_at dksX8_strain_2 0 rfl rfl)
theorem dX8_strain_49 : decode cX8_strain 49 = .ok (.aload_n 0, 1) := dk_42 (dk_at dksX8_strain_2 3 rfl rfl)
theorem dX8_strain_50 : decode cX8_strain 50 = .ok (.iload 9, 2) := dk_21 9 (dk_at dksX8_strain_2 4 rfl rfl)
theorem dX8_strain_52 : decode cX8_strain 52 = .ok (.invokevirtual 59, 3) := dk_182 0 59 (dk_at dksX8_strain_2 6 rfl rfl)
theorem dX8_strain_55 : decode cX8_strain 55 = .ok (.ireturn, 1) := dk_172 (dk_at dksX8_strain_2 9 rfl rfl)
theorem dX8_strain_56 : decode cX8_strain 56 = .ok (.aload_n 0, 1) := dk_42 (dk_at dksX8_strain_2 10 rfl rfl)
theorem dX8_strain_57 : decode cX8_strain 57 = .ok (.iload_n 1, 1) := dk_27 (dk_at dksX8_strain_2 11 rfl rfl)
theorem dX8_strain_58 : decode cX8_strain 58 = .ok (.iload 4, 2) := dk_21 4 (dk_at dksX8_strain_2 12 rfl rfl)
theorem dX8_strain_60 : decode cX8_strain 60 = .ok (.iload 5, 2) := dk_21 5 (dk_at dksX8_strain_2 14 rfl rfl)
theorem dX8_strain_62 : decode cX8_strain 62 = .ok (.iload 6, 2) := dk_21 6 (dk_at dksX8_strain_2 16 rfl rfl)
theorem dX8_strain_64 : decode cX8_strain 64 = .ok (.iload 7, 2) := dk_21 7 (dk_at dksX8_strain_2 18 rfl rfl)
theorem dX8_strain_66 : decode cX8_strain 66 = .ok (.iload 8, 2) := dk_21 8 (dk_at dksX8_strain_2 20 rfl rfl)
theorem dX8_strain_68 : decode cX8_strain 68 = .ok (.invokevirtual 396, 3) := dk_182 1 140 (dk_at dksX8_strain_3 0 rfl rfl)
theorem dX8_strain_71 : decode cX8_strain 71 = .ok (.aload_n 0, 1) := dk_42 (dk_at dksX8_strain_3 3 rfl rfl)
theorem dX8_strain_72 : decode cX8_strain 72 = .ok (.aload_n 0, 1) := dk_42 (dk_at dksX8_strain_3 4 rfl rfl)
theorem dX8_strain_73 : decode cX8_strain 73 = .ok (.iload_n 2, 1) := dk_28 (dk_at dksX8_strain_3 5 rfl rfl)
theorem dX8_strain_74 : decode cX8_strain 74 = .ok (.iload_n 3, 1) := dk_29 (dk_at dksX8_strain_3 6 rfl rfl)
theorem dX8_strain_75 : decode cX8_strain 75 = .ok (.invokevirtual 409, 3) := dk_182 1 153 (dk_at dksX8_strain_3 7 rfl rfl)
theorem dX8_strain_78 : decode cX8_strain 78 = .ok (.invokevirtual 63, 3) := dk_182 0 63 (dk_at dksX8_strain_3 10 rfl rfl)
theorem dX8_strain_81 : decode cX8_strain 81 = .ok (.ireturn, 1) := dk_172 (dk_at dksX8_strain_3 13 rfl rfl)
abbrev cX8_isPair : ByteArray := prog_20_method_58_code
def yX8_isPair : MethodName := ⟨RX8, "isPair", "(II)Z"⟩
def dkwX8_isPair_1 : List UInt8 := [167, 0, 4, 3, 172]
abbrev dktX8_isPair_1 : List UInt8 := dkwX8_isPair_1 ++ []
def dkwX8_isPair_0 : List UInt8 := [42, 27, 182, 1, 185, 153, 0, 20, 42, 28, 182, 1, 185, 153, 0, 12, 27, 28, 159, 0, 7, 4]
abbrev dktX8_isPair_0 : List UInt8 := dkwX8_isPair_0 ++ dktX8_isPair_1
theorem dksX8_isPair_0 : cX8_isPair.data.toList.drop 0 = dktX8_isPair_0 := by decide +kernel
theorem dksX8_isPair_1 : cX8_isPair.data.toList.drop 22 = dktX8_isPair_1 := dk_seg dksX8_isPair_0 22 rfl rfl
theorem dX8_isPair_0 : decode cX8_isPair 0 = .ok (.aload_n 0, 1) := dk_42 (dk_at dksX8_isPair_0 0 rfl rfl)
theorem dX8_isPair_1 : decode cX8_isPair 1 = .ok (.iload_n 1, 1) := dk_27 (dk_at dksX8_isPair_0 1 rfl rfl)
theorem dX8_isPair_2 : decode cX8_isPair 2 = .ok (.invokevirtual 441, 3) := dk_182 1 185 (dk_at dksX8_isPair_0 2 rfl rfl)
theorem dX8_isPair_5 : decode cX8_isPair 5 = .ok (.ifCond .eq 20, 3) := dk_153 0 20 (dk_at dksX8_isPair_0 5 rfl rfl)
theorem dX8_isPair_8 : decode cX8_isPair 8 = .ok (.aload_n 0, 1) := dk_42 (dk_at dksX8_isPair_0 8 rfl rfl)
theorem dX8_isPair_9 : decode cX8_isPair 9 = .ok (.iload_n 2, 1) := dk_28 (dk_at dksX8_isPair_0 9 rfl rfl)
theorem dX8_isPair_10 : decode cX8_isPair 10 = .ok (.invokevirtual 441, 3) := dk_182 1 185 (dk_at dksX8_isPair_0 10 rfl rfl)
theorem dX8_isPair_13 : decode cX8_isPair 13 = .ok (.ifCond .eq 12, 3) := dk_153 0 12 (dk_at dksX8_isPair_0 13 rfl rfl)
theorem dX8_isPair_16 : decode cX8_isPair 16 = .ok (.iload_n 1, 1) := dk_27 (dk_at dksX8_isPair_0 16 rfl rfl)
theorem dX8_isPair_17 : decode cX8_isPair 17 = .ok (.iload_n 2, 1) := dk_28 (dk_at dksX8_isPair_0 17 rfl rfl)
theorem dX8_isPair_18 : decode cX8_isPair 18 = .ok (.if_icmp .eq 7, 3) := dk_159 0 7 (dk_at dksX8_isPair_0 18 rfl rfl)
theorem dX8_isPair_21 : decode cX8_isPair 21 = .ok (.iconst 1, 1) := dk_4 (dk_at dksX8_isPair_0 21 rfl rfl)
theorem dX8_isPair_22 : decode cX8_isPair 22 = .ok (.goto 4, 3) := dk_167 0 4 (dk_at dksX8_isPair_1 0 rfl rfl)
theorem dX8_isPair_25 : decode cX8_isPair 25 = .ok (.iconst 0, 1) := dk_3 (dk_at dksX8_isPair_1 3 rfl rfl)
theorem dX8_isPair_26 : decode cX8_isPair 26 = .ok (.ireturn, 1) := dk_172 (dk_at dksX8_isPair_1 4 rfl rfl)
abbrev cX8_refusesPull : ByteArray := prog_20_method_60_code
def yX8_refusesPull : MethodName := ⟨RX8, "refusesPull", "(ZIIII)I"⟩
def dkwX8_refusesPull_2 : List UInt8 := [184, 0, 138, 153, 0, 7, 3, 167, 0, 4, 5, 172]
abbrev dktX8_refusesPull_2 : List UInt8 := dkwX8_refusesPull_2 ++ []
def dkwX8_refusesPull_1 : List UInt8 := [21, 4, 4, 42, 180, 1, 117, 28, 4, 182, 1, 150, 184, 0, 138, 153, 0, 17, 21, 5, 3, 6]
abbrev dktX8_refusesPull_1 : List UInt8 := dkwX8_refusesPull_1 ++ dktX8_refusesPull_2
def dkwX8_refusesPull_0 : List UInt8 := [27, 154, 0, 5, 4, 172, 29, 4, 42, 180, 1, 117, 28, 3, 182, 1, 150, 184, 0, 138, 153, 0, 35]
abbrev dktX8_refusesPull_0 : List UInt8 := dkwX8_refusesPull_0 ++ dktX8_refusesPull_1
theorem dksX8_refusesPull_0 : cX8_refusesPull.data.toList.drop 0 = dktX8_refusesPull_0 := by decide +kernel
theorem dksX8_refusesPull_1 : cX8_refusesPull.data.toList.drop 23 = dktX8_refusesPull_1 := dk_seg dksX8_refusesPull_0 23 rfl rfl
theorem dksX8_refusesPull_2 : cX8_refusesPull.data.toList.drop 45 = dktX8_refusesPull_2 := dk_seg dksX8_refusesPull_1 22 rfl rfl
theorem dX8_refusesPull_0 : decode cX8_refusesPull 0 = .ok (.iload_n 1, 1) := dk_27 (dk_at dksX8_refusesPull_0 0 rfl rfl)
theorem dX8_refusesPull_1 : decode cX8_refusesPull 1 = .ok (.ifCond .ne 5, 3) := dk_154 0 5 (dk_at dksX8_refusesPull_0 1 rfl rfl)
theorem dX8_refusesPull_4 : decode cX8_refusesPull 4 = .ok (.iconst 1, 1) := dk_4 (dk_at dksX8_refusesPull_0 4 rfl rfl)
theorem dX8_refusesPull_5 : decode cX8_refusesPull 5 = .ok (.ireturn, 1) := dk_172 (dk_at dksX8_refusesPull_0 5 rfl rfl)
theorem dX8_refusesPull_6 : decode cX8_refusesPull 6 = .ok (.iload_n 3, 1) := dk_29 (dk_at dksX8_refusesPull_0 6 rfl rfl)
theorem dX8_refusesPull_7 : decode cX8_refusesPull 7 = .ok (.iconst 1, 1) := dk_4 (dk_at dksX8_refusesPull_0 7 rfl rfl)
theorem dX8_refusesPull_8 : decode cX8_refusesPull 8 = .ok (.aload_n 0, 1) := dk_42 (dk_at dksX8_refusesPull_0 8 rfl rfl)
theorem dX8_refusesPull_9 : decode cX8_refusesPull 9 = .ok (.getfield 373, 3) := dk_180 1 117 (dk_at dksX8_refusesPull_0 9 rfl rfl)
theorem dX8_refusesPull_12 : decode cX8_refusesPull 12 = .ok (.iload_n 2, 1) := dk_28 (dk_at dksX8_refusesPull_0 12 rfl rfl)
theorem dX8_refusesPull_13 : decode cX8_refusesPull 13 = .ok (.iconst 0, 1) := dk_3 (dk_at dksX8_refusesPull_0 13 rfl rfl)
theorem dX8_refusesPull_14 : decode cX8_refusesPull 14 = .ok (.invokevirtual 406, 3) := dk_182 1 150 (dk_at dksX8_refusesPull_0 14 rfl rfl)
theorem dX8_refusesPull_17 : decode cX8_refusesPull 17 = .ok (.invokestatic 138, 3) := dk_184 0 138 (dk_at dksX8_refusesPull_0 17 rfl rfl)
theorem dX8_refusesPull_20 : decode cX8_refusesPull 20 = .ok (.ifCond .eq 35, 3) := dk_153 0 35 (dk_at dksX8_refusesPull_0 20 rfl rfl)
theorem dX8_refusesPull_23 : decode cX8_refusesPull 23 = .ok (.iload 4, 2) := dk_21 4 (dk_at dksX8_refusesPull_1 0 rfl rfl)
theorem dX8_refusesPull_25 : decode cX8_refusesPull 25 = .ok (.iconst 1, 1) := dk_4 (dk_at dksX8_refusesPull_1 2 rfl rfl)
theorem dX8_refusesPull_26 : decode cX8_refusesPull 26 = .ok (.aload_n 0, 1) := dk_42 (dk_at dksX8_refusesPull_1 3 rfl rfl)
theorem dX8_refusesPull_27 : decode cX8_refusesPull 27 = .ok (.getfield 373, 3) := dk_180 1 117 (dk_at dksX8_refusesPull_1 4 rfl rfl)
theorem dX8_refusesPull_30 : decode cX8_refusesPull 30 = .ok (.iload_n 2, 1) := dk_28 (dk_at dksX8_refusesPull_1 7 rfl rfl)
theorem dX8_refusesPull_31 : decode cX8_refusesPull 31 = .ok (.iconst 1, 1) := dk_4 (dk_at dksX8_refusesPull_1 8 rfl rfl)
theorem dX8_refusesPull_32 : decode cX8_refusesPull 32 = .ok (.invokevirtual 406, 3) := dk_182 1 150 (dk_at dksX8_refusesPull_1 9 rfl rfl)
theorem dX8_refusesPull_35 : decode cX8_refusesPull 35 = .ok (.invokestatic 138, 3) := dk_184 0 138 (dk_at dksX8_refusesPull_1 12 rfl rfl)
theorem dX8_refusesPull_38 : decode cX8_refusesPull 38 = .ok (.ifCond .eq 17, 3) := dk_153 0 17 (dk_at dksX8_refusesPull_1 15 rfl rfl)
theorem dX8_refusesPull_41 : decode cX8_refusesPull 41 = .ok (.iload 5, 2) := dk_21 5 (dk_at dksX8_refusesPull_1 18 rfl rfl)
theorem dX8_refusesPull_43 : decode cX8_refusesPull 43 = .ok (.iconst 0, 1) := dk_3 (dk_at dksX8_refusesPull_1 20 rfl rfl)
theorem dX8_refusesPull_44 : decode cX8_refusesPull 44 = .ok (.iconst 3, 1) := dk_6 (dk_at dksX8_refusesPull_1 21 rfl rfl)
theorem dX8_refusesPull_45 : decode cX8_refusesPull 45 = .ok (.invokestatic 138, 3) := dk_184 0 138 (dk_at dksX8_refusesPull_2 0 rfl rfl)
theorem dX8_refusesPull_48 : decode cX8_refusesPull 48 = .ok (.ifCond .eq 7, 3) := dk_153 0 7 (dk_at dksX8_refusesPull_2 3 rfl rfl)
theorem dX8_refusesPull_51 : decode cX8_refusesPull 51 = .ok (.iconst 0, 1) := dk_3 (dk_at dksX8_refusesPull_2 6 rfl rfl)
theorem dX8_refusesPull_52 : decode cX8_refusesPull 52 = .ok (.goto 4, 3) := dk_167 0 4 (dk_at dksX8_refusesPull_2 7 rfl rfl)
theorem dX8_refusesPull_55 : decode cX8_refusesPull 55 = .ok (.iconst 2, 1) := dk_5 (dk_at dksX8_refusesPull_2 10 rfl rfl)
theorem dX8_refusesPull_56 : decode cX8_refusesPull 56 = .ok (.ireturn, 1) := dk_172 (dk_at dksX8_refusesPull_2 11 rfl rfl)
abbrev cX8_strainAt : ByteArray := prog_20_method_49_code
def yX8_strainAt : MethodName := ⟨RX8, "strainAt", "(II)I"⟩
def dkwX8_strainAt_2 : List UInt8 := [100, 104, 42, 180, 0, 33, 27, 51, 153, 0, 13, 42, 180, 1, 117, 180, 0, 254, 167, 0, 4, 3, 96, 172]
abbrev dktX8_strainAt_2 : List UInt8 := dkwX8_strainAt_2 ++ []
def dkwX8_strainAt_1 : List UInt8 := [46, 46, 42, 180, 1, 117, 180, 1, 54, 42, 180, 0, 27, 4, 46, 46, 96, 42, 180, 0, 30, 27, 46, 28]
abbrev dktX8_strainAt_1 : List UInt8 := dkwX8_strainAt_1 ++ dktX8_strainAt_2
def dkwX8_strainAt_0 : List UInt8 := [28, 42, 180, 0, 30, 27, 46, 161, 0, 5, 3, 172, 42, 180, 1, 117, 180, 1, 54, 42, 180, 0, 27, 3]
abbrev dktX8_strainAt_0 : List UInt8 := dkwX8_strainAt_0 ++ dktX8_strainAt_1
theorem dksX8_strainAt_0 : cX8_strainAt.data.toList.drop 0 = dktX8_strainAt_0 := by decide +kernel
theorem dksX8_strainAt_1 : cX8_strainAt.data.toList.drop 24 = dktX8_strainAt_1 := dk_seg dksX8_strainAt_0 24 rfl rfl
theorem dksX8_strainAt_2 : cX8_strainAt.data.toList.drop 48 = dktX8_strainAt_2 := dk_seg dksX8_strainAt_1 24 rfl rfl
theorem dX8_strainAt_0 : decode cX8_strainAt 0 = .ok (.iload_n 2, 1) := dk_28 (dk_at dksX8_strainAt_0 0 rfl rfl)
theorem dX8_strainAt_1 : decode cX8_strainAt 1 = .ok (.aload_n 0, 1) := dk_42 (dk_at dksX8_strainAt_0 1 rfl rfl)
theorem dX8_strainAt_2 : decode cX8_strainAt 2 = .ok (.getfield 30, 3) := dk_180 0 30 (dk_at dksX8_strainAt_0 2 rfl rfl)
theorem dX8_strainAt_5 : decode cX8_strainAt 5 = .ok (.iload_n 1, 1) := dk_27 (dk_at dksX8_strainAt_0 5 rfl rfl)
theorem dX8_strainAt_6 : decode cX8_strainAt 6 = .ok (.iaload, 1) := dk_46 (dk_at dksX8_strainAt_0 6 rfl rfl)
theorem dX8_strainAt_7 : decode cX8_strainAt 7 = .ok (.if_icmp .lt 5, 3) := dk_161 0 5 (dk_at dksX8_strainAt_0 7 rfl rfl)
theorem dX8_strainAt_10 : decode cX8_strainAt 10 = .ok (.iconst 0, 1) := dk_3 (dk_at dksX8_strainAt_0 10 rfl rfl)
theorem dX8_strainAt_11 : decode cX8_strainAt 11 = .ok (.ireturn, 1) := dk_172 (dk_at dksX8_strainAt_0 11 rfl rfl)
theorem dX8_strainAt_12 : decode cX8_strainAt 12 = .ok (.aload_n 0, 1) := dk_42 (dk_at dksX8_strainAt_0 12 rfl rfl)
theorem dX8_strainAt_13 : decode cX8_strainAt 13 = .ok (.getfield 373, 3) := dk_180 1 117 (dk_at dksX8_strainAt_0 13 rfl rfl)
theorem dX8_strainAt_16 : decode cX8_strainAt 16 = .ok (.getfield 310, 3) := dk_180 1 54 (dk_at dksX8_strainAt_0 16 rfl rfl)
theorem dX8_strainAt_19 : decode cX8_strainAt 19 = .ok (.aload_n 0, 1) := dk_42 (dk_at dksX8_strainAt_0 19 rfl rfl)
theorem dX8_strainAt_20 : decode cX8_strainAt 20 = .ok (.getfield 27, 3) := dk_180 0 27 (dk_at dksX8_strainAt_0 20 rfl rfl)
theorem dX8_strainAt_23 : decode cX8_strainAt 23 = .ok (.iconst 0, 1) := dk_3 (dk_at dksX8_strainAt_0 23 rfl rfl)
theorem dX8_strainAt_24 : decode cX8_strainAt 24 = .ok (.iaload, 1) := dk_46 (dk_at dksX8_strainAt_1 0 rfl rfl)
theorem dX8_strainAt_25 : decode cX8_strainAt 25 = .ok (.iaload, 1) := dk_46 (dk_at dksX8_strainAt_1 1 rfl rfl)
theorem dX8_strainAt_26 : decode cX8_strainAt 26 = .ok (.aload_n 0, 1) := dk_42 (dk_at dksX8_strainAt_1 2 rfl rfl)
theorem dX8_strainAt_27 : decode cX8_strainAt 27 = .ok (.getfield 373, 3) := dk_180 1 117 (dk_at dksX8_strainAt_1 3 rfl rfl)
theorem dX8_strainAt_30 : decode cX8_strainAt 30 = .ok (.getfield 310, 3) := dk_180 1 54 (dk_at dksX8_strainAt_1 6 rfl rfl)
theorem dX8_strainAt_33 : decode cX8_strainAt 33 = .ok (.aload_n 0, 1) := dk_42 (dk_at dksX8_strainAt_1 9 rfl rfl)
theorem dX8_strainAt_34 : decode cX8_strainAt 34 = .ok (.getfield 27, 3) := dk_180 0 27 (dk_at dksX8_strainAt_1 10 rfl rfl)
theorem dX8_strainAt_37 : decode cX8_strainAt 37 = .ok (.iconst 1, 1) := dk_4 (dk_at dksX8_strainAt_1 13 rfl rfl)
theorem dX8_strainAt_38 : decode cX8_strainAt 38 = .ok (.iaload, 1) := dk_46 (dk_at dksX8_strainAt_1 14 rfl rfl)
theorem dX8_strainAt_39 : decode cX8_strainAt 39 = .ok (.iaload, 1) := dk_46 (dk_at dksX8_strainAt_1 15 rfl rfl)
theorem dX8_strainAt_40 : decode cX8_strainAt 40 = .ok (.iadd, 1) := dk_96 (dk_at dksX8_strainAt_1 16 rfl rfl)
theorem dX8_strainAt_41 : decode cX8_strainAt 41 = .ok (.aload_n 0, 1) := dk_42 (dk_at dksX8_strainAt_1 17 rfl rfl)
theorem dX8_strainAt_42 : decode cX8_strainAt 42 = .ok (.getfield 30, 3) := dk_180 0 30 (dk_at dksX8_strainAt_1 18 rfl rfl)
theorem dX8_strainAt_45 : decode cX8_strainAt 45 = .ok (.iload_n 1, 1) := dk_27 (dk_at dksX8_strainAt_1 21 rfl rfl)
theorem dX8_strainAt_46 : decode cX8_strainAt 46 = .ok (.iaload, 1) := dk_46 (dk_at dksX8_strainAt_1 22 rfl rfl)
theorem dX8_strainAt_47 : decode cX8_strainAt 47 = .ok (.iload_n 2, 1) := dk_28 (dk_at dksX8_strainAt_1 23 rfl rfl)
theorem dX8_strainAt_48 : decode cX8_strainAt 48 = .ok (.isub, 1) := dk_100 (dk_at dksX8_strainAt_2 0 rfl rfl)
theorem dX8_strainAt_49 : decode cX8_strainAt 49 = .ok (.imul, 1) := dk_104 (dk_at dksX8_strainAt_2 1 rfl rfl)
theorem dX8_strainAt_50 : decode cX8_strainAt 50 = .ok (.aload_n 0, 1) := dk_42 (dk_at dksX8_strainAt_2 2 rfl rfl)
theorem dX8_strainAt_51 : decode cX8_strainAt 51 = .ok (.getfield 33, 3) := dk_180 0 33 (dk_at dksX8_strainAt_2 3 rfl rfl)
theorem dX8_strainAt_54 : decode cX8_strainAt 54 = .ok (.iload_n 1, 1) := dk_27 (dk_at dksX8_strainAt_2 6 rfl rfl)
theorem dX8_strainAt_55 : decode cX8_strainAt 55 = .ok (.baload, 1) := dk_51 (dk_at dksX8_strainAt_2 7 rfl rfl)
theorem dX8_strainAt_56 : decode cX8_strainAt 56 = .ok (.ifCond .eq 13, 3) := dk_153 0 13 (dk_at dksX8_strainAt_2 8 rfl rfl)
theorem dX8_strainAt_59 : decode cX8_strainAt 59 = .ok (.aload_n 0, 1) := dk_42 (dk_at dksX8_strainAt_2 11 rfl rfl)
theorem dX8_strainAt_60 : decode cX8_strainAt 60 = .ok (.getfield 373, 3) := dk_180 1 117 (dk_at dksX8_strainAt_2 12 rfl rfl)
theorem dX8_strainAt_63 : decode cX8_strainAt 63 = .ok (.getfield 254, 3) := dk_180 0 254 (dk_at dksX8_strainAt_2 15 rfl rfl)
theorem dX8_strainAt_66 : decode cX8_strainAt 66 = .ok (.goto 4, 3) := dk_167 0 4 (dk_at dksX8_strainAt_2 18 rfl rfl)
theorem dX8_strainAt_69 : decode cX8_strainAt 69 = .ok (.iconst 0, 1) := dk_3 (dk_at dksX8_strainAt_2 21 rfl rfl)
theorem dX8_strainAt_70 : decode cX8_strainAt 70 = .ok (.iadd, 1) := dk_96 (dk_at dksX8_strainAt_2 22 rfl rfl)
theorem dX8_strainAt_71 : decode cX8_strainAt 71 = .ok (.ireturn, 1) := dk_172 (dk_at dksX8_strainAt_2 23 rfl rfl)
abbrev cX8_pulled : ByteArray := prog_20_method_68_code
def yX8_pulled : MethodName := ⟨RX8, "pulled", "(IIIIII)I"⟩
def dkwX8_pulled_3 : List UInt8 := [182, 0, 63, 172]
abbrev dktX8_pulled_3 : List UInt8 := dkwX8_pulled_3 ++ []
def dkwX8_pulled_2 : List UInt8 := [182, 0, 59, 172, 42, 27, 28, 29, 21, 4, 21, 5, 21, 6, 182, 1, 140, 42, 42, 182, 1, 177]
abbrev dktX8_pulled_2 : List UInt8 := dkwX8_pulled_2 ++ dktX8_pulled_3
def dkwX8_pulled_1 : List UInt8 := [4, 167, 0, 4, 3, 27, 29, 21, 5, 21, 6, 182, 1, 202, 54, 7, 21, 7, 158, 0, 10, 42, 21, 7]
abbrev dktX8_pulled_1 : List UInt8 := dkwX8_pulled_1 ++ dktX8_pulled_2
def dkwX8_pulled_0 : List UInt8 := [42, 3, 181, 0, 53, 42, 42, 27, 182, 1, 188, 153, 0, 17, 42, 28, 21, 4, 182, 1, 199, 153, 0, 7]
abbrev dktX8_pulled_0 : List UInt8 := dkwX8_pulled_0 ++ dktX8_pulled_1
theorem dksX8_pulled_0 : cX8_pulled.data.toList.drop 0 = dktX8_pulled_0 := by decide +kernel
theorem dksX8_pulled_1 : cX8_pulled.data.toList.drop 24 = dktX8_pulled_1 := dk_seg dksX8_pulled_0 24 rfl rfl
theorem dksX8_pulled_2 : cX8_pulled.data.toList.drop 48 = dktX8_pulled_2 := dk_seg dksX8_pulled_1 24 rfl rfl
theorem dksX8_pulled_3 : cX8_pulled.data.toList.drop 70 = dktX8_pulled_3 := dk_seg dksX8_pulled_2 22 rfl rfl
theorem dX8_pulled_0 : decode cX8_pulled 0 = .ok (.aload_n 0, 1) := dk_42 (dk_at dksX8_pulled_0 0 rfl rfl)
theorem dX8_pulled_1 : decode cX8_pulled 1 = .ok (.iconst 0, 1) := dk_3 (dk_at dksX8_pulled_0 1 rfl rfl)
theorem dX8_pulled_2 : decode cX8_pulled 2 = .ok (.putfield 53, 3) := dk_181 0 53 (dk_at dksX8_pulled_0 2 rfl rfl)
theorem dX8_pulled_5 : decode cX8_pulled 5 = .ok (.aload_n 0, 1) := dk_42 (dk_at dksX8_pulled_0 5 rfl rfl)
theorem dX8_pulled_6 : decode cX8_pulled 6 = .ok (.aload_n 0, 1) := dk_42 (dk_at dksX8_pulled_0 6 rfl rfl)
theorem dX8_pulled_7 : decode cX8_pulled 7 = .ok (.iload_n 1, 1) := dk_27 (dk_at dksX8_pulled_0 7 rfl rfl)
theorem dX8_pulled_8 : decode cX8_pulled 8 = .ok (.invokevirtual 444, 3) := dk_182 1 188 (dk_at dksX8_pulled_0 8 rfl rfl)
theorem dX8_pulled_11 : decode cX8_pulled 11 = .ok (.ifCond .eq 17, 3) := dk_153 0 17 (dk_at dksX8_pulled_0 11 rfl rfl)
theorem dX8_pulled_14 : decode cX8_pulled 14 = .ok (.aload_n 0, 1) := dk_42 (dk_at dksX8_pulled_0 14 rfl rfl)
theorem dX8_pulled_15 : decode cX8_pulled 15 = .ok (.iload_n 2, 1) := dk_28 (dk_at dksX8_pulled_0 15 rfl rfl)
theorem dX8_pulled_16 : decode cX8_pulled 16 = .ok (.iload 4, 2) := dk_21 4 (dk_at dksX8_pulled_0 16 rfl rfl)
theorem dX8_pulled_18 : decode cX8_pulled 18 = .ok (.invokevirtual 455, 3) := dk_182 1 199 (dk_at dksX8_pulled_0 18 rfl rfl)
theorem dX8_pulled_21 : decode cX8_pulled 21 = .ok (.ifCond .eq 7, 3) := dk_153 0 7 (dk_at dksX8_pulled_0 21 rfl rfl)
theorem dX8_pulled_24 : decode cX8_pulled 24 = .ok (.iconst 1, 1) := dk_4 (dk_at dksX8_pulled_1 0 rfl rfl)
theorem dX8_pulled_25 : decode cX8_pulled 25 = .ok (.goto 4, 3) := dk_167 0 4 (dk_at dksX8_pulled_1 1 rfl rfl)
theorem dX8_pulled_28 : decode cX8_pulled 28 = .ok (.iconst 0, 1) := dk_3 (dk_at dksX8_pulled_1 4 rfl rfl)
theorem dX8_pulled_29 : decode cX8_pulled 29 = .ok (.iload_n 1, 1) := dk_27 (dk_at dksX8_pulled_1 5 rfl rfl)
theorem dX8_pulled_30 : decode cX8_pulled 30 = .ok (.iload_n 3, 1) := dk_29 (dk_at dksX8_pulled_1 6 rfl rfl)
theorem dX8_pulled_31 : decode cX8_pulled 31 = .ok (.iload 5, 2) := dk_21 5 (dk_at dksX8_pulled_1 7 rfl rfl)
theorem dX8_pulled_33 : decode cX8_pulled 33 = .ok (.iload 6, 2) := dk_21 6 (dk_at dksX8_pulled_1 9 rfl rfl)
theorem dX8_pulled_35 : decode cX8_pulled 35 = .ok (.invokevirtual 458, 3) := dk_182 1 202 (dk_at dksX8_pulled_1 11 rfl rfl)
theorem dX8_pulled_38 : decode cX8_pulled 38 = .ok (.istore 7, 2) := dk_54 7 (dk_at dksX8_pulled_1 14 rfl rfl)
theorem dX8_pulled_40 : decode cX8_pulled 40 = .ok (.iload 7, 2) := dk_21 7 (dk_at dksX8_pulled_1 16 rfl rfl)
theorem dX8_pulled_42 : decode cX8_pulled 42 = .ok (.ifCond .le 10, 3) := dk_158 0 10 (dk_at dksX8_pulled_1 18 rfl rfl)
theorem dX8_pulled_45 : decode cX8_pulled 45 = .ok (.aload_n 0, 1) := dk_42 (dk_at dksX8_pulled_1 21 rfl rfl)
theorem dX8_pulled_46 : decode cX8_pulled 46 = .ok (.iload 7, 2) := dk_21 7 (dk_at dksX8_pulled_1 22 rfl rfl)
theorem dX8_pulled_48 : decode cX8_pulled 48 = .ok (.invokevirtual 59, 3) := dk_182 0 59 (dk_at dksX8_pulled_2 0 rfl rfl)
theorem dX8_pulled_51 : decode cX8_pulled 51 = .ok (.ireturn, 1) := dk_172 (dk_at dksX8_pulled_2 3 rfl rfl)
theorem dX8_pulled_52 : decode cX8_pulled 52 = .ok (.aload_n 0, 1) := dk_42 (dk_at dksX8_pulled_2 4 rfl rfl)
theorem dX8_pulled_53 : decode cX8_pulled 53 = .ok (.iload_n 1, 1) := dk_27 (dk_at dksX8_pulled_2 5 rfl rfl)
theorem dX8_pulled_54 : decode cX8_pulled 54 = .ok (.iload_n 2, 1) := dk_28 (dk_at dksX8_pulled_2 6 rfl rfl)
theorem dX8_pulled_55 : decode cX8_pulled 55 = .ok (.iload_n 3, 1) := dk_29 (dk_at dksX8_pulled_2 7 rfl rfl)
theorem dX8_pulled_56 : decode cX8_pulled 56 = .ok (.iload 4, 2) := dk_21 4 (dk_at dksX8_pulled_2 8 rfl rfl)
theorem dX8_pulled_58 : decode cX8_pulled 58 = .ok (.iload 5, 2) := dk_21 5 (dk_at dksX8_pulled_2 10 rfl rfl)
theorem dX8_pulled_60 : decode cX8_pulled 60 = .ok (.iload 6, 2) := dk_21 6 (dk_at dksX8_pulled_2 12 rfl rfl)
theorem dX8_pulled_62 : decode cX8_pulled 62 = .ok (.invokevirtual 396, 3) := dk_182 1 140 (dk_at dksX8_pulled_2 14 rfl rfl)
theorem dX8_pulled_65 : decode cX8_pulled 65 = .ok (.aload_n 0, 1) := dk_42 (dk_at dksX8_pulled_2 17 rfl rfl)
theorem dX8_pulled_66 : decode cX8_pulled 66 = .ok (.aload_n 0, 1) := dk_42 (dk_at dksX8_pulled_2 18 rfl rfl)
theorem dX8_pulled_67 : decode cX8_pulled 67 = .ok (.invokevirtual 433, 3) := dk_182 1 177 (dk_at dksX8_pulled_2 19 rfl rfl)
theorem dX8_pulled_70 : decode cX8_pulled 70 = .ok (.invokevirtual 63, 3) := dk_182 0 63 (dk_at dksX8_pulled_3 0 rfl rfl)
theorem dX8_pulled_73 : decode cX8_pulled 73 = .ok (.ireturn, 1) := dk_172 (dk_at dksX8_pulled_3 3 rfl rfl)
abbrev cX8_comes : ByteArray := prog_20_method_52_code
def yX8_comes : MethodName := ⟨RX8, "comes", "()I"⟩
def dkwX8_comes_5 : List UInt8 := [167, 0, 4, 28, 181, 1, 171, 33, 9, 148, 158, 0, 7, 4, 167, 0, 4, 3, 172]
abbrev dktX8_comes_5 : List UInt8 := dkwX8_comes_5 ++ []
def dkwX8_comes_4 : List UInt8 := [172, 42, 33, 9, 148, 158, 0, 7, 3, 167, 0, 4, 4, 181, 1, 163, 42, 33, 9, 148, 158, 0, 7, 27]
abbrev dktX8_comes_4 : List UInt8 := dkwX8_comes_4 ++ dktX8_comes_5
def dkwX8_comes_3 : List UInt8 := [2, 160, 0, 7, 10, 167, 0, 11, 42, 3, 27, 4, 28, 182, 1, 159, 66, 33, 9, 148, 154, 0, 5, 5]
abbrev dktX8_comes_3 : List UInt8 := dkwX8_comes_3 ++ dktX8_comes_4
def dkwX8_comes_2 : List UInt8 := [27, 2, 160, 0, 10, 28, 2, 160, 0, 5, 6, 172, 27, 2, 160, 0, 9, 20, 1, 169, 167, 0, 20, 28]
abbrev dktX8_comes_2 : List UInt8 := dkwX8_comes_2 ++ dktX8_comes_3
def dkwX8_comes_1 : List UInt8 := [42, 180, 1, 125, 96, 46, 5, 160, 0, 5, 6, 172, 42, 3, 182, 1, 166, 60, 42, 4, 182, 1, 166, 61]
abbrev dktX8_comes_1 : List UInt8 := dkwX8_comes_1 ++ dktX8_comes_2
def dkwX8_comes_0 : List UInt8 := [42, 2, 181, 1, 163, 42, 180, 1, 127, 42, 180, 1, 117, 180, 0, 250, 161, 0, 18, 42, 180, 0, 17, 3]
abbrev dktX8_comes_0 : List UInt8 := dkwX8_comes_0 ++ dktX8_comes_1
theorem dksX8_comes_0 : cX8_comes.data.toList.drop 0 = dktX8_comes_0 := by decide +kernel
theorem dksX8_comes_1 : cX8_comes.data.toList.drop 24 = dktX8_comes_1 := dk_seg dksX8_comes_0 24 rfl rfl
theorem dksX8_comes_2 : cX8_comes.data.toList.drop 48 = dktX8_comes_2 := dk_seg dksX8_comes_1 24 rfl rfl
theorem dksX8_comes_3 : cX8_comes.data.toList.drop 72 = dktX8_comes_3 := dk_seg dksX8_comes_2 24 rfl rfl
theorem dksX8_comes_4 : cX8_comes.data.toList.drop 96 = dktX8_comes_4 := dk_seg dksX8_comes_3 24 rfl rfl
theorem dksX8_comes_5 : cX8_comes.data.toList.drop 120 = dktX8_comes_5 := dk_seg dksX8_comes_4 24 rfl rfl
theorem dX8_comes_0 : decode cX8_comes 0 = .ok (.aload_n 0, 1) := dk_42 (dk_at dksX8_comes_0 0 rfl rfl)
theorem dX8_comes_1 : decode cX8_comes 1 = .ok (.iconst (-1), 1) := dk_2 (dk_at dksX8_comes_0 1 rfl rfl)
theorem dX8_comes_2 : decode cX8_comes 2 = .ok (.putfield 419, 3) := dk_181 1 163 (dk_at dksX8_comes_0 2 rfl rfl)
theorem dX8_comes_5 : decode cX8_comes 5 = .ok (.aload_n 0, 1) := dk_42 (dk_at dksX8_comes_0 5 rfl rfl)
theorem dX8_comes_6 : decode cX8_comes 6 = .ok (.getfield 383, 3) := dk_180 1 127 (dk_at dksX8_comes_0 6 rfl rfl)
theorem dX8_comes_9 : decode cX8_comes 9 = .ok (.aload_n 0, 1) := dk_42 (dk_at dksX8_comes_0 9 rfl rfl)
theorem dX8_comes_10 : decode cX8_comes 10 = .ok (.getfield 373, 3) := dk_180 1 117 (dk_at dksX8_comes_0 10 rfl rfl)
theorem dX8_comes_13 : decode cX8_comes 13 = .ok (.getfield 250, 3) := dk_180 0 250 (dk_at dksX8_comes_0 13 rfl rfl)
theorem dX8_comes_16 : decode cX8_comes 16 = .ok (.if_icmp .lt 18, 3) := dk_161 0 18 (dk_at dksX8_comes_0 16 rfl rfl)
theorem dX8_comes_19 : decode cX8_comes 19 = .ok (.aload_n 0, 1) := dk_42 (dk_at dksX8_comes_0 19 rfl rfl)
theorem dX8_comes_20 : decode cX8_comes 20 = .ok (.getfield 17, 3) := dk_180 0 17 (dk_at dksX8_comes_0 20 rfl rfl)
theorem dX8_comes_23 : decode cX8_comes 23 = .ok (.iconst 0, 1) := dk_3 (dk_at dksX8_comes_0 23 rfl rfl)
theorem dX8_comes_24 : decode cX8_comes 24 = .ok (.aload_n 0, 1) := dk_42 (dk_at dksX8_comes_1 0 rfl rfl)
theorem dX8_comes_25 : decode cX8_comes 25 = .ok (.getfield 381, 3) := dk_180 1 125 (dk_at dksX8_comes_1 1 rfl rfl)
theorem dX8_comes_28 : decode cX8_comes 28 = .ok (.iadd, 1) := dk_96 (dk_at dksX8_comes_1 4 rfl rfl)
theorem dX8_comes_29 : decode cX8_comes 29 = .ok (.iaload, 1) := dk_46 (dk_at dksX8_comes_1 5 rfl rfl)
theorem dX8_comes_30 : decode cX8_comes 30 = .ok (.iconst 2, 1) := dk_5 (dk_at dksX8_comes_1 6 rfl rfl)
theorem dX8_comes_31 : decode cX8_comes 31 = .ok (.if_icmp .ne 5, 3) := dk_160 0 5 (dk_at dksX8_comes_1 7 rfl rfl)
theorem dX8_comes_34 : decode cX8_comes 34 = .ok (.iconst 3, 1) := dk_6 (dk_at dksX8_comes_1 10 rfl rfl)
theorem dX8_comes_35 : decode cX8_comes 35 = .ok (.ireturn, 1) := dk_172 (dk_at dksX8_comes_1 11 rfl rfl)
theorem dX8_comes_36 : decode cX8_comes 36 = .ok (.aload_n 0, 1) := dk_42 (dk_at dksX8_comes_1 12 rfl rfl)
theorem dX8_comes_37 : decode cX8_comes 37 = .ok (.iconst 0, 1) := dk_3 (dk_at dksX8_comes_1 13 rfl rfl)
theorem dX8_comes_38 : decode cX8_comes 38 = .ok (.invokevirtual 422, 3) := dk_182 1 166 (dk_at dksX8_comes_1 14 rfl rfl)
theorem dX8_comes_41 : decode cX8_comes 41 = .ok (.istore_n 1, 1) := dk_60 (dk_at dksX8_comes_1 17 rfl rfl)
theorem dX8_comes_42 : decode cX8_comes 42 = .ok (.aload_n 0, 1) := dk_42 (dk_at dksX8_comes_1 18 rfl rfl)
theorem dX8_comes_43 : decode cX8_comes 43 = .ok (.iconst 1, 1) := dk_4 (dk_at dksX8_comes_1 19 rfl rfl)
theorem dX8_comes_44 : decode cX8_comes 44 = .ok (.invokevirtual 422, 3) := dk_182 1 166 (dk_at dksX8_comes_1 20 rfl rfl)
theorem dX8_comes_47 : decode cX8_comes 47 = .ok (.istore_n 2, 1) := dk_61 (dk_at dksX8_comes_1 23 rfl rfl)
theorem dX8_comes_48 : decode cX8_comes 48 = .ok (.iload_n 1, 1) := dk_27 (dk_at dksX8_comes_2 0 rfl rfl)
theorem dX8_comes_49 : decode cX8_comes 49 = .ok (.iconst (-1), 1) := dk_2 (dk_at dksX8_comes_2 1 rfl rfl)
theorem dX8_comes_50 : decode cX8_comes 50 = .ok (.if_icmp .ne 10, 3) := dk_160 0 10 (dk_at dksX8_comes_2 2 rfl rfl)
theorem dX8_comes_53 : decode cX8_comes 53 = .ok (.iload_n 2, 1) := dk_28 (dk_at dksX8_comes_2 5 rfl rfl)
theorem dX8_comes_54 : decode cX8_comes 54 = .ok (.iconst (-1), 1) := dk_2 (dk_at dksX8_comes_2 6 rfl rfl)
theorem dX8_comes_55 : decode cX8_comes 55 = .ok (.if_icmp .ne 5, 3) := dk_160 0 5 (dk_at dksX8_comes_2 7 rfl rfl)
theorem dX8_comes_58 : decode cX8_comes 58 = .ok (.iconst 3, 1) := dk_6 (dk_at dksX8_comes_2 10 rfl rfl)
theorem dX8_comes_59 : decode cX8_comes 59 = .ok (.ireturn, 1) := dk_172 (dk_at dksX8_comes_2 11 rfl rfl)
theorem dX8_comes_60 : decode cX8_comes 60 = .ok (.iload_n 1, 1) := dk_27 (dk_at dksX8_comes_2 12 rfl rfl)
theorem dX8_comes_61 : decode cX8_comes 61 = .ok (.iconst (-1), 1) := dk_2 (dk_at dksX8_comes_2 13 rfl rfl)
theorem dX8_comes_62 : decode cX8_comes 62 = .ok (.if_icmp .ne 9, 3) := dk_160 0 9 (dk_at dksX8_comes_2 14 rfl rfl)
theorem dX8_comes_65 : decode cX8_comes 65 = .ok (.ldc2_w 425, 3) := dk_20 1 169 (dk_at dksX8_comes_2 17 rfl rfl)
theorem dX8_comes_68 : decode cX8_comes 68 = .ok (.goto 20, 3) := dk_167 0 20 (dk_at dksX8_comes_2 20 rfl rfl)
theorem dX8_comes_71 : decode cX8_comes 71 = .ok (.iload_n 2, 1) := dk_28 (dk_at dksX8_comes_2 23 rfl rfl)
theorem dX8_comes_72 : decode cX8_comes 72 = .ok (.iconst (-1), 1) := dk_2 (dk_at dksX8_comes_3 0 rfl rfl)
theorem dX8_comes_73 : decode cX8_comes 73 = .ok (.if_icmp .ne 7, 3) := dk_160 0 7 (dk_at dksX8_comes_3 1 rfl rfl)
theorem dX8_comes_76 : decode cX8_comes 76 = .ok (.lconst 1, 1) := dk_10 (dk_at dksX8_comes_3 4 rfl rfl)
theorem dX8_comes_77 : decode cX8_comes 77 = .ok (.goto 11, 3) := dk_167 0 11 (dk_at dksX8_comes_3 5 rfl rfl)
theorem dX8_comes_80 : decode cX8_comes 80 = .ok (.aload_n 0, 1) := dk_42 (dk_at dksX8_comes_3 8 rfl rfl)
theorem dX8_comes_81 : decode cX8_comes 81 = .ok (.iconst 0, 1) := dk_3 (dk_at dksX8_comes_3 9 rfl rfl)
theorem dX8_comes_82 : decode cX8_comes 82 = .ok (.iload_n 1, 1) := dk_27 (dk_at dksX8_comes_3 10 rfl rfl)
theorem dX8_comes_83 : decode cX8_comes 83 = .ok (.iconst 1, 1) := dk_4 (dk_at dksX8_comes_3 11 rfl rfl)
theorem dX8_comes_84 : decode cX8_comes 84 = .ok (.iload_n 2, 1) := dk_28 (dk_at dksX8_comes_3 12 rfl rfl)
theorem dX8_comes_85 : decode cX8_comes 85 = .ok (.invokevirtual 415, 3) := dk_182 1 159 (dk_at dksX8_comes_3 13 rfl rfl)
theorem dX8_comes_88 : decode cX8_comes 88 = .ok (.lstore_n 3, 1) := dk_66 (dk_at dksX8_comes_3 16 rfl rfl)
theorem dX8_comes_89 : decode cX8_comes 89 = .ok (.lload_n 3, 1) := dk_33 (dk_at dksX8_comes_3 17 rfl rfl)
theorem dX8_comes_90 : decode cX8_comes 90 = .ok (.lconst 0, 1) := dk_9 (dk_at dksX8_comes_3 18 rfl rfl)
theorem dX8_comes_91 : decode cX8_comes 91 = .ok (.lcmp, 1) := dk_148 (dk_at dksX8_comes_3 19 rfl rfl)
theorem dX8_comes_92 : decode cX8_comes 92 = .ok (.ifCond .ne 5, 3) := dk_154 0 5 (dk_at dksX8_comes_3 20 rfl rfl)
theorem dX8_comes_95 : decode cX8_comes 95 = .ok (.iconst 2, 1) := dk_5 (dk_at dksX8_comes_3 23 rfl rfl)
theorem dX8_comes_96 : decode cX8_comes 96 = .ok (.ireturn, 1) := dk_172 (dk_at dksX8_comes_4 0 rfl rfl)
theorem dX8_comes_97 : decode cX8_comes 97 = .ok (.aload_n 0, 1) := dk_42 (dk_at dksX8_comes_4 1 rfl rfl)
theorem dX8_comes_98 : decode cX8_comes 98 = .ok (.lload_n 3, 1) := dk_33 (dk_at dksX8_comes_4 2 rfl rfl)
theorem dX8_comes_99 : decode cX8_comes 99 = .ok (.lconst 0, 1) := dk_9 (dk_at dksX8_comes_4 3 rfl rfl)
theorem dX8_comes_100 : decode cX8_comes 100 = .ok (.lcmp, 1) := dk_148 (dk_at dksX8_comes_4 4 rfl rfl)
theorem dX8_comes_101 : decode cX8_comes 101 = .ok (.ifCond .le 7, 3) := dk_158 0 7 (dk_at dksX8_comes_4 5 rfl rfl)
theorem dX8_comes_104 : decode cX8_comes 104 = .ok (.iconst 0, 1) := dk_3 (dk_at dksX8_comes_4 8 rfl rfl)
theorem dX8_comes_105 : decode cX8_comes 105 = .ok (.goto 4, 3) := dk_167 0 4 (dk_at dksX8_comes_4 9 rfl rfl)
theorem dX8_comes_108 : decode cX8_comes 108 = .ok (.iconst 1, 1) := dk_4 (dk_at dksX8_comes_4 12 rfl rfl)
theorem dX8_comes_109 : decode cX8_comes 109 = .ok (.putfield 419, 3) := dk_181 1 163 (dk_at dksX8_comes_4 13 rfl rfl)
theorem dX8_comes_112 : decode cX8_comes 112 = .ok (.aload_n 0, 1) := dk_42 (dk_at dksX8_comes_4 16 rfl rfl)
theorem dX8_comes_113 : decode cX8_comes 113 = .ok (.lload_n 3, 1) := dk_33 (dk_at dksX8_comes_4 17 rfl rfl)
theorem dX8_comes_114 : decode cX8_comes 114 = .ok (.lconst 0, 1) := dk_9 (dk_at dksX8_comes_4 18 rfl rfl)
theorem dX8_comes_115 : decode cX8_comes 115 = .ok (.lcmp, 1) := dk_148 (dk_at dksX8_comes_4 19 rfl rfl)
theorem dX8_comes_116 : decode cX8_comes 116 = .ok (.ifCond .le 7, 3) := dk_158 0 7 (dk_at dksX8_comes_4 20 rfl rfl)
theorem dX8_comes_119 : decode cX8_comes 119 = .ok (.iload_n 1, 1) := dk_27 (dk_at dksX8_comes_4 23 rfl rfl)
theorem dX8_comes_120 : decode cX8_comes 120 = .ok (.goto 4, 3) := dk_167 0 4 (dk_at dksX8_comes_5 0 rfl rfl)
theorem dX8_comes_123 : decode cX8_comes 123 = .ok (.iload_n 2, 1) := dk_28 (dk_at dksX8_comes_5 3 rfl rfl)
theorem dX8_comes_124 : decode cX8_comes 124 = .ok (.putfield 427, 3) := dk_181 1 171 (dk_at dksX8_comes_5 4 rfl rfl)
theorem dX8_comes_127 : decode cX8_comes 127 = .ok (.lload_n 3, 1) := dk_33 (dk_at dksX8_comes_5 7 rfl rfl)
theorem dX8_comes_128 : decode cX8_comes 128 = .ok (.lconst 0, 1) := dk_9 (dk_at dksX8_comes_5 8 rfl rfl)
theorem dX8_comes_129 : decode cX8_comes 129 = .ok (.lcmp, 1) := dk_148 (dk_at dksX8_comes_5 9 rfl rfl)
theorem dX8_comes_130 : decode cX8_comes 130 = .ok (.ifCond .le 7, 3) := dk_158 0 7 (dk_at dksX8_comes_5 10 rfl rfl)
theorem dX8_comes_133 : decode cX8_comes 133 = .ok (.iconst 1, 1) := dk_4 (dk_at dksX8_comes_5 13 rfl rfl)
theorem dX8_comes_134 : decode cX8_comes 134 = .ok (.goto 4, 3) := dk_167 0 4 (dk_at dksX8_comes_5 14 rfl rfl)
theorem dX8_comes_137 : decode cX8_comes 137 = .ok (.iconst 0, 1) := dk_3 (dk_at dksX8_comes_5 17 rfl rfl)
theorem dX8_comes_138 : decode cX8_comes 138 = .ok (.ireturn, 1) := dk_172 (dk_at dksX8_comes_5 18 rfl rfl)
abbrev cX8_worst : ByteArray := prog_20_method_50_code
def yX8_worst : MethodName := ⟨RX8, "worst", "(I)I"⟩
def dkwX8_worst_2 : List UInt8 := [28, 182, 1, 159, 9, 148, 158, 0, 5, 29, 61, 132, 3, 1, 167, 255, 199, 28, 172]
abbrev dktX8_worst_2 : List UInt8 := dkwX8_worst_2 ++ []
def dkwX8_worst_1 : List UInt8 := [182, 1, 153, 42, 27, 29, 182, 1, 156, 163, 0, 6, 167, 0, 23, 28, 2, 159, 0, 16, 42, 27, 29, 27]
abbrev dktX8_worst_1 : List UInt8 := dkwX8_worst_1 ++ dktX8_worst_2
def dkwX8_worst_0 : List UInt8 := [2, 61, 3, 62, 29, 42, 180, 1, 117, 42, 180, 1, 125, 27, 182, 1, 150, 162, 0, 47, 42, 27, 29]
abbrev dktX8_worst_0 : List UInt8 := dkwX8_worst_0 ++ dktX8_worst_1
theorem dksX8_worst_0 : cX8_worst.data.toList.drop 0 = dktX8_worst_0 := by decide +kernel
theorem dksX8_worst_1 : cX8_worst.data.toList.drop 23 = dktX8_worst_1 := dk_seg dksX8_worst_0 23 rfl rfl
theorem dksX8_worst_2 : cX8_worst.data.toList.drop 47 = dktX8_worst_2 := dk_seg dksX8_worst_1 24 rfl rfl
theorem dX8_worst_0 : decode cX8_worst 0 = .ok (.iconst (-1), 1) := dk_2 (dk_at dksX8_worst_0 0 rfl rfl)
theorem dX8_worst_1 : decode cX8_worst 1 = .ok (.istore_n 2, 1) := dk_61 (dk_at dksX8_worst_0 1 rfl rfl)
theorem dX8_worst_2 : decode cX8_worst 2 = .ok (.iconst 0, 1) := dk_3 (dk_at dksX8_worst_0 2 rfl rfl)
theorem dX8_worst_3 : decode cX8_worst 3 = .ok (.istore_n 3, 1) := dk_62 (dk_at dksX8_worst_0 3 rfl rfl)
theorem dX8_worst_4 : decode cX8_worst 4 = .ok (.iload_n 3, 1) := dk_29 (dk_at dksX8_worst_0 4 rfl rfl)
theorem dX8_worst_5 : decode cX8_worst 5 = .ok (.aload_n 0, 1) := dk_42 (dk_at dksX8_worst_0 5 rfl rfl)
theorem dX8_worst_6 : decode cX8_worst 6 = .ok (.getfield 373, 3) := dk_180 1 117 (dk_at dksX8_worst_0 6 rfl rfl)
theorem dX8_worst_9 : decode cX8_worst 9 = .ok (.aload_n 0, 1) := dk_42 (dk_at dksX8_worst_0 9 rfl rfl)
theorem dX8_worst_10 : decode cX8_worst 10 = .ok (.getfield 381, 3) := dk_180 1 125 (dk_at dksX8_worst_0 10 rfl rfl)
theorem dX8_worst_13 : decode cX8_worst 13 = .ok (.iload_n 1, 1) := dk_27 (dk_at dksX8_worst_0 13 rfl rfl)
theorem dX8_worst_14 : decode cX8_worst 14 = .ok (.invokevirtual 406, 3) := dk_182 1 150 (dk_at dksX8_worst_0 14 rfl rfl)
theorem dX8_worst_17 : decode cX8_worst 17 = .ok (.if_icmp .ge 47, 3) := dk_162 0 47 (dk_at dksX8_worst_0 17 rfl rfl)
theorem dX8_worst_20 : decode cX8_worst 20 = .ok (.aload_n 0, 1) := dk_42 (dk_at dksX8_worst_0 20 rfl rfl)
theorem dX8_worst_21 : decode cX8_worst 21 = .ok (.iload_n 1, 1) := dk_27 (dk_at dksX8_worst_0 21 rfl rfl)
theorem dX8_worst_22 : decode cX8_worst 22 = .ok (.iload_n 3, 1) := dk_29 (dk_at dksX8_worst_0 22 rfl rfl)
theorem dX8_worst_23 : decode cX8_worst 23 = .ok (.invokevirtual 409, 3) := dk_182 1 153 (dk_at dksX8_worst_1 0 rfl rfl)
theorem dX8_worst_26 : decode cX8_worst 26 = .ok (.aload_n 0, 1) := dk_42 (dk_at dksX8_worst_1 3 rfl rfl)
theorem dX8_worst_27 : decode cX8_worst 27 = .ok (.iload_n 1, 1) := dk_27 (dk_at dksX8_worst_1 4 rfl rfl)
theorem dX8_worst_28 : decode cX8_worst 28 = .ok (.iload_n 3, 1) := dk_29 (dk_at dksX8_worst_1 5 rfl rfl)
theorem dX8_worst_29 : decode cX8_worst 29 = .ok (.invokevirtual 412, 3) := dk_182 1 156 (dk_at dksX8_worst_1 6 rfl rfl)
theorem dX8_worst_32 : decode cX8_worst 32 = .ok (.if_icmp .gt 6, 3) := dk_163 0 6 (dk_at dksX8_worst_1 9 rfl rfl)
theorem dX8_worst_35 : decode cX8_worst 35 = .ok (.goto 23, 3) := dk_167 0 23 (dk_at dksX8_worst_1 12 rfl rfl)
theorem dX8_worst_38 : decode cX8_worst 38 = .ok (.iload_n 2, 1) := dk_28 (dk_at dksX8_worst_1 15 rfl rfl)
theorem dX8_worst_39 : decode cX8_worst 39 = .ok (.iconst (-1), 1) := dk_2 (dk_at dksX8_worst_1 16 rfl rfl)
theorem dX8_worst_40 : decode cX8_worst 40 = .ok (.if_icmp .eq 16, 3) := dk_159 0 16 (dk_at dksX8_worst_1 17 rfl rfl)
theorem dX8_worst_43 : decode cX8_worst 43 = .ok (.aload_n 0, 1) := dk_42 (dk_at dksX8_worst_1 20 rfl rfl)
theorem dX8_worst_44 : decode cX8_worst 44 = .ok (.iload_n 1, 1) := dk_27 (dk_at dksX8_worst_1 21 rfl rfl)
theorem dX8_worst_45 : decode cX8_worst 45 = .ok (.iload_n 3, 1) := dk_29 (dk_at dksX8_worst_1 22 rfl rfl)
theorem dX8_worst_46 : decode cX8_worst 46 = .ok (.iload_n 1, 1) := dk_27 (dk_at dksX8_worst_1 23 rfl rfl)
theorem dX8_worst_47 : decode cX8_worst 47 = .ok (.iload_n 2, 1) := dk_28 (dk_at dksX8_worst_2 0 rfl rfl)
theorem dX8_worst_48 : decode cX8_worst 48 = .ok (.invokevirtual 415, 3) := dk_182 1 159 (dk_at dksX8_worst_2 1 rfl rfl)
theorem dX8_worst_51 : decode cX8_worst 51 = .ok (.lconst 0, 1) := dk_9 (dk_at dksX8_worst_2 4 rfl rfl)
theorem dX8_worst_52 : decode cX8_worst 52 = .ok (.lcmp, 1) := dk_148 (dk_at dksX8_worst_2 5 rfl rfl)
theorem dX8_worst_53 : decode cX8_worst 53 = .ok (.ifCond .le 5, 3) := dk_158 0 5 (dk_at dksX8_worst_2 6 rfl rfl)
theorem dX8_worst_56 : decode cX8_worst 56 = .ok (.iload_n 3, 1) := dk_29 (dk_at dksX8_worst_2 9 rfl rfl)
theorem dX8_worst_57 : decode cX8_worst 57 = .ok (.istore_n 2, 1) := dk_61 (dk_at dksX8_worst_2 10 rfl rfl)
theorem dX8_worst_58 : decode cX8_worst 58 = .ok (.iinc 3 1, 3) := dk_132 3 1 (dk_at dksX8_worst_2 11 rfl rfl)
theorem dX8_worst_61 : decode cX8_worst 61 = .ok (.goto (-57), 3) := dk_167 255 199 (dk_at dksX8_worst_2 14 rfl rfl)
theorem dX8_worst_64 : decode cX8_worst 64 = .ok (.iload_n 2, 1) := dk_28 (dk_at dksX8_worst_2 17 rfl rfl)
theorem dX8_worst_65 : decode cX8_worst 65 = .ok (.ireturn, 1) := dk_172 (dk_at dksX8_worst_2 18 rfl rfl)
abbrev cX8_compares : ByteArray := prog_20_method_51_code
def yX8_compares : MethodName := ⟨RX8, "compares", "(IIII)J"⟩
def dkwX8_compares_3 : List UInt8 := [21, 4, 182, 1, 153, 133, 22, 5, 105, 101, 173]
abbrev dktX8_compares_3 : List UInt8 := dkwX8_compares_3 ++ []
def dkwX8_compares_2 : List UInt8 := [9, 148, 154, 0, 7, 10, 167, 0, 4, 9, 101, 173, 42, 27, 28, 182, 1, 153, 133, 22, 7, 105, 42, 29]
abbrev dktX8_compares_2 : List UInt8 := dkwX8_compares_2 ++ dktX8_compares_3
def dkwX8_compares_1 : List UInt8 := [153, 0, 10, 22, 7, 9, 148, 154, 0, 29, 22, 5, 9, 148, 154, 0, 7, 10, 167, 0, 4, 9, 22, 7]
abbrev dktX8_compares_1 : List UInt8 := dkwX8_compares_1 ++ dktX8_compares_2
def dkwX8_compares_0 : List UInt8 := [42, 27, 28, 182, 1, 156, 133, 55, 5, 42, 29, 21, 4, 182, 1, 156, 133, 55, 7, 22, 5, 9, 148]
abbrev dktX8_compares_0 : List UInt8 := dkwX8_compares_0 ++ dktX8_compares_1
theorem dksX8_compares_0 : cX8_compares.data.toList.drop 0 = dktX8_compares_0 := by decide +kernel
theorem dksX8_compares_1 : cX8_compares.data.toList.drop 23 = dktX8_compares_1 := dk_seg dksX8_compares_0 23 rfl rfl
theorem dksX8_compares_2 : cX8_compares.data.toList.drop 47 = dktX8_compares_2 := dk_seg dksX8_compares_1 24 rfl rfl
theorem dksX8_compares_3 : cX8_compares.data.toList.drop 71 = dktX8_compares_3 := dk_seg dksX8_compares_2 24 rfl rfl
theorem dX8_compares_0 : decode cX8_compares 0 = .ok (.aload_n 0, 1) := dk_42 (dk_at dksX8_compares_0 0 rfl rfl)
theorem dX8_compares_1 : decode cX8_compares 1 = .ok (.iload_n 1, 1) := dk_27 (dk_at dksX8_compares_0 1 rfl rfl)
theorem dX8_compares_2 : decode cX8_compares 2 = .ok (.iload_n 2, 1) := dk_28 (dk_at dksX8_compares_0 2 rfl rfl)
theorem dX8_compares_3 : decode cX8_compares 3 = .ok (.invokevirtual 412, 3) := dk_182 1 156 (dk_at dksX8_compares_0 3 rfl rfl)
theorem dX8_compares_6 : decode cX8_compares 6 = .ok (.i2l, 1) := dk_133 (dk_at dksX8_compares_0 6 rfl rfl)
theorem dX8_compares_7 : decode cX8_compares 7 = .ok (.lstore 5, 2) := dk_55 5 (dk_at dksX8_compares_0 7 rfl rfl)
theorem dX8_compares_9 : decode cX8_compares 9 = .ok (.aload_n 0, 1) := dk_42 (dk_at dksX8_compares_0 9 rfl rfl)
theorem dX8_compares_10 : decode cX8_compares 10 = .ok (.iload_n 3, 1) := dk_29 (dk_at dksX8_compares_0 10 rfl rfl)
theorem dX8_compares_11 : decode cX8_compares 11 = .ok (.iload 4, 2) := dk_21 4 (dk_at dksX8_compares_0 11 rfl rfl)
theorem dX8_compares_13 : decode cX8_compares 13 = .ok (.invokevirtual 412, 3) := dk_182 1 156 (dk_at dksX8_compares_0 13 rfl rfl)
theorem dX8_compares_16 : decode cX8_compares 16 = .ok (.i2l, 1) := dk_133 (dk_at dksX8_compares_0 16 rfl rfl)
theorem dX8_compares_17 : decode cX8_compares 17 = .ok (.lstore 7, 2) := dk_55 7 (dk_at dksX8_compares_0 17 rfl rfl)
theorem dX8_compares_19 : decode cX8_compares 19 = .ok (.lload 5, 2) := dk_22 5 (dk_at dksX8_compares_0 19 rfl rfl)
theorem dX8_compares_21 : decode cX8_compares 21 = .ok (.lconst 0, 1) := dk_9 (dk_at dksX8_compares_0 21 rfl rfl)
theorem dX8_compares_22 : decode cX8_compares 22 = .ok (.lcmp, 1) := dk_148 (dk_at dksX8_compares_0 22 rfl rfl)
theorem dX8_compares_23 : decode cX8_compares 23 = .ok (.ifCond .eq 10, 3) := dk_153 0 10 (dk_at dksX8_compares_1 0 rfl rfl)
theorem dX8_compares_26 : decode cX8_compares 26 = .ok (.lload 7, 2) := dk_22 7 (dk_at dksX8_compares_1 3 rfl rfl)
theorem dX8_compares_28 : decode cX8_compares 28 = .ok (.lconst 0, 1) := dk_9 (dk_at dksX8_compares_1 5 rfl rfl)
theorem dX8_compares_29 : decode cX8_compares 29 = .ok (.lcmp, 1) := dk_148 (dk_at dksX8_compares_1 6 rfl rfl)
theorem dX8_compares_30 : decode cX8_compares 30 = .ok (.ifCond .ne 29, 3) := dk_154 0 29 (dk_at dksX8_compares_1 7 rfl rfl)
theorem dX8_compares_33 : decode cX8_compares 33 = .ok (.lload 5, 2) := dk_22 5 (dk_at dksX8_compares_1 10 rfl rfl)
theorem dX8_compares_35 : decode cX8_compares 35 = .ok (.lconst 0, 1) := dk_9 (dk_at dksX8_compares_1 12 rfl rfl)
theorem dX8_compares_36 : decode cX8_compares 36 = .ok (.lcmp, 1) := dk_148 (dk_at dksX8_compares_1 13 rfl rfl)
theorem dX8_compares_37 : decode cX8_compares 37 = .ok (.ifCond .ne 7, 3) := dk_154 0 7 (dk_at dksX8_compares_1 14 rfl rfl)
theorem dX8_compares_40 : decode cX8_compares 40 = .ok (.lconst 1, 1) := dk_10 (dk_at dksX8_compares_1 17 rfl rfl)
theorem dX8_compares_41 : decode cX8_compares 41 = .ok (.goto 4, 3) := dk_167 0 4 (dk_at dksX8_compares_1 18 rfl rfl)
theorem dX8_compares_44 : decode cX8_compares 44 = .ok (.lconst 0, 1) := dk_9 (dk_at dksX8_compares_1 21 rfl rfl)
theorem dX8_compares_45 : decode cX8_compares 45 = .ok (.lload 7, 2) := dk_22 7 (dk_at dksX8_compares_1 22 rfl rfl)
theorem dX8_compares_47 : decode cX8_compares 47 = .ok (.lconst 0, 1) := dk_9 (dk_at dksX8_compares_2 0 rfl rfl)
theorem dX8_compares_48 : decode cX8_compares 48 = .ok (.lcmp, 1) := dk_148 (dk_at dksX8_compares_2 1 rfl rfl)
theorem dX8_compares_49 : decode cX8_compares 49 = .ok (.ifCond .ne 7, 3) := dk_154 0 7 (dk_at dksX8_compares_2 2 rfl rfl)
theorem dX8_compares_52 : decode cX8_compares 52 = .ok (.lconst 1, 1) := dk_10 (dk_at dksX8_compares_2 5 rfl rfl)
theorem dX8_compares_53 : decode cX8_compares 53 = .ok (.goto 4, 3) := dk_167 0 4 (dk_at dksX8_compares_2 6 rfl rfl)
theorem dX8_compares_56 : decode cX8_compares 56 = .ok (.lconst 0, 1) := dk_9 (dk_at dksX8_compares_2 9 rfl rfl)
theorem dX8_compares_57 : decode cX8_compares 57 = .ok (.lsub, 1) := dk_101 (dk_at dksX8_compares_2 10 rfl rfl)
theorem dX8_compares_58 : decode cX8_compares 58 = .ok (.lreturn, 1) := dk_173 (dk_at dksX8_compares_2 11 rfl rfl)
theorem dX8_compares_59 : decode cX8_compares 59 = .ok (.aload_n 0, 1) := dk_42 (dk_at dksX8_compares_2 12 rfl rfl)
theorem dX8_compares_60 : decode cX8_compares 60 = .ok (.iload_n 1, 1) := dk_27 (dk_at dksX8_compares_2 13 rfl rfl)
theorem dX8_compares_61 : decode cX8_compares 61 = .ok (.iload_n 2, 1) := dk_28 (dk_at dksX8_compares_2 14 rfl rfl)
theorem dX8_compares_62 : decode cX8_compares 62 = .ok (.invokevirtual 409, 3) := dk_182 1 153 (dk_at dksX8_compares_2 15 rfl rfl)
theorem dX8_compares_65 : decode cX8_compares 65 = .ok (.i2l, 1) := dk_133 (dk_at dksX8_compares_2 18 rfl rfl)
theorem dX8_compares_66 : decode cX8_compares 66 = .ok (.lload 7, 2) := dk_22 7 (dk_at dksX8_compares_2 19 rfl rfl)
theorem dX8_compares_68 : decode cX8_compares 68 = .ok (.lmul, 1) := dk_105 (dk_at dksX8_compares_2 21 rfl rfl)
theorem dX8_compares_69 : decode cX8_compares 69 = .ok (.aload_n 0, 1) := dk_42 (dk_at dksX8_compares_2 22 rfl rfl)
theorem dX8_compares_70 : decode cX8_compares 70 = .ok (.iload_n 3, 1) := dk_29 (dk_at dksX8_compares_2 23 rfl rfl)
theorem dX8_compares_71 : decode cX8_compares 71 = .ok (.iload 4, 2) := dk_21 4 (dk_at dksX8_compares_3 0 rfl rfl)
theorem dX8_compares_73 : decode cX8_compares 73 = .ok (.invokevirtual 409, 3) := dk_182 1 153 (dk_at dksX8_compares_3 2 rfl rfl)
theorem dX8_compares_76 : decode cX8_compares 76 = .ok (.i2l, 1) := dk_133 (dk_at dksX8_compares_3 5 rfl rfl)
theorem dX8_compares_77 : decode cX8_compares 77 = .ok (.lload 5, 2) := dk_22 5 (dk_at dksX8_compares_3 6 rfl rfl)
theorem dX8_compares_79 : decode cX8_compares 79 = .ok (.lmul, 1) := dk_105 (dk_at dksX8_compares_3 8 rfl rfl)
theorem dX8_compares_80 : decode cX8_compares 80 = .ok (.lsub, 1) := dk_101 (dk_at dksX8_compares_3 9 rfl rfl)
theorem dX8_compares_81 : decode cX8_compares 81 = .ok (.lreturn, 1) := dk_173 (dk_at dksX8_compares_3 10 rfl rfl)
abbrev cX8_breaksAt : ByteArray := prog_20_method_69_code
def yX8_breaksAt : MethodName := ⟨RX8, "breaksAt", "(IIIIII)I"⟩
def dkwX8_breaksAt_4 : List UInt8 := [182, 0, 63, 172]
abbrev dktX8_breaksAt_4 : List UInt8 := dkwX8_breaksAt_4 ++ []
def dkwX8_breaksAt_3 : List UInt8 := [180, 1, 163, 2, 160, 0, 8, 16, 254, 167, 0, 15, 16, 10, 42, 180, 1, 163, 104, 42, 180, 1, 171, 96]
abbrev dktX8_breaksAt_3 : List UInt8 := dkwX8_breaksAt_3 ++ dktX8_breaksAt_4
def dkwX8_breaksAt_2 : List UInt8 := [182, 0, 59, 172, 42, 27, 28, 29, 21, 4, 21, 5, 21, 6, 182, 1, 140, 42, 182, 1, 177, 87, 42, 42]
abbrev dktX8_breaksAt_2 : List UInt8 := dkwX8_breaksAt_2 ++ dktX8_breaksAt_3
def dkwX8_breaksAt_1 : List UInt8 := [4, 167, 0, 4, 3, 27, 29, 21, 5, 21, 6, 182, 1, 202, 54, 7, 21, 7, 158, 0, 10, 42, 21, 7]
abbrev dktX8_breaksAt_1 : List UInt8 := dkwX8_breaksAt_1 ++ dktX8_breaksAt_2
def dkwX8_breaksAt_0 : List UInt8 := [42, 3, 181, 0, 53, 42, 42, 27, 182, 1, 188, 153, 0, 17, 42, 28, 21, 4, 182, 1, 199, 153, 0, 7]
abbrev dktX8_breaksAt_0 : List UInt8 := dkwX8_breaksAt_0 ++ dktX8_breaksAt_1
theorem dksX8_breaksAt_0 : cX8_breaksAt.data.toList.drop 0 = dktX8_breaksAt_0 := by decide +kernel
theorem dksX8_breaksAt_1 : cX8_breaksAt.data.toList.drop 24 = dktX8_breaksAt_1 := dk_seg dksX8_breaksAt_0 24 rfl rfl
theorem dksX8_breaksAt_2 : cX8_breaksAt.data.toList.drop 48 = dktX8_breaksAt_2 := dk_seg dksX8_breaksAt_1 24 rfl rfl
theorem dksX8_breaksAt_3 : cX8_breaksAt.data.toList.drop 72 = dktX8_breaksAt_3 := dk_seg dksX8_breaksAt_2 24 rfl rfl
theorem dksX8_breaksAt_4 : cX8_breaksAt.data.toList.drop 96 = dktX8_breaksAt_4 := dk_seg dksX8_breaksAt_3 24 rfl rfl
theorem dX8_breaksAt_0 : decode cX8_breaksAt 0 = .ok (.aload_n 0, 1) := dk_42 (dk_at dksX8_breaksAt_0 0 rfl rfl)
theorem dX8_breaksAt_1 : decode cX8_breaksAt 1 = .ok (.iconst 0, 1) := dk_3 (dk_at dksX8_breaksAt_0 1 rfl rfl)
theorem dX8_breaksAt_2 : decode cX8_breaksAt 2 = .ok (.putfield 53, 3) := dk_181 0 53 (dk_at dksX8_breaksAt_0 2 rfl rfl)
theorem dX8_breaksAt_5 : decode cX8_breaksAt 5 = .ok (.aload_n 0, 1) := dk_42 (dk_at dksX8_breaksAt_0 5 rfl rfl)
theorem dX8_breaksAt_6 : decode cX8_breaksAt 6 = .ok (.aload_n 0, 1) := dk_42 (dk_at dksX8_breaksAt_0 6 rfl rfl)
theorem dX8_breaksAt_7 : decode cX8_breaksAt 7 = .ok (.iload_n 1, 1) := dk_27 (dk_at dksX8_breaksAt_0 7 rfl rfl)
theorem dX8_breaksAt_8 : decode cX8_breaksAt 8 = .ok (.invokevirtual 444, 3) := dk_182 1 188 (dk_at dksX8_breaksAt_0 8 rfl rfl)
theorem dX8_breaksAt_11 : decode cX8_breaksAt 11 = .ok (.ifCond .eq 17, 3) := dk_153 0 17 (dk_at dksX8_breaksAt_0 11 rfl rfl)
theorem dX8_breaksAt_14 : decode cX8_breaksAt 14 = .ok (.aload_n 0, 1) := dk_42 (dk_at dksX8_breaksAt_0 14 rfl rfl)
theorem dX8_breaksAt_15 : decode cX8_breaksAt 15 = .ok (.iload_n 2, 1) := dk_28 (dk_at dksX8_breaksAt_0 15 rfl rfl)
theorem dX8_breaksAt_16 : decode cX8_breaksAt 16 = .ok (.iload 4, 2) := dk_21 4 (dk_at dksX8_breaksAt_0 16 rfl rfl)
theorem dX8_breaksAt_18 : decode cX8_breaksAt 18 = .ok (.invokevirtual 455, 3) := dk_182 1 199 (dk_at dksX8_breaksAt_0 18 rfl rfl)
theorem dX8_breaksAt_21 : decode cX8_breaksAt 21 = .ok (.ifCond .eq 7, 3) := dk_153 0 7 (dk_at dksX8_breaksAt_0 21 rfl rfl)
theorem dX8_breaksAt_24 : decode cX8_breaksAt 24 = .ok (.iconst 1, 1) := dk_4 (dk_at dksX8_breaksAt_1 0 rfl rfl)
theorem dX8_breaksAt_25 : decode cX8_breaksAt 25 = .ok (.goto 4, 3) := dk_167 0 4 (dk_at dksX8_breaksAt_1 1 rfl rfl)
theorem dX8_breaksAt_28 : decode cX8_breaksAt 28 = .ok (.iconst 0, 1) := dk_3 (dk_at dksX8_breaksAt_1 4 rfl rfl)
theorem dX8_breaksAt_29 : decode cX8_breaksAt 29 = .ok (.iload_n 1, 1) := dk_27 (dk_at dksX8_breaksAt_1 5 rfl rfl)
theorem dX8_breaksAt_30 : decode cX8_breaksAt 30 = .ok (.iload_n 3, 1) := dk_29 (dk_at dksX8_breaksAt_1 6 rfl rfl)
theorem dX8_breaksAt_31 : decode cX8_breaksAt 31 = .ok (.iload 5, 2) := dk_21 5 (dk_at dksX8_breaksAt_1 7 rfl rfl)
theorem dX8_breaksAt_33 : decode cX8_breaksAt 33 = .ok (.iload 6, 2) := dk_21 6 (dk_at dksX8_breaksAt_1 9 rfl rfl)
theorem dX8_breaksAt_35 : decode cX8_breaksAt 35 = .ok (.invokevirtual 458, 3) := dk_182 1 202 (dk_at dksX8_breaksAt_1 11 rfl rfl)
theorem dX8_breaksAt_38 : decode cX8_breaksAt 38 = .ok (.istore 7, 2) := dk_54 7 (dk_at dksX8_breaksAt_1 14 rfl rfl)
theorem dX8_breaksAt_40 : decode cX8_breaksAt 40 = .ok (.iload 7, 2) := dk_21 7 (dk_at dksX8_breaksAt_1 16 rfl rfl)
theorem dX8_breaksAt_42 : decode cX8_breaksAt 42 = .ok (.ifCond .le 10, 3) := dk_158 0 10 (dk_at dksX8_breaksAt_1 18 rfl rfl)
theorem dX8_breaksAt_45 : decode cX8_breaksAt 45 = .ok (.aload_n 0, 1) := dk_42 (dk_at dksX8_breaksAt_1 21 rfl rfl)
theorem dX8_breaksAt_46 : decode cX8_breaksAt 46 = .ok (.iload 7, 2) := dk_21 7 (dk_at dksX8_breaksAt_1 22 rfl rfl)
theorem dX8_breaksAt_48 : decode cX8_breaksAt 48 = .ok (.invokevirtual 59, 3) := dk_182 0 59 (dk_at dksX8_breaksAt_2 0 rfl rfl)
theorem dX8_breaksAt_51 : decode cX8_breaksAt 51 = .ok (.ireturn, 1) := dk_172 (dk_at dksX8_breaksAt_2 3 rfl rfl)
theorem dX8_breaksAt_52 : decode cX8_breaksAt 52 = .ok (.aload_n 0, 1) := dk_42 (dk_at dksX8_breaksAt_2 4 rfl rfl)
theorem dX8_breaksAt_53 : decode cX8_breaksAt 53 = .ok (.iload_n 1, 1) := dk_27 (dk_at dksX8_breaksAt_2 5 rfl rfl)
theorem dX8_breaksAt_54 : decode cX8_breaksAt 54 = .ok (.iload_n 2, 1) := dk_28 (dk_at dksX8_breaksAt_2 6 rfl rfl)
theorem dX8_breaksAt_55 : decode cX8_breaksAt 55 = .ok (.iload_n 3, 1) := dk_29 (dk_at dksX8_breaksAt_2 7 rfl rfl)
theorem dX8_breaksAt_56 : decode cX8_breaksAt 56 = .ok (.iload 4, 2) := dk_21 4 (dk_at dksX8_breaksAt_2 8 rfl rfl)
theorem dX8_breaksAt_58 : decode cX8_breaksAt 58 = .ok (.iload 5, 2) := dk_21 5 (dk_at dksX8_breaksAt_2 10 rfl rfl)
theorem dX8_breaksAt_60 : decode cX8_breaksAt 60 = .ok (.iload 6, 2) := dk_21 6 (dk_at dksX8_breaksAt_2 12 rfl rfl)
theorem dX8_breaksAt_62 : decode cX8_breaksAt 62 = .ok (.invokevirtual 396, 3) := dk_182 1 140 (dk_at dksX8_breaksAt_2 14 rfl rfl)
theorem dX8_breaksAt_65 : decode cX8_breaksAt 65 = .ok (.aload_n 0, 1) := dk_42 (dk_at dksX8_breaksAt_2 17 rfl rfl)
theorem dX8_breaksAt_66 : decode cX8_breaksAt 66 = .ok (.invokevirtual 433, 3) := dk_182 1 177 (dk_at dksX8_breaksAt_2 18 rfl rfl)
theorem dX8_breaksAt_69 : decode cX8_breaksAt 69 = .ok (.pop, 1) := dk_87 (dk_at dksX8_breaksAt_2 21 rfl rfl)
theorem dX8_breaksAt_70 : decode cX8_breaksAt 70 = .ok (.aload_n 0, 1) := dk_42 (dk_at dksX8_breaksAt_2 22 rfl rfl)
theorem dX8_breaksAt_71 : decode cX8_breaksAt 71 = .ok (.aload_n 0, 1) := dk_42 (dk_at dksX8_breaksAt_2 23 rfl rfl)
theorem dX8_breaksAt_72 : decode cX8_breaksAt 72 = .ok (.getfield 419, 3) := dk_180 1 163 (dk_at dksX8_breaksAt_3 0 rfl rfl)
theorem dX8_breaksAt_75 : decode cX8_breaksAt 75 = .ok (.iconst (-1), 1) := dk_2 (dk_at dksX8_breaksAt_3 3 rfl rfl)
theorem dX8_breaksAt_76 : decode cX8_breaksAt 76 = .ok (.if_icmp .ne 8, 3) := dk_160 0 8 (dk_at dksX8_breaksAt_3 4 rfl rfl)
theorem dX8_breaksAt_79 : decode cX8_breaksAt 79 = .ok (.bipush (-2), 2) := dk_16 254 (dk_at dksX8_breaksAt_3 7 rfl rfl)
theorem dX8_breaksAt_81 : decode cX8_breaksAt 81 = .ok (.goto 15, 3) := dk_167 0 15 (dk_at dksX8_breaksAt_3 9 rfl rfl)
theorem dX8_breaksAt_84 : decode cX8_breaksAt 84 = .ok (.bipush 10, 2) := dk_16 10 (dk_at dksX8_breaksAt_3 12 rfl rfl)
theorem dX8_breaksAt_86 : decode cX8_breaksAt 86 = .ok (.aload_n 0, 1) := dk_42 (dk_at dksX8_breaksAt_3 14 rfl rfl)
theorem dX8_breaksAt_87 : decode cX8_breaksAt 87 = .ok (.getfield 419, 3) := dk_180 1 163 (dk_at dksX8_breaksAt_3 15 rfl rfl)
theorem dX8_breaksAt_90 : decode cX8_breaksAt 90 = .ok (.imul, 1) := dk_104 (dk_at dksX8_breaksAt_3 18 rfl rfl)
theorem dX8_breaksAt_91 : decode cX8_breaksAt 91 = .ok (.aload_n 0, 1) := dk_42 (dk_at dksX8_breaksAt_3 19 rfl rfl)
theorem dX8_breaksAt_92 : decode cX8_breaksAt 92 = .ok (.getfield 427, 3) := dk_180 1 171 (dk_at dksX8_breaksAt_3 20 rfl rfl)
theorem dX8_breaksAt_95 : decode cX8_breaksAt 95 = .ok (.iadd, 1) := dk_96 (dk_at dksX8_breaksAt_3 23 rfl rfl)
theorem dX8_breaksAt_96 : decode cX8_breaksAt 96 = .ok (.invokevirtual 63, 3) := dk_182 0 63 (dk_at dksX8_breaksAt_4 0 rfl rfl)
theorem dX8_breaksAt_99 : decode cX8_breaksAt 99 = .ok (.ireturn, 1) := dk_172 (dk_at dksX8_breaksAt_4 3 rfl rfl)
abbrev cX8_flawed : ByteArray := prog_20_method_70_code
def yX8_flawed : MethodName := ⟨RX8, "flawed", "(IIIIIIII)I"⟩
def dkwX8_flawed_3 : List UInt8 := [21, 7, 181, 1, 133, 42, 21, 8, 181, 1, 147, 42, 42, 182, 1, 177, 182, 0, 63, 172]
abbrev dktX8_flawed_3 : List UInt8 := dkwX8_flawed_3 ++ []
def dkwX8_flawed_2 : List UInt8 := [158, 0, 10, 42, 21, 9, 182, 0, 59, 172, 42, 27, 28, 29, 21, 4, 21, 5, 21, 6, 182, 1, 140, 42]
abbrev dktX8_flawed_2 : List UInt8 := dkwX8_flawed_2 ++ dktX8_flawed_3
def dkwX8_flawed_1 : List UInt8 := [182, 1, 199, 153, 0, 7, 4, 167, 0, 4, 3, 27, 29, 21, 5, 21, 6, 182, 1, 202, 54, 9, 21, 9]
abbrev dktX8_flawed_1 : List UInt8 := dkwX8_flawed_1 ++ dktX8_flawed_2
def dkwX8_flawed_0 : List UInt8 := [42, 3, 181, 0, 53, 42, 42, 27, 21, 7, 21, 8, 182, 1, 190, 153, 0, 17, 42, 28, 21, 4]
abbrev dktX8_flawed_0 : List UInt8 := dkwX8_flawed_0 ++ dktX8_flawed_1
theorem dksX8_flawed_0 : cX8_flawed.data.toList.drop 0 = dktX8_flawed_0 := by decide +kernel
theorem dksX8_flawed_1 : cX8_flawed.data.toList.drop 22 = dktX8_flawed_1 := dk_seg dksX8_flawed_0 22 rfl rfl
theorem dksX8_flawed_2 : cX8_flawed.data.toList.drop 46 = dktX8_flawed_2 := dk_seg dksX8_flawed_1 24 rfl rfl
theorem dksX8_flawed_3 : cX8_flawed.data.toList.drop 70 = dktX8_flawed_3 := dk_seg dksX8_flawed_2 24 rfl rfl
theorem dX8_flawed_0 : decode cX8_flawed 0 = .ok (.aload_n 0, 1) := dk_42 (dk_at dksX8_flawed_0 0 rfl rfl)
theorem dX8_flawed_1 : decode cX8_flawed 1 = .ok (.iconst 0, 1) := dk_3 (dk_at dksX8_flawed_0 1 rfl rfl)
theorem dX8_flawed_2 : decode cX8_flawed 2 = .ok (.putfield 53, 3) := dk_181 0 53 (dk_at dksX8_flawed_0 2 rfl rfl)
theorem dX8_flawed_5 : decode cX8_flawed 5 = .ok (.aload_n 0, 1) := dk_42 (dk_at dksX8_flawed_0 5 rfl rfl)
theorem dX8_flawed_6 : decode cX8_flawed 6 = .ok (.aload_n 0, 1) := dk_42 (dk_at dksX8_flawed_0 6 rfl rfl)
theorem dX8_flawed_7 : decode cX8_flawed 7 = .ok (.iload_n 1, 1) := dk_27 (dk_at dksX8_flawed_0 7 rfl rfl)
theorem dX8_flawed_8 : decode cX8_flawed 8 = .ok (.iload 7, 2) := dk_21 7 (dk_at dksX8_flawed_0 8 rfl rfl)
theorem dX8_flawed_10 : decode cX8_flawed 10 = .ok (.iload 8, 2) := dk_21 8 (dk_at dksX8_flawed_0 10 rfl rfl)
theorem dX8_flawed_12 : decode cX8_flawed 12 = .ok (.invokevirtual 446, 3) := dk_182 1 190 (dk_at dksX8_flawed_0 12 rfl rfl)
theorem dX8_flawed_15 : decode cX8_flawed 15 = .ok (.ifCond .eq 17, 3) := dk_153 0 17 (dk_at dksX8_flawed_0 15 rfl rfl)
theorem dX8_flawed_18 : decode cX8_flawed 18 = .ok (.aload_n 0, 1) := dk_42 (dk_at dksX8_flawed_0 18 rfl rfl)
theorem dX8_flawed_19 : decode cX8_flawed 19 = .ok (.iload_n 2, 1) := dk_28 (dk_at dksX8_flawed_0 19 rfl rfl)
theorem dX8_flawed_20 : decode cX8_flawed 20 = .ok (.iload 4, 2) := dk_21 4 (dk_at dksX8_flawed_0 20 rfl rfl)
theorem dX8_flawed_22 : decode cX8_flawed 22 = .ok (.invokevirtual 455, 3) := dk_182 1 199 (dk_at dksX8_flawed_1 0 rfl rfl)
theorem dX8_flawed_25 : decode cX8_flawed 25 = .ok (.ifCond .eq 7, 3) := dk_153 0 7 (dk_at dksX8_flawed_1 3 rfl rfl)
theorem dX8_flawed_28 : decode cX8_flawed 28 = .ok (.iconst 1, 1) := dk_4 (dk_at dksX8_flawed_1 6 rfl rfl)
theorem dX8_flawed_29 : decode cX8_flawed 29 = .ok (.goto 4, 3) := dk_167 0 4 (dk_at dksX8_flawed_1 7 rfl rfl)
theorem dX8_flawed_32 : decode cX8_flawed 32 = .ok (.iconst 0, 1) := dk_3 (dk_at dksX8_flawed_1 10 rfl rfl)
theorem dX8_flawed_33 : decode cX8_flawed 33 = .ok (.iload_n 1, 1) := dk_27 (dk_at dksX8_flawed_1 11 rfl rfl)
theorem dX8_flawed_34 : decode cX8_flawed 34 = .ok (.iload_n 3, 1) := dk_29 (dk_at dksX8_flawed_1 12 rfl rfl)
theorem dX8_flawed_35 : decode cX8_flawed 35 = .ok (.iload 5, 2) := dk_21 5 (dk_at dksX8_flawed_1 13 rfl rfl)
theorem dX8_flawed_37 : decode cX8_flawed 37 = .ok (.iload 6, 2) := dk_21 6 (dk_at dksX8_flawed_1 15 rfl rfl)
theorem dX8_flawed_39 : decode cX8_flawed 39 = .ok (.invokevirtual 458, 3) := dk_182 1 202 (dk_at dksX8_flawed_1 17 rfl rfl)
theorem dX8_flawed_42 : decode cX8_flawed 42 = .ok (.istore 9, 2) := dk_54 9 (dk_at dksX8_flawed_1 20 rfl rfl)
theorem dX8_flawed_44 : decode cX8_flawed 44 = .ok (.iload 9, 2) := dk_21 9 (dk_at dksX8_flawed_1 22 rfl rfl)
theorem dX8_flawed_46 : decode cX8_flawed 46 = .ok (.ifCond .le 10, 3) := dk_158 0 10 (dk_at dksX8_flawed_2 0 rfl rfl)
theorem dX8_flawed_49 : decode cX8_flawed 49 = .ok (.aload_n 0, 1) := dk_42 (dk_at dksX8_flawed_2 3 rfl rfl)
theorem dX8_flawed_50 : decode cX8_flawed 50 = .ok (.iload 9, 2) := dk_21 9 (dk_at dksX8_flawed_2 4 rfl rfl)
theorem dX8_flawed_52 : decode cX8_flawed 52 = .ok (.invokevirtual 59, 3) := dk_182 0 59 (dk_at dksX8_flawed_2 6 rfl rfl)
theorem dX8_flawed_55 : decode cX8_flawed 55 = .ok (.ireturn, 1) := dk_172 (dk_at dksX8_flawed_2 9 rfl rfl)
theorem dX8_flawed_56 : decode cX8_flawed 56 = .ok (.aload_n 0, 1) := dk_42 (dk_at dksX8_flawed_2 10 rfl rfl)
theorem dX8_flawed_57 : decode cX8_flawed 57 = .ok (.iload_n 1, 1) := dk_27 (dk_at dksX8_flawed_2 11 rfl rfl)
theorem dX8_flawed_58 : decode cX8_flawed 58 = .ok (.iload_n 2, 1) := dk_28 (dk_at dksX8_flawed_2 12 rfl rfl)
theorem dX8_flawed_59 : decode cX8_flawed 59 = .ok (.iload_n 3, 1) := dk_29 (dk_at dksX8_flawed_2 13 rfl rfl)
theorem dX8_flawed_60 : decode cX8_flawed 60 = .ok (.iload 4, 2) := dk_21 4 (dk_at dksX8_flawed_2 14 rfl rfl)
theorem dX8_flawed_62 : decode cX8_flawed 62 = .ok (.iload 5, 2) := dk_21 5 (dk_at dksX8_flawed_2 16 rfl rfl)
theorem dX8_flawed_64 : decode cX8_flawed 64 = .ok (.iload 6, 2) := dk_21 6 (dk_at dksX8_flawed_2 18 rfl rfl)
theorem dX8_flawed_66 : decode cX8_flawed 66 = .ok (.invokevirtual 396, 3) := dk_182 1 140 (dk_at dksX8_flawed_2 20 rfl rfl)
theorem dX8_flawed_69 : decode cX8_flawed 69 = .ok (.aload_n 0, 1) := dk_42 (dk_at dksX8_flawed_2 23 rfl rfl)
theorem dX8_flawed_70 : decode cX8_flawed 70 = .ok (.iload 7, 2) := dk_21 7 (dk_at dksX8_flawed_3 0 rfl rfl)
theorem dX8_flawed_72 : decode cX8_flawed 72 = .ok (.putfield 389, 3) := dk_181 1 133 (dk_at dksX8_flawed_3 2 rfl rfl)
theorem dX8_flawed_75 : decode cX8_flawed 75 = .ok (.aload_n 0, 1) := dk_42 (dk_at dksX8_flawed_3 5 rfl rfl)
theorem dX8_flawed_76 : decode cX8_flawed 76 = .ok (.iload 8, 2) := dk_21 8 (dk_at dksX8_flawed_3 6 rfl rfl)
theorem dX8_flawed_78 : decode cX8_flawed 78 = .ok (.putfield 403, 3) := dk_181 1 147 (dk_at dksX8_flawed_3 8 rfl rfl)
theorem dX8_flawed_81 : decode cX8_flawed 81 = .ok (.aload_n 0, 1) := dk_42 (dk_at dksX8_flawed_3 11 rfl rfl)
theorem dX8_flawed_82 : decode cX8_flawed 82 = .ok (.aload_n 0, 1) := dk_42 (dk_at dksX8_flawed_3 12 rfl rfl)
theorem dX8_flawed_83 : decode cX8_flawed 83 = .ok (.invokevirtual 433, 3) := dk_182 1 177 (dk_at dksX8_flawed_3 13 rfl rfl)
theorem dX8_flawed_86 : decode cX8_flawed 86 = .ok (.invokevirtual 63, 3) := dk_182 0 63 (dk_at dksX8_flawed_3 16 rfl rfl)
theorem dX8_flawed_89 : decode cX8_flawed 89 = .ok (.ireturn, 1) := dk_172 (dk_at dksX8_flawed_3 19 rfl rfl)
abbrev cX8_odds : ByteArray := prog_20_method_71_code
def yX8_odds : MethodName := ⟨RX8, "odds", "(IIIIIIIZ)J"⟩
def dkwX8_odds_4 : List UInt8 := [182, 1, 210, 173]
abbrev dktX8_odds_4 : List UInt8 := dkwX8_odds_4 ++ []
def dkwX8_odds_3 : List UInt8 := [21, 6, 182, 1, 140, 42, 42, 21, 7, 182, 1, 206, 20, 1, 180, 42, 182, 1, 174, 133, 105, 21, 8]
abbrev dktX8_odds_3 : List UInt8 := dkwX8_odds_3 ++ dktX8_odds_4
def dkwX8_odds_2 : List UInt8 := [54, 9, 21, 9, 158, 0, 11, 42, 21, 9, 182, 0, 59, 133, 173, 42, 27, 28, 29, 21, 4, 21, 5]
abbrev dktX8_odds_2 : List UInt8 := dkwX8_odds_2 ++ dktX8_odds_3
def dkwX8_odds_1 : List UInt8 := [21, 7, 3, 6, 184, 0, 138, 153, 0, 7, 4, 167, 0, 4, 3, 27, 29, 21, 5, 21, 6, 182, 1, 202]
abbrev dktX8_odds_1 : List UInt8 := dkwX8_odds_1 ++ dktX8_odds_2
def dkwX8_odds_0 : List UInt8 := [42, 3, 181, 0, 53, 42, 42, 27, 182, 1, 188, 153, 0, 27, 42, 28, 21, 4, 182, 1, 199, 153, 0, 17]
abbrev dktX8_odds_0 : List UInt8 := dkwX8_odds_0 ++ dktX8_odds_1
theorem dksX8_odds_0 : cX8_odds.data.toList.drop 0 = dktX8_odds_0 := by decide +kernel
theorem dksX8_odds_1 : cX8_odds.data.toList.drop 24 = dktX8_odds_1 := dk_seg dksX8_odds_0 24 rfl rfl
theorem dksX8_odds_2 : cX8_odds.data.toList.drop 48 = dktX8_odds_2 := dk_seg dksX8_odds_1 24 rfl rfl
theorem dksX8_odds_3 : cX8_odds.data.toList.drop 71 = dktX8_odds_3 := dk_seg dksX8_odds_2 23 rfl rfl
theorem dksX8_odds_4 : cX8_odds.data.toList.drop 94 = dktX8_odds_4 := dk_seg dksX8_odds_3 23 rfl rfl
theorem dX8_odds_0 : decode cX8_odds 0 = .ok (.aload_n 0, 1) := dk_42 (dk_at dksX8_odds_0 0 rfl rfl)
theorem dX8_odds_1 : decode cX8_odds 1 = .ok (.iconst 0, 1) := dk_3 (dk_at dksX8_odds_0 1 rfl rfl)
theorem dX8_odds_2 : decode cX8_odds 2 = .ok (.putfield 53, 3) := dk_181 0 53 (dk_at dksX8_odds_0 2 rfl rfl)
theorem dX8_odds_5 : decode cX8_odds 5 = .ok (.aload_n 0, 1) := dk_42 (dk_at dksX8_odds_0 5 rfl rfl)
theorem dX8_odds_6 : decode cX8_odds 6 = .ok (.aload_n 0, 1) := dk_42 (dk_at dksX8_odds_0 6 rfl rfl)
theorem dX8_odds_7 : decode cX8_odds 7 = .ok (.iload_n 1, 1) := dk_27 (dk_at dksX8_odds_0 7 rfl rfl)
theorem dX8_odds_8 : decode cX8_odds 8 = .ok (.invokevirtual 444, 3) := dk_182 1 188 (dk_at dksX8_odds_0 8 rfl rfl)
theorem dX8_odds_11 : decode cX8_odds 11 = .ok (.ifCond .eq 27, 3) := dk_153 0 27 (dk_at dksX8_odds_0 11 rfl rfl)
theorem dX8_odds_14 : decode cX8_odds 14 = .ok (.aload_n 0, 1) := dk_42 (dk_at dksX8_odds_0 14 rfl rfl)
theorem dX8_odds_15 : decode cX8_odds 15 = .ok (.iload_n 2, 1) := dk_28 (dk_at dksX8_odds_0 15 rfl rfl)
theorem dX8_odds_16 : decode cX8_odds 16 = .ok (.iload 4, 2) := dk_21 4 (dk_at dksX8_odds_0 16 rfl rfl)
theorem dX8_odds_18 : decode cX8_odds 18 = .ok (.invokevirtual 455, 3) := dk_182 1 199 (dk_at dksX8_odds_0 18 rfl rfl)
theorem dX8_odds_21 : decode cX8_odds 21 = .ok (.ifCond .eq 17, 3) := dk_153 0 17 (dk_at dksX8_odds_0 21 rfl rfl)
theorem dX8_odds_24 : decode cX8_odds 24 = .ok (.iload 7, 2) := dk_21 7 (dk_at dksX8_odds_1 0 rfl rfl)
theorem dX8_odds_26 : decode cX8_odds 26 = .ok (.iconst 0, 1) := dk_3 (dk_at dksX8_odds_1 2 rfl rfl)
theorem dX8_odds_27 : decode cX8_odds 27 = .ok (.iconst 3, 1) := dk_6 (dk_at dksX8_odds_1 3 rfl rfl)
theorem dX8_odds_28 : decode cX8_odds 28 = .ok (.invokestatic 138, 3) := dk_184 0 138 (dk_at dksX8_odds_1 4 rfl rfl)
theorem dX8_odds_31 : decode cX8_odds 31 = .ok (.ifCond .eq 7, 3) := dk_153 0 7 (dk_at dksX8_odds_1 7 rfl rfl)
theorem dX8_odds_34 : decode cX8_odds 34 = .ok (.iconst 1, 1) := dk_4 (dk_at dksX8_odds_1 10 rfl rfl)
theorem dX8_odds_35 : decode cX8_odds 35 = .ok (.goto 4, 3) := dk_167 0 4 (dk_at dksX8_odds_1 11 rfl rfl)
theorem dX8_odds_38 : decode cX8_odds 38 = .ok (.iconst 0, 1) := dk_3 (dk_at dksX8_odds_1 14 rfl rfl)
theorem dX8_odds_39 : decode cX8_odds 39 = .ok (.iload_n 1, 1) := dk_27 (dk_at dksX8_odds_1 15 rfl rfl)
theorem dX8_odds_40 : decode cX8_odds 40 = .ok (.iload_n 3, 1) := dk_29 (dk_at dksX8_odds_1 16 rfl rfl)
theorem dX8_odds_41 : decode cX8_odds 41 = .ok (.iload 5, 2) := dk_21 5 (dk_at dksX8_odds_1 17 rfl rfl)
theorem dX8_odds_43 : decode cX8_odds 43 = .ok (.iload 6, 2) := dk_21 6 (dk_at dksX8_odds_1 19 rfl rfl)
theorem dX8_odds_45 : decode cX8_odds 45 = .ok (.invokevirtual 458, 3) := dk_182 1 202 (dk_at dksX8_odds_1 21 rfl rfl)
theorem dX8_odds_48 : decode cX8_odds 48 = .ok (.istore 9, 2) := dk_54 9 (dk_at dksX8_odds_2 0 rfl rfl)
theorem dX8_odds_50 : decode cX8_odds 50 = .ok (.iload 9, 2) := dk_21 9 (dk_at dksX8_odds_2 2 rfl rfl)
theorem dX8_odds_52 : decode cX8_odds 52 = .ok (.ifCond .le 11, 3) := dk_158 0 11 (dk_at dksX8_odds_2 4 rfl rfl)
theorem dX8_odds_55 : decode cX8_odds 55 = .ok (.aload_n 0, 1) := dk_42 (dk_at dksX8_odds_2 7 rfl rfl)
theorem dX8_odds_56 : decode cX8_odds 56 = .ok (.iload 9, 2) := dk_21 9 (dk_at dksX8_odds_2 8 rfl rfl)
theorem dX8_odds_58 : decode cX8_odds 58 = .ok (.invokevirtual 59, 3) := dk_182 0 59 (dk_at dksX8_odds_2 10 rfl rfl)
theorem dX8_odds_61 : decode cX8_odds 61 = .ok (.i2l, 1) := dk_133 (dk_at dksX8_odds_2 13 rfl rfl)
theorem dX8_odds_62 : decode cX8_odds 62 = .ok (.lreturn, 1) := dk_173 (dk_at dksX8_odds_2 14 rfl rfl)
theorem dX8_odds_63 : decode cX8_odds 63 = .ok (.aload_n 0, 1) := dk_42 (dk_at dksX8_odds_2 15 rfl rfl)
theorem dX8_odds_64 : decode cX8_odds 64 = .ok (.iload_n 1, 1) := dk_27 (dk_at dksX8_odds_2 16 rfl rfl)
theorem dX8_odds_65 : decode cX8_odds 65 = .ok (.iload_n 2, 1) := dk_28 (dk_at dksX8_odds_2 17 rfl rfl)
theorem dX8_odds_66 : decode cX8_odds 66 = .ok (.iload_n 3, 1) := dk_29 (dk_at dksX8_odds_2 18 rfl rfl)
theorem dX8_odds_67 : decode cX8_odds 67 = .ok (.iload 4, 2) := dk_21 4 (dk_at dksX8_odds_2 19 rfl rfl)
theorem dX8_odds_69 : decode cX8_odds 69 = .ok (.iload 5, 2) := dk_21 5 (dk_at dksX8_odds_2 21 rfl rfl)
theorem dX8_odds_71 : decode cX8_odds 71 = .ok (.iload 6, 2) := dk_21 6 (dk_at dksX8_odds_3 0 rfl rfl)
theorem dX8_odds_73 : decode cX8_odds 73 = .ok (.invokevirtual 396, 3) := dk_182 1 140 (dk_at dksX8_odds_3 2 rfl rfl)
theorem dX8_odds_76 : decode cX8_odds 76 = .ok (.aload_n 0, 1) := dk_42 (dk_at dksX8_odds_3 5 rfl rfl)
theorem dX8_odds_77 : decode cX8_odds 77 = .ok (.aload_n 0, 1) := dk_42 (dk_at dksX8_odds_3 6 rfl rfl)
theorem dX8_odds_78 : decode cX8_odds 78 = .ok (.iload 7, 2) := dk_21 7 (dk_at dksX8_odds_3 7 rfl rfl)
theorem dX8_odds_80 : decode cX8_odds 80 = .ok (.invokevirtual 462, 3) := dk_182 1 206 (dk_at dksX8_odds_3 9 rfl rfl)
theorem dX8_odds_83 : decode cX8_odds 83 = .ok (.ldc2_w 436, 3) := dk_20 1 180 (dk_at dksX8_odds_3 12 rfl rfl)
theorem dX8_odds_86 : decode cX8_odds 86 = .ok (.aload_n 0, 1) := dk_42 (dk_at dksX8_odds_3 15 rfl rfl)
theorem dX8_odds_87 : decode cX8_odds 87 = .ok (.invokevirtual 430, 3) := dk_182 1 174 (dk_at dksX8_odds_3 16 rfl rfl)
theorem dX8_odds_90 : decode cX8_odds 90 = .ok (.i2l, 1) := dk_133 (dk_at dksX8_odds_3 19 rfl rfl)
theorem dX8_odds_91 : decode cX8_odds 91 = .ok (.lmul, 1) := dk_105 (dk_at dksX8_odds_3 20 rfl rfl)
theorem dX8_odds_92 : decode cX8_odds 92 = .ok (.iload 8, 2) := dk_21 8 (dk_at dksX8_odds_3 21 rfl rfl)
theorem dX8_odds_94 : decode cX8_odds 94 = .ok (.invokevirtual 466, 3) := dk_182 1 210 (dk_at dksX8_odds_4 0 rfl rfl)
theorem dX8_odds_97 : decode cX8_odds 97 = .ok (.lreturn, 1) := dk_173 (dk_at dksX8_odds_4 3 rfl rfl)
abbrev cX8_oddsOf : ByteArray := prog_20_method_55_code
def yX8_oddsOf : MethodName := ⟨RX8, "oddsOf", "(I)J"⟩
def dkwX8_oddsOf_3 : List UInt8 := [180, 1, 2, 133, 167, 0, 4, 9, 97, 66, 132, 5, 1, 167, 255, 218, 42, 2, 181, 1, 133, 33, 173]
abbrev dktX8_oddsOf_3 : List UInt8 := dkwX8_oddsOf_3 ++ []
def dkwX8_oddsOf_2 : List UInt8 := [162, 0, 38, 42, 21, 5, 182, 1, 182, 33, 42, 182, 1, 177, 27, 160, 0, 14, 42, 180, 1, 117]
abbrev dktX8_oddsOf_2 : List UInt8 := dkwX8_oddsOf_2 ++ dktX8_oddsOf_3
def dkwX8_oddsOf_1 : List UInt8 := [180, 1, 117, 180, 1, 2, 133, 101, 28, 133, 105, 167, 0, 4, 9, 66, 3, 54, 5, 21, 5, 28]
abbrev dktX8_oddsOf_1 : List UInt8 := dkwX8_oddsOf_1 ++ dktX8_oddsOf_2
def dkwX8_oddsOf_0 : List UInt8 := [42, 182, 1, 174, 61, 42, 2, 181, 1, 133, 42, 182, 1, 177, 27, 160, 0, 21, 20, 1, 180, 42]
abbrev dktX8_oddsOf_0 : List UInt8 := dkwX8_oddsOf_0 ++ dktX8_oddsOf_1
theorem dksX8_oddsOf_0 : cX8_oddsOf.data.toList.drop 0 = dktX8_oddsOf_0 := by decide +kernel
theorem dksX8_oddsOf_1 : cX8_oddsOf.data.toList.drop 22 = dktX8_oddsOf_1 := dk_seg dksX8_oddsOf_0 22 rfl rfl
theorem dksX8_oddsOf_2 : cX8_oddsOf.data.toList.drop 44 = dktX8_oddsOf_2 := dk_seg dksX8_oddsOf_1 22 rfl rfl
theorem dksX8_oddsOf_3 : cX8_oddsOf.data.toList.drop 66 = dktX8_oddsOf_3 := dk_seg dksX8_oddsOf_2 22 rfl rfl
theorem dX8_oddsOf_0 : decode cX8_oddsOf 0 = .ok (.aload_n 0, 1) := dk_42 (dk_at dksX8_oddsOf_0 0 rfl rfl)
theorem dX8_oddsOf_1 : decode cX8_oddsOf 1 = .ok (.invokevirtual 430, 3) := dk_182 1 174 (dk_at dksX8_oddsOf_0 1 rfl rfl)
theorem dX8_oddsOf_4 : decode cX8_oddsOf 4 = .ok (.istore_n 2, 1) := dk_61 (dk_at dksX8_oddsOf_0 4 rfl rfl)
theorem dX8_oddsOf_5 : decode cX8_oddsOf 5 = .ok (.aload_n 0, 1) := dk_42 (dk_at dksX8_oddsOf_0 5 rfl rfl)
theorem dX8_oddsOf_6 : decode cX8_oddsOf 6 = .ok (.iconst (-1), 1) := dk_2 (dk_at dksX8_oddsOf_0 6 rfl rfl)
theorem dX8_oddsOf_7 : decode cX8_oddsOf 7 = .ok (.putfield 389, 3) := dk_181 1 133 (dk_at dksX8_oddsOf_0 7 rfl rfl)
theorem dX8_oddsOf_10 : decode cX8_oddsOf 10 = .ok (.aload_n 0, 1) := dk_42 (dk_at dksX8_oddsOf_0 10 rfl rfl)
theorem dX8_oddsOf_11 : decode cX8_oddsOf 11 = .ok (.invokevirtual 433, 3) := dk_182 1 177 (dk_at dksX8_oddsOf_0 11 rfl rfl)
theorem dX8_oddsOf_14 : decode cX8_oddsOf 14 = .ok (.iload_n 1, 1) := dk_27 (dk_at dksX8_oddsOf_0 14 rfl rfl)
theorem dX8_oddsOf_15 : decode cX8_oddsOf 15 = .ok (.if_icmp .ne 21, 3) := dk_160 0 21 (dk_at dksX8_oddsOf_0 15 rfl rfl)
theorem dX8_oddsOf_18 : decode cX8_oddsOf 18 = .ok (.ldc2_w 436, 3) := dk_20 1 180 (dk_at dksX8_oddsOf_0 18 rfl rfl)
theorem dX8_oddsOf_21 : decode cX8_oddsOf 21 = .ok (.aload_n 0, 1) := dk_42 (dk_at dksX8_oddsOf_0 21 rfl rfl)
theorem dX8_oddsOf_22 : decode cX8_oddsOf 22 = .ok (.getfield 373, 3) := dk_180 1 117 (dk_at dksX8_oddsOf_1 0 rfl rfl)
theorem dX8_oddsOf_25 : decode cX8_oddsOf 25 = .ok (.getfield 258, 3) := dk_180 1 2 (dk_at dksX8_oddsOf_1 3 rfl rfl)
theorem dX8_oddsOf_28 : decode cX8_oddsOf 28 = .ok (.i2l, 1) := dk_133 (dk_at dksX8_oddsOf_1 6 rfl rfl)
theorem dX8_oddsOf_29 : decode cX8_oddsOf 29 = .ok (.lsub, 1) := dk_101 (dk_at dksX8_oddsOf_1 7 rfl rfl)
theorem dX8_oddsOf_30 : decode cX8_oddsOf 30 = .ok (.iload_n 2, 1) := dk_28 (dk_at dksX8_oddsOf_1 8 rfl rfl)
theorem dX8_oddsOf_31 : decode cX8_oddsOf 31 = .ok (.i2l, 1) := dk_133 (dk_at dksX8_oddsOf_1 9 rfl rfl)
theorem dX8_oddsOf_32 : decode cX8_oddsOf 32 = .ok (.lmul, 1) := dk_105 (dk_at dksX8_oddsOf_1 10 rfl rfl)
theorem dX8_oddsOf_33 : decode cX8_oddsOf 33 = .ok (.goto 4, 3) := dk_167 0 4 (dk_at dksX8_oddsOf_1 11 rfl rfl)
theorem dX8_oddsOf_36 : decode cX8_oddsOf 36 = .ok (.lconst 0, 1) := dk_9 (dk_at dksX8_oddsOf_1 14 rfl rfl)
theorem dX8_oddsOf_37 : decode cX8_oddsOf 37 = .ok (.lstore_n 3, 1) := dk_66 (dk_at dksX8_oddsOf_1 15 rfl rfl)
theorem dX8_oddsOf_38 : decode cX8_oddsOf 38 = .ok (.iconst 0, 1) := dk_3 (dk_at dksX8_oddsOf_1 16 rfl rfl)
theorem dX8_oddsOf_39 : decode cX8_oddsOf 39 = .ok (.istore 5, 2) := dk_54 5 (dk_at dksX8_oddsOf_1 17 rfl rfl)
theorem dX8_oddsOf_41 : decode cX8_oddsOf 41 = .ok (.iload 5, 2) := dk_21 5 (dk_at dksX8_oddsOf_1 19 rfl rfl)
theorem dX8_oddsOf_43 : decode cX8_oddsOf 43 = .ok (.iload_n 2, 1) := dk_28 (dk_at dksX8_oddsOf_1 21 rfl rfl)
theorem dX8_oddsOf_44 : decode cX8_oddsOf 44 = .ok (.if_icmp .ge 38, 3) := dk_162 0 38 (dk_at dksX8_oddsOf_2 0 rfl rfl)
theorem dX8_oddsOf_47 : decode cX8_oddsOf 47 = .ok (.aload_n 0, 1) := dk_42 (dk_at dksX8_oddsOf_2 3 rfl rfl)
theorem dX8_oddsOf_48 : decode cX8_oddsOf 48 = .ok (.iload 5, 2) := dk_21 5 (dk_at dksX8_oddsOf_2 4 rfl rfl)
theorem dX8_oddsOf_50 : decode cX8_oddsOf 50 = .ok (.invokevirtual 438, 3) := dk_182 1 182 (dk_at dksX8_oddsOf_2 6 rfl rfl)
theorem dX8_oddsOf_53 : decode cX8_oddsOf 53 = .ok (.lload_n 3, 1) := dk_33 (dk_at dksX8_oddsOf_2 9 rfl rfl)
theorem dX8_oddsOf_54 : decode cX8_oddsOf 54 = .ok (.aload_n 0, 1) := dk_42 (dk_at dksX8_oddsOf_2 10 rfl rfl)
theorem dX8_oddsOf_55 : decode cX8_oddsOf 55 = .ok (.invokevirtual 433, 3) := dk_182 1 177 (dk_at dksX8_oddsOf_2 11 rfl rfl)
theorem dX8_oddsOf_58 : decode cX8_oddsOf 58 = .ok (.iload_n 1, 1) := dk_27 (dk_at dksX8_oddsOf_2 14 rfl rfl)
theorem dX8_oddsOf_59 : decode cX8_oddsOf 59 = .ok (.if_icmp .ne 14, 3) := dk_160 0 14 (dk_at dksX8_oddsOf_2 15 rfl rfl)
theorem dX8_oddsOf_62 : decode cX8_oddsOf 62 = .ok (.aload_n 0, 1) := dk_42 (dk_at dksX8_oddsOf_2 18 rfl rfl)
theorem dX8_oddsOf_63 : decode cX8_oddsOf 63 = .ok (.getfield 373, 3) := dk_180 1 117 (dk_at dksX8_oddsOf_2 19 rfl rfl)
theorem dX8_oddsOf_66 : decode cX8_oddsOf 66 = .ok (.getfield 258, 3) := dk_180 1 2 (dk_at dksX8_oddsOf_3 0 rfl rfl)
theorem dX8_oddsOf_69 : decode cX8_oddsOf 69 = .ok (.i2l, 1) := dk_133 (dk_at dksX8_oddsOf_3 3 rfl rfl)
theorem dX8_oddsOf_70 : decode cX8_oddsOf 70 = .ok (.goto 4, 3) := dk_167 0 4 (dk_at dksX8_oddsOf_3 4 rfl rfl)
theorem dX8_oddsOf_73 : decode cX8_oddsOf 73 = .ok (.lconst 0, 1) := dk_9 (dk_at dksX8_oddsOf_3 7 rfl rfl)
theorem dX8_oddsOf_74 : decode cX8_oddsOf 74 = .ok (.ladd, 1) := dk_97 (dk_at dksX8_oddsOf_3 8 rfl rfl)
theorem dX8_oddsOf_75 : decode cX8_oddsOf 75 = .ok (.lstore_n 3, 1) := dk_66 (dk_at dksX8_oddsOf_3 9 rfl rfl)
theorem dX8_oddsOf_76 : decode cX8_oddsOf 76 = .ok (.iinc 5 1, 3) := dk_132 5 1 (dk_at dksX8_oddsOf_3 10 rfl rfl)
theorem dX8_oddsOf_79 : decode cX8_oddsOf 79 = .ok (.goto (-38), 3) := dk_167 255 218 (dk_at dksX8_oddsOf_3 13 rfl rfl)
theorem dX8_oddsOf_82 : decode cX8_oddsOf 82 = .ok (.aload_n 0, 1) := dk_42 (dk_at dksX8_oddsOf_3 16 rfl rfl)
theorem dX8_oddsOf_83 : decode cX8_oddsOf 83 = .ok (.iconst (-1), 1) := dk_2 (dk_at dksX8_oddsOf_3 17 rfl rfl)
theorem dX8_oddsOf_84 : decode cX8_oddsOf 84 = .ok (.putfield 389, 3) := dk_181 1 133 (dk_at dksX8_oddsOf_3 18 rfl rfl)
theorem dX8_oddsOf_87 : decode cX8_oddsOf 87 = .ok (.lload_n 3, 1) := dk_33 (dk_at dksX8_oddsOf_3 21 rfl rfl)
theorem dX8_oddsOf_88 : decode cX8_oddsOf 88 = .ok (.lreturn, 1) := dk_173 (dk_at dksX8_oddsOf_3 22 rfl rfl)
abbrev cX8_allPlaces : ByteArray := prog_20_method_53_code
def yX8_allPlaces : MethodName := ⟨RX8, "allPlaces", "()I"⟩
def dkwX8_allPlaces_1 : List UInt8 := [96, 172]
abbrev dktX8_allPlaces_1 : List UInt8 := dkwX8_allPlaces_1 ++ []
def dkwX8_allPlaces_0 : List UInt8 := [42, 180, 1, 117, 42, 180, 1, 125, 3, 182, 1, 150, 42, 180, 1, 117, 42, 180, 1, 125, 4, 182, 1, 150]
abbrev dktX8_allPlaces_0 : List UInt8 := dkwX8_allPlaces_0 ++ dktX8_allPlaces_1
theorem dksX8_allPlaces_0 : cX8_allPlaces.data.toList.drop 0 = dktX8_allPlaces_0 := by decide +kernel
theorem dksX8_allPlaces_1 : cX8_allPlaces.data.toList.drop 24 = dktX8_allPlaces_1 := dk_seg dksX8_allPlaces_0 24 rfl rfl
theorem dX8_allPlaces_0 : decode cX8_allPlaces 0 = .ok (.aload_n 0, 1) := dk_42 (dk_at dksX8_allPlaces_0 0 rfl rfl)
theorem dX8_allPlaces_1 : decode cX8_allPlaces 1 = .ok (.getfield 373, 3) := dk_180 1 117 (dk_at dksX8_allPlaces_0 1 rfl rfl)
theorem dX8_allPlaces_4 : decode cX8_allPlaces 4 = .ok (.aload_n 0, 1) := dk_42 (dk_at dksX8_allPlaces_0 4 rfl rfl)
theorem dX8_allPlaces_5 : decode cX8_allPlaces 5 = .ok (.getfield 381, 3) := dk_180 1 125 (dk_at dksX8_allPlaces_0 5 rfl rfl)
theorem dX8_allPlaces_8 : decode cX8_allPlaces 8 = .ok (.iconst 0, 1) := dk_3 (dk_at dksX8_allPlaces_0 8 rfl rfl)
theorem dX8_allPlaces_9 : decode cX8_allPlaces 9 = .ok (.invokevirtual 406, 3) := dk_182 1 150 (dk_at dksX8_allPlaces_0 9 rfl rfl)
theorem dX8_allPlaces_12 : decode cX8_allPlaces 12 = .ok (.aload_n 0, 1) := dk_42 (dk_at dksX8_allPlaces_0 12 rfl rfl)
theorem dX8_allPlaces_13 : decode cX8_allPlaces 13 = .ok (.getfield 373, 3) := dk_180 1 117 (dk_at dksX8_allPlaces_0 13 rfl rfl)
theorem dX8_allPlaces_16 : decode cX8_allPlaces 16 = .ok (.aload_n 0, 1) := dk_42 (dk_at dksX8_allPlaces_0 16 rfl rfl)
theorem dX8_allPlaces_17 : decode cX8_allPlaces 17 = .ok (.getfield 381, 3) := dk_180 1 125 (dk_at dksX8_allPlaces_0 17 rfl rfl)
theorem dX8_allPlaces_20 : decode cX8_allPlaces 20 = .ok (.iconst 1, 1) := dk_4 (dk_at dksX8_allPlaces_0 20 rfl rfl)
theorem dX8_allPlaces_21 : decode cX8_allPlaces 21 = .ok (.invokevirtual 406, 3) := dk_182 1 150 (dk_at dksX8_allPlaces_0 21 rfl rfl)
theorem dX8_allPlaces_24 : decode cX8_allPlaces 24 = .ok (.iadd, 1) := dk_96 (dk_at dksX8_allPlaces_1 0 rfl rfl)
theorem dX8_allPlaces_25 : decode cX8_allPlaces 25 = .ok (.ireturn, 1) := dk_172 (dk_at dksX8_allPlaces_1 1 rfl rfl)
abbrev cX8_flaws : ByteArray := prog_20_method_54_code
def yX8_flaws : MethodName := ⟨RX8, "flaws", "(I)V"⟩
def dkwX8_flaws_2 : List UInt8 := [3, 182, 1, 150, 100, 181, 1, 147, 177]
abbrev dktX8_flaws_2 : List UInt8 := dkwX8_flaws_2 ++ []
def dkwX8_flaws_1 : List UInt8 := [181, 1, 133, 42, 42, 180, 1, 133, 154, 0, 7, 27, 167, 0, 17, 27, 42, 180, 1, 117, 42, 180, 1, 125]
abbrev dktX8_flaws_1 : List UInt8 := dkwX8_flaws_1 ++ dktX8_flaws_2
def dkwX8_flaws_0 : List UInt8 := [42, 27, 42, 180, 1, 117, 42, 180, 1, 125, 3, 182, 1, 150, 162, 0, 7, 3, 167, 0, 4, 4]
abbrev dktX8_flaws_0 : List UInt8 := dkwX8_flaws_0 ++ dktX8_flaws_1
theorem dksX8_flaws_0 : cX8_flaws.data.toList.drop 0 = dktX8_flaws_0 := by decide +kernel
theorem dksX8_flaws_1 : cX8_flaws.data.toList.drop 22 = dktX8_flaws_1 := dk_seg dksX8_flaws_0 22 rfl rfl
theorem dksX8_flaws_2 : cX8_flaws.data.toList.drop 46 = dktX8_flaws_2 := dk_seg dksX8_flaws_1 24 rfl rfl
theorem dX8_flaws_0 : decode cX8_flaws 0 = .ok (.aload_n 0, 1) := dk_42 (dk_at dksX8_flaws_0 0 rfl rfl)
theorem dX8_flaws_1 : decode cX8_flaws 1 = .ok (.iload_n 1, 1) := dk_27 (dk_at dksX8_flaws_0 1 rfl rfl)
theorem dX8_flaws_2 : decode cX8_flaws 2 = .ok (.aload_n 0, 1) := dk_42 (dk_at dksX8_flaws_0 2 rfl rfl)
theorem dX8_flaws_3 : decode cX8_flaws 3 = .ok (.getfield 373, 3) := dk_180 1 117 (dk_at dksX8_flaws_0 3 rfl rfl)
theorem dX8_flaws_6 : decode cX8_flaws 6 = .ok (.aload_n 0, 1) := dk_42 (dk_at dksX8_flaws_0 6 rfl rfl)
theorem dX8_flaws_7 : decode cX8_flaws 7 = .ok (.getfield 381, 3) := dk_180 1 125 (dk_at dksX8_flaws_0 7 rfl rfl)
theorem dX8_flaws_10 : decode cX8_flaws 10 = .ok (.iconst 0, 1) := dk_3 (dk_at dksX8_flaws_0 10 rfl rfl)
theorem dX8_flaws_11 : decode cX8_flaws 11 = .ok (.invokevirtual 406, 3) := dk_182 1 150 (dk_at dksX8_flaws_0 11 rfl rfl)
theorem dX8_flaws_14 : decode cX8_flaws 14 = .ok (.if_icmp .ge 7, 3) := dk_162 0 7 (dk_at dksX8_flaws_0 14 rfl rfl)
theorem dX8_flaws_17 : decode cX8_flaws 17 = .ok (.iconst 0, 1) := dk_3 (dk_at dksX8_flaws_0 17 rfl rfl)
theorem dX8_flaws_18 : decode cX8_flaws 18 = .ok (.goto 4, 3) := dk_167 0 4 (dk_at dksX8_flaws_0 18 rfl rfl)
theorem dX8_flaws_21 : decode cX8_flaws 21 = .ok (.iconst 1, 1) := dk_4 (dk_at dksX8_flaws_0 21 rfl rfl)
theorem dX8_flaws_22 : decode cX8_flaws 22 = .ok (.putfield 389, 3) := dk_181 1 133 (dk_at dksX8_flaws_1 0 rfl rfl)
theorem dX8_flaws_25 : decode cX8_flaws 25 = .ok (.aload_n 0, 1) := dk_42 (dk_at dksX8_flaws_1 3 rfl rfl)
theorem dX8_flaws_26 : decode cX8_flaws 26 = .ok (.aload_n 0, 1) := dk_42 (dk_at dksX8_flaws_1 4 rfl rfl)
theorem dX8_flaws_27 : decode cX8_flaws 27 = .ok (.getfield 389, 3) := dk_180 1 133 (dk_at dksX8_flaws_1 5 rfl rfl)
theorem dX8_flaws_30 : decode cX8_flaws 30 = .ok (.ifCond .ne 7, 3) := dk_154 0 7 (dk_at dksX8_flaws_1 8 rfl rfl)
theorem dX8_flaws_33 : decode cX8_flaws 33 = .ok (.iload_n 1, 1) := dk_27 (dk_at dksX8_flaws_1 11 rfl rfl)
theorem dX8_flaws_34 : decode cX8_flaws 34 = .ok (.goto 17, 3) := dk_167 0 17 (dk_at dksX8_flaws_1 12 rfl rfl)
theorem dX8_flaws_37 : decode cX8_flaws 37 = .ok (.iload_n 1, 1) := dk_27 (dk_at dksX8_flaws_1 15 rfl rfl)
theorem dX8_flaws_38 : decode cX8_flaws 38 = .ok (.aload_n 0, 1) := dk_42 (dk_at dksX8_flaws_1 16 rfl rfl)
theorem dX8_flaws_39 : decode cX8_flaws 39 = .ok (.getfield 373, 3) := dk_180 1 117 (dk_at dksX8_flaws_1 17 rfl rfl)
theorem dX8_flaws_42 : decode cX8_flaws 42 = .ok (.aload_n 0, 1) := dk_42 (dk_at dksX8_flaws_1 20 rfl rfl)
theorem dX8_flaws_43 : decode cX8_flaws 43 = .ok (.getfield 381, 3) := dk_180 1 125 (dk_at dksX8_flaws_1 21 rfl rfl)
theorem dX8_flaws_46 : decode cX8_flaws 46 = .ok (.iconst 0, 1) := dk_3 (dk_at dksX8_flaws_2 0 rfl rfl)
theorem dX8_flaws_47 : decode cX8_flaws 47 = .ok (.invokevirtual 406, 3) := dk_182 1 150 (dk_at dksX8_flaws_2 1 rfl rfl)
theorem dX8_flaws_50 : decode cX8_flaws 50 = .ok (.isub, 1) := dk_100 (dk_at dksX8_flaws_2 4 rfl rfl)
theorem dX8_flaws_51 : decode cX8_flaws 51 = .ok (.putfield 403, 3) := dk_181 1 147 (dk_at dksX8_flaws_2 5 rfl rfl)
theorem dX8_flaws_54 : decode cX8_flaws 54 = .ok (.return_, 1) := dk_177 (dk_at dksX8_flaws_2 8 rfl rfl)
abbrev cX8_fraction : ByteArray := prog_20_method_10_code
def yX8_fraction : MethodName := ⟨RX8, "fraction", "(JJZ)J"⟩
def dkwX8_fraction_0 : List UInt8 := [42, 3, 182, 0, 63, 87, 21, 5, 153, 0, 7, 33, 167, 0, 4, 31, 31, 33, 184, 0, 66, 109, 173]
abbrev dktX8_fraction_0 : List UInt8 := dkwX8_fraction_0 ++ []
theorem dksX8_fraction_0 : cX8_fraction.data.toList.drop 0 = dktX8_fraction_0 := by decide +kernel
theorem dX8_fraction_0 : decode cX8_fraction 0 = .ok (.aload_n 0, 1) := dk_42 (dk_at dksX8_fraction_0 0 rfl rfl)
theorem dX8_fraction_1 : decode cX8_fraction 1 = .ok (.iconst 0, 1) := dk_3 (dk_at dksX8_fraction_0 1 rfl rfl)
theorem dX8_fraction_2 : decode cX8_fraction 2 = .ok (.invokevirtual 63, 3) := dk_182 0 63 (dk_at dksX8_fraction_0 2 rfl rfl)
theorem dX8_fraction_5 : decode cX8_fraction 5 = .ok (.pop, 1) := dk_87 (dk_at dksX8_fraction_0 5 rfl rfl)
theorem dX8_fraction_6 : decode cX8_fraction 6 = .ok (.iload 5, 2) := dk_21 5 (dk_at dksX8_fraction_0 6 rfl rfl)
theorem dX8_fraction_8 : decode cX8_fraction 8 = .ok (.ifCond .eq 7, 3) := dk_153 0 7 (dk_at dksX8_fraction_0 8 rfl rfl)
theorem dX8_fraction_11 : decode cX8_fraction 11 = .ok (.lload_n 3, 1) := dk_33 (dk_at dksX8_fraction_0 11 rfl rfl)
theorem dX8_fraction_12 : decode cX8_fraction 12 = .ok (.goto 4, 3) := dk_167 0 4 (dk_at dksX8_fraction_0 12 rfl rfl)
theorem dX8_fraction_15 : decode cX8_fraction 15 = .ok (.lload_n 1, 1) := dk_31 (dk_at dksX8_fraction_0 15 rfl rfl)
theorem dX8_fraction_16 : decode cX8_fraction 16 = .ok (.lload_n 1, 1) := dk_31 (dk_at dksX8_fraction_0 16 rfl rfl)
theorem dX8_fraction_17 : decode cX8_fraction 17 = .ok (.lload_n 3, 1) := dk_33 (dk_at dksX8_fraction_0 17 rfl rfl)
theorem dX8_fraction_18 : decode cX8_fraction 18 = .ok (.invokestatic 66, 3) := dk_184 0 66 (dk_at dksX8_fraction_0 18 rfl rfl)
theorem dX8_fraction_21 : decode cX8_fraction 21 = .ok (.ldiv, 1) := dk_109 (dk_at dksX8_fraction_0 21 rfl rfl)
theorem dX8_fraction_22 : decode cX8_fraction 22 = .ok (.lreturn, 1) := dk_173 (dk_at dksX8_fraction_0 22 rfl rfl)
abbrev cX8_common : ByteArray := prog_20_method_9_code
def yX8_common : MethodName := ⟨RX8, "common", "(JJ)J"⟩
def dkwX8_common_1 : List UInt8 := [22, 8, 55, 6, 167, 255, 234, 22, 4, 173]
abbrev dktX8_common_1 : List UInt8 := dkwX8_common_1 ++ []
def dkwX8_common_0 : List UInt8 := [30, 55, 4, 32, 55, 6, 22, 6, 9, 148, 153, 0, 21, 22, 4, 22, 6, 113, 55, 8, 22, 6, 55, 4]
abbrev dktX8_common_0 : List UInt8 := dkwX8_common_0 ++ dktX8_common_1
theorem dksX8_common_0 : cX8_common.data.toList.drop 0 = dktX8_common_0 := by decide +kernel
theorem dksX8_common_1 : cX8_common.data.toList.drop 24 = dktX8_common_1 := dk_seg dksX8_common_0 24 rfl rfl
theorem dX8_common_0 : decode cX8_common 0 = .ok (.lload_n 0, 1) := dk_30 (dk_at dksX8_common_0 0 rfl rfl)
theorem dX8_common_1 : decode cX8_common 1 = .ok (.lstore 4, 2) := dk_55 4 (dk_at dksX8_common_0 1 rfl rfl)
theorem dX8_common_3 : decode cX8_common 3 = .ok (.lload_n 2, 1) := dk_32 (dk_at dksX8_common_0 3 rfl rfl)
theorem dX8_common_4 : decode cX8_common 4 = .ok (.lstore 6, 2) := dk_55 6 (dk_at dksX8_common_0 4 rfl rfl)
theorem dX8_common_6 : decode cX8_common 6 = .ok (.lload 6, 2) := dk_22 6 (dk_at dksX8_common_0 6 rfl rfl)
theorem dX8_common_8 : decode cX8_common 8 = .ok (.lconst 0, 1) := dk_9 (dk_at dksX8_common_0 8 rfl rfl)
theorem dX8_common_9 : decode cX8_common 9 = .ok (.lcmp, 1) := dk_148 (dk_at dksX8_common_0 9 rfl rfl)
theorem dX8_common_10 : decode cX8_common 10 = .ok (.ifCond .eq 21, 3) := dk_153 0 21 (dk_at dksX8_common_0 10 rfl rfl)
theorem dX8_common_13 : decode cX8_common 13 = .ok (.lload 4, 2) := dk_22 4 (dk_at dksX8_common_0 13 rfl rfl)
theorem dX8_common_15 : decode cX8_common 15 = .ok (.lload 6, 2) := dk_22 6 (dk_at dksX8_common_0 15 rfl rfl)
theorem dX8_common_17 : decode cX8_common 17 = .ok (.lrem, 1) := dk_113 (dk_at dksX8_common_0 17 rfl rfl)
theorem dX8_common_18 : decode cX8_common 18 = .ok (.lstore 8, 2) := dk_55 8 (dk_at dksX8_common_0 18 rfl rfl)
theorem dX8_common_20 : decode cX8_common 20 = .ok (.lload 6, 2) := dk_22 6 (dk_at dksX8_common_0 20 rfl rfl)
theorem dX8_common_22 : decode cX8_common 22 = .ok (.lstore 4, 2) := dk_55 4 (dk_at dksX8_common_0 22 rfl rfl)
theorem dX8_common_24 : decode cX8_common 24 = .ok (.lload 8, 2) := dk_22 8 (dk_at dksX8_common_1 0 rfl rfl)
theorem dX8_common_26 : decode cX8_common 26 = .ok (.lstore 6, 2) := dk_55 6 (dk_at dksX8_common_1 2 rfl rfl)
theorem dX8_common_28 : decode cX8_common 28 = .ok (.goto (-22), 3) := dk_167 255 234 (dk_at dksX8_common_1 4 rfl rfl)
theorem dX8_common_31 : decode cX8_common 31 = .ok (.lload 4, 2) := dk_22 4 (dk_at dksX8_common_1 7 rfl rfl)
theorem dX8_common_33 : decode cX8_common 33 = .ok (.lreturn, 1) := dk_173 (dk_at dksX8_common_1 9 rfl rfl)
abbrev cX8_best : ByteArray := prog_20_method_76_code
def yX8_best : MethodName := ⟨RX8, "best", "(IIII)I"⟩
def dkwX8_best_6 : List UInt8 := [55, 6, 132, 8, 1, 167, 255, 171, 42, 21, 5, 184, 1, 218, 182, 0, 63, 172]
abbrev dktX8_best_6 : List UInt8 := dkwX8_best_6 ++ []
def dkwX8_best_5 : List UInt8 := [21, 5, 2, 159, 0, 14, 22, 9, 22, 6, 148, 157, 0, 6, 167, 0, 11, 21, 8, 54, 5, 22, 9]
abbrev dktX8_best_5 : List UInt8 := dkwX8_best_5 ++ dktX8_best_6
def dkwX8_best_4 : List UInt8 := [21, 8, 5, 112, 4, 160, 0, 7, 3, 167, 0, 4, 5, 182, 1, 140, 42, 3, 182, 1, 206, 55, 9]
abbrev dktX8_best_4 : List UInt8 := dkwX8_best_4 ++ dktX8_best_5
def dkwX8_best_3 : List UInt8 := [21, 8, 182, 1, 214, 154, 0, 6, 167, 0, 63, 42, 27, 28, 21, 8, 5, 108, 4, 96, 29, 21, 4]
abbrev dktX8_best_3 : List UInt8 := dkwX8_best_3 ++ dktX8_best_4
def dkwX8_best_2 : List UInt8 := [182, 0, 59, 172, 2, 54, 5, 9, 55, 6, 3, 54, 8, 21, 8, 16, 12, 162, 0, 84, 42, 28, 27, 3]
abbrev dktX8_best_2 : List UInt8 := dkwX8_best_2 ++ dktX8_best_3
def dkwX8_best_1 : List UInt8 := [182, 0, 59, 172, 21, 4, 4, 42, 180, 1, 117, 27, 4, 182, 1, 150, 184, 0, 138, 154, 0, 9, 42, 5]
abbrev dktX8_best_1 : List UInt8 := dkwX8_best_1 ++ dktX8_best_2
def dkwX8_best_0 : List UInt8 := [42, 3, 181, 0, 53, 42, 27, 182, 1, 188, 153, 0, 12, 42, 28, 29, 182, 1, 199, 154, 0, 9, 42, 4]
abbrev dktX8_best_0 : List UInt8 := dkwX8_best_0 ++ dktX8_best_1
theorem dksX8_best_0 : cX8_best.data.toList.drop 0 = dktX8_best_0 := by decide +kernel
theorem dksX8_best_1 : cX8_best.data.toList.drop 24 = dktX8_best_1 := dk_seg dksX8_best_0 24 rfl rfl
theorem dksX8_best_2 : cX8_best.data.toList.drop 48 = dktX8_best_2 := dk_seg dksX8_best_1 24 rfl rfl
theorem dksX8_best_3 : cX8_best.data.toList.drop 72 = dktX8_best_3 := dk_seg dksX8_best_2 24 rfl rfl
theorem dksX8_best_4 : cX8_best.data.toList.drop 95 = dktX8_best_4 := dk_seg dksX8_best_3 23 rfl rfl
theorem dksX8_best_5 : cX8_best.data.toList.drop 118 = dktX8_best_5 := dk_seg dksX8_best_4 23 rfl rfl
theorem dksX8_best_6 : cX8_best.data.toList.drop 141 = dktX8_best_6 := dk_seg dksX8_best_5 23 rfl rfl
theorem dX8_best_0 : decode cX8_best 0 = .ok (.aload_n 0, 1) := dk_42 (dk_at dksX8_best_0 0 rfl rfl)
theorem dX8_best_1 : decode cX8_best 1 = .ok (.iconst 0, 1) := dk_3 (dk_at dksX8_best_0 1 rfl rfl)
theorem dX8_best_2 : decode cX8_best 2 = .ok (.putfield 53, 3) := dk_181 0 53 (dk_at dksX8_best_0 2 rfl rfl)
theorem dX8_best_5 : decode cX8_best 5 = .ok (.aload_n 0, 1) := dk_42 (dk_at dksX8_best_0 5 rfl rfl)
theorem dX8_best_6 : decode cX8_best 6 = .ok (.iload_n 1, 1) := dk_27 (dk_at dksX8_best_0 6 rfl rfl)
theorem dX8_best_7 : decode cX8_best 7 = .ok (.invokevirtual 444, 3) := dk_182 1 188 (dk_at dksX8_best_0 7 rfl rfl)
theorem dX8_best_10 : decode cX8_best 10 = .ok (.ifCond .eq 12, 3) := dk_153 0 12 (dk_at dksX8_best_0 10 rfl rfl)
theorem dX8_best_13 : decode cX8_best 13 = .ok (.aload_n 0, 1) := dk_42 (dk_at dksX8_best_0 13 rfl rfl)
theorem dX8_best_14 : decode cX8_best 14 = .ok (.iload_n 2, 1) := dk_28 (dk_at dksX8_best_0 14 rfl rfl)
theorem dX8_best_15 : decode cX8_best 15 = .ok (.iload_n 3, 1) := dk_29 (dk_at dksX8_best_0 15 rfl rfl)
theorem dX8_best_16 : decode cX8_best 16 = .ok (.invokevirtual 455, 3) := dk_182 1 199 (dk_at dksX8_best_0 16 rfl rfl)
theorem dX8_best_19 : decode cX8_best 19 = .ok (.ifCond .ne 9, 3) := dk_154 0 9 (dk_at dksX8_best_0 19 rfl rfl)
theorem dX8_best_22 : decode cX8_best 22 = .ok (.aload_n 0, 1) := dk_42 (dk_at dksX8_best_0 22 rfl rfl)
theorem dX8_best_23 : decode cX8_best 23 = .ok (.iconst 1, 1) := dk_4 (dk_at dksX8_best_0 23 rfl rfl)
theorem dX8_best_24 : decode cX8_best 24 = .ok (.invokevirtual 59, 3) := dk_182 0 59 (dk_at dksX8_best_1 0 rfl rfl)
theorem dX8_best_27 : decode cX8_best 27 = .ok (.ireturn, 1) := dk_172 (dk_at dksX8_best_1 3 rfl rfl)
theorem dX8_best_28 : decode cX8_best 28 = .ok (.iload 4, 2) := dk_21 4 (dk_at dksX8_best_1 4 rfl rfl)
theorem dX8_best_30 : decode cX8_best 30 = .ok (.iconst 1, 1) := dk_4 (dk_at dksX8_best_1 6 rfl rfl)
theorem dX8_best_31 : decode cX8_best 31 = .ok (.aload_n 0, 1) := dk_42 (dk_at dksX8_best_1 7 rfl rfl)
theorem dX8_best_32 : decode cX8_best 32 = .ok (.getfield 373, 3) := dk_180 1 117 (dk_at dksX8_best_1 8 rfl rfl)
theorem dX8_best_35 : decode cX8_best 35 = .ok (.iload_n 1, 1) := dk_27 (dk_at dksX8_best_1 11 rfl rfl)
theorem dX8_best_36 : decode cX8_best 36 = .ok (.iconst 1, 1) := dk_4 (dk_at dksX8_best_1 12 rfl rfl)
theorem dX8_best_37 : decode cX8_best 37 = .ok (.invokevirtual 406, 3) := dk_182 1 150 (dk_at dksX8_best_1 13 rfl rfl)
theorem dX8_best_40 : decode cX8_best 40 = .ok (.invokestatic 138, 3) := dk_184 0 138 (dk_at dksX8_best_1 16 rfl rfl)
theorem dX8_best_43 : decode cX8_best 43 = .ok (.ifCond .ne 9, 3) := dk_154 0 9 (dk_at dksX8_best_1 19 rfl rfl)
theorem dX8_best_46 : decode cX8_best 46 = .ok (.aload_n 0, 1) := dk_42 (dk_at dksX8_best_1 22 rfl rfl)
theorem dX8_best_47 : decode cX8_best 47 = .ok (.iconst 2, 1) := dk_5 (dk_at dksX8_best_1 23 rfl rfl)
theorem dX8_best_48 : decode cX8_best 48 = .ok (.invokevirtual 59, 3) := dk_182 0 59 (dk_at dksX8_best_2 0 rfl rfl)
theorem dX8_best_51 : decode cX8_best 51 = .ok (.ireturn, 1) := dk_172 (dk_at dksX8_best_2 3 rfl rfl)
theorem dX8_best_52 : decode cX8_best 52 = .ok (.iconst (-1), 1) := dk_2 (dk_at dksX8_best_2 4 rfl rfl)
theorem dX8_best_53 : decode cX8_best 53 = .ok (.istore 5, 2) := dk_54 5 (dk_at dksX8_best_2 5 rfl rfl)
theorem dX8_best_55 : decode cX8_best 55 = .ok (.lconst 0, 1) := dk_9 (dk_at dksX8_best_2 7 rfl rfl)
theorem dX8_best_56 : decode cX8_best 56 = .ok (.lstore 6, 2) := dk_55 6 (dk_at dksX8_best_2 8 rfl rfl)
theorem dX8_best_58 : decode cX8_best 58 = .ok (.iconst 0, 1) := dk_3 (dk_at dksX8_best_2 10 rfl rfl)
theorem dX8_best_59 : decode cX8_best 59 = .ok (.istore 8, 2) := dk_54 8 (dk_at dksX8_best_2 11 rfl rfl)
theorem dX8_best_61 : decode cX8_best 61 = .ok (.iload 8, 2) := dk_21 8 (dk_at dksX8_best_2 13 rfl rfl)
theorem dX8_best_63 : decode cX8_best 63 = .ok (.bipush 12, 2) := dk_16 12 (dk_at dksX8_best_2 15 rfl rfl)
theorem dX8_best_65 : decode cX8_best 65 = .ok (.if_icmp .ge 84, 3) := dk_162 0 84 (dk_at dksX8_best_2 17 rfl rfl)
theorem dX8_best_68 : decode cX8_best 68 = .ok (.aload_n 0, 1) := dk_42 (dk_at dksX8_best_2 20 rfl rfl)
theorem dX8_best_69 : decode cX8_best 69 = .ok (.iload_n 2, 1) := dk_28 (dk_at dksX8_best_2 21 rfl rfl)
theorem dX8_best_70 : decode cX8_best 70 = .ok (.iload_n 1, 1) := dk_27 (dk_at dksX8_best_2 22 rfl rfl)
theorem dX8_best_71 : decode cX8_best 71 = .ok (.iconst 0, 1) := dk_3 (dk_at dksX8_best_2 23 rfl rfl)
theorem dX8_best_72 : decode cX8_best 72 = .ok (.iload 8, 2) := dk_21 8 (dk_at dksX8_best_3 0 rfl rfl)
theorem dX8_best_74 : decode cX8_best 74 = .ok (.invokevirtual 470, 3) := dk_182 1 214 (dk_at dksX8_best_3 2 rfl rfl)
theorem dX8_best_77 : decode cX8_best 77 = .ok (.ifCond .ne 6, 3) := dk_154 0 6 (dk_at dksX8_best_3 5 rfl rfl)
theorem dX8_best_80 : decode cX8_best 80 = .ok (.goto 63, 3) := dk_167 0 63 (dk_at dksX8_best_3 8 rfl rfl)
theorem dX8_best_83 : decode cX8_best 83 = .ok (.aload_n 0, 1) := dk_42 (dk_at dksX8_best_3 11 rfl rfl)
theorem dX8_best_84 : decode cX8_best 84 = .ok (.iload_n 1, 1) := dk_27 (dk_at dksX8_best_3 12 rfl rfl)
theorem dX8_best_85 : decode cX8_best 85 = .ok (.iload_n 2, 1) := dk_28 (dk_at dksX8_best_3 13 rfl rfl)
theorem dX8_best_86 : decode cX8_best 86 = .ok (.iload 8, 2) := dk_21 8 (dk_at dksX8_best_3 14 rfl rfl)
theorem dX8_best_88 : decode cX8_best 88 = .ok (.iconst 2, 1) := dk_5 (dk_at dksX8_best_3 16 rfl rfl)
theorem dX8_best_89 : decode cX8_best 89 = .ok (.idiv, 1) := dk_108 (dk_at dksX8_best_3 17 rfl rfl)
theorem dX8_best_90 : decode cX8_best 90 = .ok (.iconst 1, 1) := dk_4 (dk_at dksX8_best_3 18 rfl rfl)
theorem dX8_best_91 : decode cX8_best 91 = .ok (.iadd, 1) := dk_96 (dk_at dksX8_best_3 19 rfl rfl)
theorem dX8_best_92 : decode cX8_best 92 = .ok (.iload_n 3, 1) := dk_29 (dk_at dksX8_best_3 20 rfl rfl)
theorem dX8_best_93 : decode cX8_best 93 = .ok (.iload 4, 2) := dk_21 4 (dk_at dksX8_best_3 21 rfl rfl)
theorem dX8_best_95 : decode cX8_best 95 = .ok (.iload 8, 2) := dk_21 8 (dk_at dksX8_best_4 0 rfl rfl)
theorem dX8_best_97 : decode cX8_best 97 = .ok (.iconst 2, 1) := dk_5 (dk_at dksX8_best_4 2 rfl rfl)
theorem dX8_best_98 : decode cX8_best 98 = .ok (.irem, 1) := dk_112 (dk_at dksX8_best_4 3 rfl rfl)
theorem dX8_best_99 : decode cX8_best 99 = .ok (.iconst 1, 1) := dk_4 (dk_at dksX8_best_4 4 rfl rfl)
theorem dX8_best_100 : decode cX8_best 100 = .ok (.if_icmp .ne 7, 3) := dk_160 0 7 (dk_at dksX8_best_4 5 rfl rfl)
theorem dX8_best_103 : decode cX8_best 103 = .ok (.iconst 0, 1) := dk_3 (dk_at dksX8_best_4 8 rfl rfl)
theorem dX8_best_104 : decode cX8_best 104 = .ok (.goto 4, 3) := dk_167 0 4 (dk_at dksX8_best_4 9 rfl rfl)
theorem dX8_best_107 : decode cX8_best 107 = .ok (.iconst 2, 1) := dk_5 (dk_at dksX8_best_4 12 rfl rfl)
theorem dX8_best_108 : decode cX8_best 108 = .ok (.invokevirtual 396, 3) := dk_182 1 140 (dk_at dksX8_best_4 13 rfl rfl)
theorem dX8_best_111 : decode cX8_best 111 = .ok (.aload_n 0, 1) := dk_42 (dk_at dksX8_best_4 16 rfl rfl)
theorem dX8_best_112 : decode cX8_best 112 = .ok (.iconst 0, 1) := dk_3 (dk_at dksX8_best_4 17 rfl rfl)
theorem dX8_best_113 : decode cX8_best 113 = .ok (.invokevirtual 462, 3) := dk_182 1 206 (dk_at dksX8_best_4 18 rfl rfl)
theorem dX8_best_116 : decode cX8_best 116 = .ok (.lstore 9, 2) := dk_55 9 (dk_at dksX8_best_4 21 rfl rfl)
theorem dX8_best_118 : decode cX8_best 118 = .ok (.iload 5, 2) := dk_21 5 (dk_at dksX8_best_5 0 rfl rfl)
theorem dX8_best_120 : decode cX8_best 120 = .ok (.iconst (-1), 1) := dk_2 (dk_at dksX8_best_5 2 rfl rfl)
theorem dX8_best_121 : decode cX8_best 121 = .ok (.if_icmp .eq 14, 3) := dk_159 0 14 (dk_at dksX8_best_5 3 rfl rfl)
theorem dX8_best_124 : decode cX8_best 124 = .ok (.lload 9, 2) := dk_22 9 (dk_at dksX8_best_5 6 rfl rfl)
theorem dX8_best_126 : decode cX8_best 126 = .ok (.lload 6, 2) := dk_22 6 (dk_at dksX8_best_5 8 rfl rfl)
theorem dX8_best_128 : decode cX8_best 128 = .ok (.lcmp, 1) := dk_148 (dk_at dksX8_best_5 10 rfl rfl)
theorem dX8_best_129 : decode cX8_best 129 = .ok (.ifCond .gt 6, 3) := dk_157 0 6 (dk_at dksX8_best_5 11 rfl rfl)
theorem dX8_best_132 : decode cX8_best 132 = .ok (.goto 11, 3) := dk_167 0 11 (dk_at dksX8_best_5 14 rfl rfl)
theorem dX8_best_135 : decode cX8_best 135 = .ok (.iload 8, 2) := dk_21 8 (dk_at dksX8_best_5 17 rfl rfl)
theorem dX8_best_137 : decode cX8_best 137 = .ok (.istore 5, 2) := dk_54 5 (dk_at dksX8_best_5 19 rfl rfl)
theorem dX8_best_139 : decode cX8_best 139 = .ok (.lload 9, 2) := dk_22 9 (dk_at dksX8_best_5 21 rfl rfl)
theorem dX8_best_141 : decode cX8_best 141 = .ok (.lstore 6, 2) := dk_55 6 (dk_at dksX8_best_6 0 rfl rfl)
theorem dX8_best_143 : decode cX8_best 143 = .ok (.iinc 8 1, 3) := dk_132 8 1 (dk_at dksX8_best_6 2 rfl rfl)
theorem dX8_best_146 : decode cX8_best 146 = .ok (.goto (-85), 3) := dk_167 255 171 (dk_at dksX8_best_6 5 rfl rfl)
theorem dX8_best_149 : decode cX8_best 149 = .ok (.aload_n 0, 1) := dk_42 (dk_at dksX8_best_6 8 rfl rfl)
theorem dX8_best_150 : decode cX8_best 150 = .ok (.iload 5, 2) := dk_21 5 (dk_at dksX8_best_6 9 rfl rfl)
theorem dX8_best_152 : decode cX8_best 152 = .ok (.invokestatic 474, 3) := dk_184 1 218 (dk_at dksX8_best_6 11 rfl rfl)
theorem dX8_best_155 : decode cX8_best 155 = .ok (.invokevirtual 63, 3) := dk_182 0 63 (dk_at dksX8_best_6 14 rfl rfl)
theorem dX8_best_158 : decode cX8_best 158 = .ok (.ireturn, 1) := dk_172 (dk_at dksX8_best_6 17 rfl rfl)
abbrev cX8_isChoice : ByteArray := prog_20_method_72_code
def yX8_isChoice : MethodName := ⟨RX8, "isChoice", "(IIII)Z"⟩
def dkwX8_isChoice_1 : List UInt8 := [42, 27, 182, 1, 130, 154, 0, 7, 4, 167, 0, 4, 3, 172]
abbrev dktX8_isChoice_1 : List UInt8 := dkwX8_isChoice_1 ++ []
def dkwX8_isChoice_0 : List UInt8 := [21, 4, 5, 108, 42, 180, 1, 117, 28, 29, 182, 1, 150, 162, 0, 23, 21, 4, 5, 112, 4, 159, 0, 11]
abbrev dktX8_isChoice_0 : List UInt8 := dkwX8_isChoice_0 ++ dktX8_isChoice_1
theorem dksX8_isChoice_0 : cX8_isChoice.data.toList.drop 0 = dktX8_isChoice_0 := by decide +kernel
theorem dksX8_isChoice_1 : cX8_isChoice.data.toList.drop 24 = dktX8_isChoice_1 := dk_seg dksX8_isChoice_0 24 rfl rfl
theorem dX8_isChoice_0 : decode cX8_isChoice 0 = .ok (.iload 4, 2) := dk_21 4 (dk_at dksX8_isChoice_0 0 rfl rfl)
theorem dX8_isChoice_2 : decode cX8_isChoice 2 = .ok (.iconst 2, 1) := dk_5 (dk_at dksX8_isChoice_0 2 rfl rfl)
theorem dX8_isChoice_3 : decode cX8_isChoice 3 = .ok (.idiv, 1) := dk_108 (dk_at dksX8_isChoice_0 3 rfl rfl)
theorem dX8_isChoice_4 : decode cX8_isChoice 4 = .ok (.aload_n 0, 1) := dk_42 (dk_at dksX8_isChoice_0 4 rfl rfl)
theorem dX8_isChoice_5 : decode cX8_isChoice 5 = .ok (.getfield 373, 3) := dk_180 1 117 (dk_at dksX8_isChoice_0 5 rfl rfl)
theorem dX8_isChoice_8 : decode cX8_isChoice 8 = .ok (.iload_n 2, 1) := dk_28 (dk_at dksX8_isChoice_0 8 rfl rfl)
theorem dX8_isChoice_9 : decode cX8_isChoice 9 = .ok (.iload_n 3, 1) := dk_29 (dk_at dksX8_isChoice_0 9 rfl rfl)
theorem dX8_isChoice_10 : decode cX8_isChoice 10 = .ok (.invokevirtual 406, 3) := dk_182 1 150 (dk_at dksX8_isChoice_0 10 rfl rfl)
theorem dX8_isChoice_13 : decode cX8_isChoice 13 = .ok (.if_icmp .ge 23, 3) := dk_162 0 23 (dk_at dksX8_isChoice_0 13 rfl rfl)
theorem dX8_isChoice_16 : decode cX8_isChoice 16 = .ok (.iload 4, 2) := dk_21 4 (dk_at dksX8_isChoice_0 16 rfl rfl)
theorem dX8_isChoice_18 : decode cX8_isChoice 18 = .ok (.iconst 2, 1) := dk_5 (dk_at dksX8_isChoice_0 18 rfl rfl)
theorem dX8_isChoice_19 : decode cX8_isChoice 19 = .ok (.irem, 1) := dk_112 (dk_at dksX8_isChoice_0 19 rfl rfl)
theorem dX8_isChoice_20 : decode cX8_isChoice 20 = .ok (.iconst 1, 1) := dk_4 (dk_at dksX8_isChoice_0 20 rfl rfl)
theorem dX8_isChoice_21 : decode cX8_isChoice 21 = .ok (.if_icmp .eq 11, 3) := dk_159 0 11 (dk_at dksX8_isChoice_0 21 rfl rfl)
theorem dX8_isChoice_24 : decode cX8_isChoice 24 = .ok (.aload_n 0, 1) := dk_42 (dk_at dksX8_isChoice_1 0 rfl rfl)
theorem dX8_isChoice_25 : decode cX8_isChoice 25 = .ok (.iload_n 1, 1) := dk_27 (dk_at dksX8_isChoice_1 1 rfl rfl)
theorem dX8_isChoice_26 : decode cX8_isChoice 26 = .ok (.invokevirtual 386, 3) := dk_182 1 130 (dk_at dksX8_isChoice_1 2 rfl rfl)
theorem dX8_isChoice_29 : decode cX8_isChoice 29 = .ok (.ifCond .ne 7, 3) := dk_154 0 7 (dk_at dksX8_isChoice_1 5 rfl rfl)
theorem dX8_isChoice_32 : decode cX8_isChoice 32 = .ok (.iconst 1, 1) := dk_4 (dk_at dksX8_isChoice_1 8 rfl rfl)
theorem dX8_isChoice_33 : decode cX8_isChoice 33 = .ok (.goto 4, 3) := dk_167 0 4 (dk_at dksX8_isChoice_1 9 rfl rfl)
theorem dX8_isChoice_36 : decode cX8_isChoice 36 = .ok (.iconst 0, 1) := dk_3 (dk_at dksX8_isChoice_1 12 rfl rfl)
theorem dX8_isChoice_37 : decode cX8_isChoice 37 = .ok (.ireturn, 1) := dk_172 (dk_at dksX8_isChoice_1 13 rfl rfl)
abbrev cX8_told : ByteArray := prog_20_method_75_code
def yX8_told : MethodName := ⟨RX8, "told", "(I)I"⟩
def dkwX8_told_0 : List UInt8 := [16, 10, 26, 5, 108, 4, 96, 104, 26, 5, 112, 96, 172]
abbrev dktX8_told_0 : List UInt8 := dkwX8_told_0 ++ []
theorem dksX8_told_0 : cX8_told.data.toList.drop 0 = dktX8_told_0 := by decide +kernel
theorem dX8_told_0 : decode cX8_told 0 = .ok (.bipush 10, 2) := dk_16 10 (dk_at dksX8_told_0 0 rfl rfl)
theorem dX8_told_2 : decode cX8_told 2 = .ok (.iload_n 0, 1) := dk_26 (dk_at dksX8_told_0 2 rfl rfl)
theorem dX8_told_3 : decode cX8_told 3 = .ok (.iconst 2, 1) := dk_5 (dk_at dksX8_told_0 3 rfl rfl)
theorem dX8_told_4 : decode cX8_told 4 = .ok (.idiv, 1) := dk_108 (dk_at dksX8_told_0 4 rfl rfl)
theorem dX8_told_5 : decode cX8_told 5 = .ok (.iconst 1, 1) := dk_4 (dk_at dksX8_told_0 5 rfl rfl)
theorem dX8_told_6 : decode cX8_told 6 = .ok (.iadd, 1) := dk_96 (dk_at dksX8_told_0 6 rfl rfl)
theorem dX8_told_7 : decode cX8_told 7 = .ok (.imul, 1) := dk_104 (dk_at dksX8_told_0 7 rfl rfl)
theorem dX8_told_8 : decode cX8_told 8 = .ok (.iload_n 0, 1) := dk_26 (dk_at dksX8_told_0 8 rfl rfl)
theorem dX8_told_9 : decode cX8_told 9 = .ok (.iconst 2, 1) := dk_5 (dk_at dksX8_told_0 9 rfl rfl)
theorem dX8_told_10 : decode cX8_told 10 = .ok (.irem, 1) := dk_112 (dk_at dksX8_told_0 10 rfl rfl)
theorem dX8_told_11 : decode cX8_told 11 = .ok (.iadd, 1) := dk_96 (dk_at dksX8_told_0 11 rfl rfl)
theorem dX8_told_12 : decode cX8_told 12 = .ok (.ireturn, 1) := dk_172 (dk_at dksX8_told_0 12 rfl rfl)
abbrev cX8_rests : ByteArray := prog_20_method_78_code
def yX8_rests : MethodName := ⟨RX8, "rests", "(III)I"⟩
def dkwX8_rests_1 : List UInt8 := [27, 28, 29, 2, 182, 1, 229, 182, 0, 63, 167, 0, 8, 42, 4, 182, 0, 59, 172]
abbrev dktX8_rests_1 : List UInt8 := dkwX8_rests_1 ++ []
def dkwX8_rests_0 : List UInt8 := [42, 3, 181, 0, 53, 42, 27, 182, 1, 188, 153, 0, 27, 42, 28, 29, 182, 1, 199, 153, 0, 18, 42, 42]
abbrev dktX8_rests_0 : List UInt8 := dkwX8_rests_0 ++ dktX8_rests_1
theorem dksX8_rests_0 : cX8_rests.data.toList.drop 0 = dktX8_rests_0 := by decide +kernel
theorem dksX8_rests_1 : cX8_rests.data.toList.drop 24 = dktX8_rests_1 := dk_seg dksX8_rests_0 24 rfl rfl
theorem dX8_rests_0 : decode cX8_rests 0 = .ok (.aload_n 0, 1) := dk_42 (dk_at dksX8_rests_0 0 rfl rfl)
theorem dX8_rests_1 : decode cX8_rests 1 = .ok (.iconst 0, 1) := dk_3 (dk_at dksX8_rests_0 1 rfl rfl)
theorem dX8_rests_2 : decode cX8_rests 2 = .ok (.putfield 53, 3) := dk_181 0 53 (dk_at dksX8_rests_0 2 rfl rfl)
theorem dX8_rests_5 : decode cX8_rests 5 = .ok (.aload_n 0, 1) := dk_42 (dk_at dksX8_rests_0 5 rfl rfl)
theorem dX8_rests_6 : decode cX8_rests 6 = .ok (.iload_n 1, 1) := dk_27 (dk_at dksX8_rests_0 6 rfl rfl)
theorem dX8_rests_7 : decode cX8_rests 7 = .ok (.invokevirtual 444, 3) := dk_182 1 188 (dk_at dksX8_rests_0 7 rfl rfl)
theorem dX8_rests_10 : decode cX8_rests 10 = .ok (.ifCond .eq 27, 3) := dk_153 0 27 (dk_at dksX8_rests_0 10 rfl rfl)
theorem dX8_rests_13 : decode cX8_rests 13 = .ok (.aload_n 0, 1) := dk_42 (dk_at dksX8_rests_0 13 rfl rfl)
theorem dX8_rests_14 : decode cX8_rests 14 = .ok (.iload_n 2, 1) := dk_28 (dk_at dksX8_rests_0 14 rfl rfl)
theorem dX8_rests_15 : decode cX8_rests 15 = .ok (.iload_n 3, 1) := dk_29 (dk_at dksX8_rests_0 15 rfl rfl)
theorem dX8_rests_16 : decode cX8_rests 16 = .ok (.invokevirtual 455, 3) := dk_182 1 199 (dk_at dksX8_rests_0 16 rfl rfl)
theorem dX8_rests_19 : decode cX8_rests 19 = .ok (.ifCond .eq 18, 3) := dk_153 0 18 (dk_at dksX8_rests_0 19 rfl rfl)
theorem dX8_rests_22 : decode cX8_rests 22 = .ok (.aload_n 0, 1) := dk_42 (dk_at dksX8_rests_0 22 rfl rfl)
theorem dX8_rests_23 : decode cX8_rests 23 = .ok (.aload_n 0, 1) := dk_42 (dk_at dksX8_rests_0 23 rfl rfl)
theorem dX8_rests_24 : decode cX8_rests 24 = .ok (.iload_n 1, 1) := dk_27 (dk_at dksX8_rests_1 0 rfl rfl)
theorem dX8_rests_25 : decode cX8_rests 25 = .ok (.iload_n 2, 1) := dk_28 (dk_at dksX8_rests_1 1 rfl rfl)
theorem dX8_rests_26 : decode cX8_rests 26 = .ok (.iload_n 3, 1) := dk_29 (dk_at dksX8_rests_1 2 rfl rfl)
theorem dX8_rests_27 : decode cX8_rests 27 = .ok (.iconst (-1), 1) := dk_2 (dk_at dksX8_rests_1 3 rfl rfl)
theorem dX8_rests_28 : decode cX8_rests 28 = .ok (.invokevirtual 485, 3) := dk_182 1 229 (dk_at dksX8_rests_1 4 rfl rfl)
theorem dX8_rests_31 : decode cX8_rests 31 = .ok (.invokevirtual 63, 3) := dk_182 0 63 (dk_at dksX8_rests_1 7 rfl rfl)
theorem dX8_rests_34 : decode cX8_rests 34 = .ok (.goto 8, 3) := dk_167 0 8 (dk_at dksX8_rests_1 10 rfl rfl)
theorem dX8_rests_37 : decode cX8_rests 37 = .ok (.aload_n 0, 1) := dk_42 (dk_at dksX8_rests_1 13 rfl rfl)
theorem dX8_rests_38 : decode cX8_rests 38 = .ok (.iconst 1, 1) := dk_4 (dk_at dksX8_rests_1 14 rfl rfl)
theorem dX8_rests_39 : decode cX8_rests 39 = .ok (.invokevirtual 59, 3) := dk_182 0 59 (dk_at dksX8_rests_1 15 rfl rfl)
theorem dX8_rests_42 : decode cX8_rests 42 = .ok (.ireturn, 1) := dk_172 (dk_at dksX8_rests_1 18 rfl rfl)
abbrev cX8_restAt : ByteArray := prog_20_method_77_code
def yX8_restAt : MethodName := ⟨RX8, "restAt", "(IIII)I"⟩
def dkwX8_restAt_5 : List UInt8 := [167, 0, 5, 16, 254, 172]
abbrev dktX8_restAt_5 : List UInt8 := dkwX8_restAt_5 ++ []
def dkwX8_restAt_4 : List UInt8 := [172, 132, 5, 1, 132, 7, 1, 167, 255, 180, 132, 6, 1, 167, 255, 164, 21, 4, 2, 160, 0, 8, 21, 5]
abbrev dktX8_restAt_4 : List UInt8 := dkwX8_restAt_4 ++ dktX8_restAt_5
def dkwX8_restAt_3 : List UInt8 := [167, 0, 28, 21, 5, 21, 4, 160, 0, 18, 16, 100, 21, 6, 184, 1, 218, 104, 21, 7, 184, 1, 218, 96]
abbrev dktX8_restAt_3 : List UInt8 := dkwX8_restAt_3 ++ dktX8_restAt_4
def dkwX8_restAt_2 : List UInt8 := [21, 7, 182, 1, 214, 153, 0, 45, 42, 27, 28, 29, 21, 6, 21, 7, 182, 1, 225, 154, 0, 6]
abbrev dktX8_restAt_2 : List UInt8 := dkwX8_restAt_2 ++ dktX8_restAt_3
def dkwX8_restAt_1 : List UInt8 := [21, 7, 16, 12, 162, 0, 75, 42, 28, 27, 3, 21, 6, 182, 1, 214, 153, 0, 57, 42, 29, 27, 4]
abbrev dktX8_restAt_1 : List UInt8 := dkwX8_restAt_1 ++ dktX8_restAt_2
def dkwX8_restAt_0 : List UInt8 := [42, 27, 28, 29, 182, 1, 221, 3, 54, 5, 3, 54, 6, 21, 6, 16, 12, 162, 0, 91, 3, 54, 7]
abbrev dktX8_restAt_0 : List UInt8 := dkwX8_restAt_0 ++ dktX8_restAt_1
theorem dksX8_restAt_0 : cX8_restAt.data.toList.drop 0 = dktX8_restAt_0 := by decide +kernel
theorem dksX8_restAt_1 : cX8_restAt.data.toList.drop 23 = dktX8_restAt_1 := dk_seg dksX8_restAt_0 23 rfl rfl
theorem dksX8_restAt_2 : cX8_restAt.data.toList.drop 46 = dktX8_restAt_2 := dk_seg dksX8_restAt_1 23 rfl rfl
theorem dksX8_restAt_3 : cX8_restAt.data.toList.drop 68 = dktX8_restAt_3 := dk_seg dksX8_restAt_2 22 rfl rfl
theorem dksX8_restAt_4 : cX8_restAt.data.toList.drop 92 = dktX8_restAt_4 := dk_seg dksX8_restAt_3 24 rfl rfl
theorem dksX8_restAt_5 : cX8_restAt.data.toList.drop 116 = dktX8_restAt_5 := dk_seg dksX8_restAt_4 24 rfl rfl
theorem dX8_restAt_0 : decode cX8_restAt 0 = .ok (.aload_n 0, 1) := dk_42 (dk_at dksX8_restAt_0 0 rfl rfl)
theorem dX8_restAt_1 : decode cX8_restAt 1 = .ok (.iload_n 1, 1) := dk_27 (dk_at dksX8_restAt_0 1 rfl rfl)
theorem dX8_restAt_2 : decode cX8_restAt 2 = .ok (.iload_n 2, 1) := dk_28 (dk_at dksX8_restAt_0 2 rfl rfl)
theorem dX8_restAt_3 : decode cX8_restAt 3 = .ok (.iload_n 3, 1) := dk_29 (dk_at dksX8_restAt_0 3 rfl rfl)
theorem dX8_restAt_4 : decode cX8_restAt 4 = .ok (.invokevirtual 477, 3) := dk_182 1 221 (dk_at dksX8_restAt_0 4 rfl rfl)
theorem dX8_restAt_7 : decode cX8_restAt 7 = .ok (.iconst 0, 1) := dk_3 (dk_at dksX8_restAt_0 7 rfl rfl)
theorem dX8_restAt_8 : decode cX8_restAt 8 = .ok (.istore 5, 2) := dk_54 5 (dk_at dksX8_restAt_0 8 rfl rfl)
theorem dX8_restAt_10 : decode cX8_restAt 10 = .ok (.iconst 0, 1) := dk_3 (dk_at dksX8_restAt_0 10 rfl rfl)
theorem dX8_restAt_11 : decode cX8_restAt 11 = .ok (.istore 6, 2) := dk_54 6 (dk_at dksX8_restAt_0 11 rfl rfl)
theorem dX8_restAt_13 : decode cX8_restAt 13 = .ok (.iload 6, 2) := dk_21 6 (dk_at dksX8_restAt_0 13 rfl rfl)
theorem dX8_restAt_15 : decode cX8_restAt 15 = .ok (.bipush 12, 2) := dk_16 12 (dk_at dksX8_restAt_0 15 rfl rfl)
theorem dX8_restAt_17 : decode cX8_restAt 17 = .ok (.if_icmp .ge 91, 3) := dk_162 0 91 (dk_at dksX8_restAt_0 17 rfl rfl)
theorem dX8_restAt_20 : decode cX8_restAt 20 = .ok (.iconst 0, 1) := dk_3 (dk_at dksX8_restAt_0 20 rfl rfl)
theorem dX8_restAt_21 : decode cX8_restAt 21 = .ok (.istore 7, 2) := dk_54 7 (dk_at dksX8_restAt_0 21 rfl rfl)
theorem dX8_restAt_23 : decode cX8_restAt 23 = .ok (.iload 7, 2) := dk_21 7 (dk_at dksX8_restAt_1 0 rfl rfl)
theorem dX8_restAt_25 : decode cX8_restAt 25 = .ok (.bipush 12, 2) := dk_16 12 (dk_at dksX8_restAt_1 2 rfl rfl)
theorem dX8_restAt_27 : decode cX8_restAt 27 = .ok (.if_icmp .ge 75, 3) := dk_162 0 75 (dk_at dksX8_restAt_1 4 rfl rfl)
theorem dX8_restAt_30 : decode cX8_restAt 30 = .ok (.aload_n 0, 1) := dk_42 (dk_at dksX8_restAt_1 7 rfl rfl)
theorem dX8_restAt_31 : decode cX8_restAt 31 = .ok (.iload_n 2, 1) := dk_28 (dk_at dksX8_restAt_1 8 rfl rfl)
theorem dX8_restAt_32 : decode cX8_restAt 32 = .ok (.iload_n 1, 1) := dk_27 (dk_at dksX8_restAt_1 9 rfl rfl)
theorem dX8_restAt_33 : decode cX8_restAt 33 = .ok (.iconst 0, 1) := dk_3 (dk_at dksX8_restAt_1 10 rfl rfl)
theorem dX8_restAt_34 : decode cX8_restAt 34 = .ok (.iload 6, 2) := dk_21 6 (dk_at dksX8_restAt_1 11 rfl rfl)
theorem dX8_restAt_36 : decode cX8_restAt 36 = .ok (.invokevirtual 470, 3) := dk_182 1 214 (dk_at dksX8_restAt_1 13 rfl rfl)
theorem dX8_restAt_39 : decode cX8_restAt 39 = .ok (.ifCond .eq 57, 3) := dk_153 0 57 (dk_at dksX8_restAt_1 16 rfl rfl)
theorem dX8_restAt_42 : decode cX8_restAt 42 = .ok (.aload_n 0, 1) := dk_42 (dk_at dksX8_restAt_1 19 rfl rfl)
theorem dX8_restAt_43 : decode cX8_restAt 43 = .ok (.iload_n 3, 1) := dk_29 (dk_at dksX8_restAt_1 20 rfl rfl)
theorem dX8_restAt_44 : decode cX8_restAt 44 = .ok (.iload_n 1, 1) := dk_27 (dk_at dksX8_restAt_1 21 rfl rfl)
theorem dX8_restAt_45 : decode cX8_restAt 45 = .ok (.iconst 1, 1) := dk_4 (dk_at dksX8_restAt_1 22 rfl rfl)
theorem dX8_restAt_46 : decode cX8_restAt 46 = .ok (.iload 7, 2) := dk_21 7 (dk_at dksX8_restAt_2 0 rfl rfl)
theorem dX8_restAt_48 : decode cX8_restAt 48 = .ok (.invokevirtual 470, 3) := dk_182 1 214 (dk_at dksX8_restAt_2 2 rfl rfl)
theorem dX8_restAt_51 : decode cX8_restAt 51 = .ok (.ifCond .eq 45, 3) := dk_153 0 45 (dk_at dksX8_restAt_2 5 rfl rfl)
theorem dX8_restAt_54 : decode cX8_restAt 54 = .ok (.aload_n 0, 1) := dk_42 (dk_at dksX8_restAt_2 8 rfl rfl)
theorem dX8_restAt_55 : decode cX8_restAt 55 = .ok (.iload_n 1, 1) := dk_27 (dk_at dksX8_restAt_2 9 rfl rfl)
theorem dX8_restAt_56 : decode cX8_restAt 56 = .ok (.iload_n 2, 1) := dk_28 (dk_at dksX8_restAt_2 10 rfl rfl)
theorem dX8_restAt_57 : decode cX8_restAt 57 = .ok (.iload_n 3, 1) := dk_29 (dk_at dksX8_restAt_2 11 rfl rfl)
theorem dX8_restAt_58 : decode cX8_restAt 58 = .ok (.iload 6, 2) := dk_21 6 (dk_at dksX8_restAt_2 12 rfl rfl)
theorem dX8_restAt_60 : decode cX8_restAt 60 = .ok (.iload 7, 2) := dk_21 7 (dk_at dksX8_restAt_2 14 rfl rfl)
theorem dX8_restAt_62 : decode cX8_restAt 62 = .ok (.invokevirtual 481, 3) := dk_182 1 225 (dk_at dksX8_restAt_2 16 rfl rfl)
theorem dX8_restAt_65 : decode cX8_restAt 65 = .ok (.ifCond .ne 6, 3) := dk_154 0 6 (dk_at dksX8_restAt_2 19 rfl rfl)
theorem dX8_restAt_68 : decode cX8_restAt 68 = .ok (.goto 28, 3) := dk_167 0 28 (dk_at dksX8_restAt_3 0 rfl rfl)
theorem dX8_restAt_71 : decode cX8_restAt 71 = .ok (.iload 5, 2) := dk_21 5 (dk_at dksX8_restAt_3 3 rfl rfl)
theorem dX8_restAt_73 : decode cX8_restAt 73 = .ok (.iload 4, 2) := dk_21 4 (dk_at dksX8_restAt_3 5 rfl rfl)
theorem dX8_restAt_75 : decode cX8_restAt 75 = .ok (.if_icmp .ne 18, 3) := dk_160 0 18 (dk_at dksX8_restAt_3 7 rfl rfl)
theorem dX8_restAt_78 : decode cX8_restAt 78 = .ok (.bipush 100, 2) := dk_16 100 (dk_at dksX8_restAt_3 10 rfl rfl)
theorem dX8_restAt_80 : decode cX8_restAt 80 = .ok (.iload 6, 2) := dk_21 6 (dk_at dksX8_restAt_3 12 rfl rfl)
theorem dX8_restAt_82 : decode cX8_restAt 82 = .ok (.invokestatic 474, 3) := dk_184 1 218 (dk_at dksX8_restAt_3 14 rfl rfl)
theorem dX8_restAt_85 : decode cX8_restAt 85 = .ok (.imul, 1) := dk_104 (dk_at dksX8_restAt_3 17 rfl rfl)
theorem dX8_restAt_86 : decode cX8_restAt 86 = .ok (.iload 7, 2) := dk_21 7 (dk_at dksX8_restAt_3 18 rfl rfl)
theorem dX8_restAt_88 : decode cX8_restAt 88 = .ok (.invokestatic 474, 3) := dk_184 1 218 (dk_at dksX8_restAt_3 20 rfl rfl)
theorem dX8_restAt_91 : decode cX8_restAt 91 = .ok (.iadd, 1) := dk_96 (dk_at dksX8_restAt_3 23 rfl rfl)
theorem dX8_restAt_92 : decode cX8_restAt 92 = .ok (.ireturn, 1) := dk_172 (dk_at dksX8_restAt_4 0 rfl rfl)
theorem dX8_restAt_93 : decode cX8_restAt 93 = .ok (.iinc 5 1, 3) := dk_132 5 1 (dk_at dksX8_restAt_4 1 rfl rfl)
theorem dX8_restAt_96 : decode cX8_restAt 96 = .ok (.iinc 7 1, 3) := dk_132 7 1 (dk_at dksX8_restAt_4 4 rfl rfl)
theorem dX8_restAt_99 : decode cX8_restAt 99 = .ok (.goto (-76), 3) := dk_167 255 180 (dk_at dksX8_restAt_4 7 rfl rfl)
theorem dX8_restAt_102 : decode cX8_restAt 102 = .ok (.iinc 6 1, 3) := dk_132 6 1 (dk_at dksX8_restAt_4 10 rfl rfl)
theorem dX8_restAt_105 : decode cX8_restAt 105 = .ok (.goto (-92), 3) := dk_167 255 164 (dk_at dksX8_restAt_4 13 rfl rfl)
theorem dX8_restAt_108 : decode cX8_restAt 108 = .ok (.iload 4, 2) := dk_21 4 (dk_at dksX8_restAt_4 16 rfl rfl)
theorem dX8_restAt_110 : decode cX8_restAt 110 = .ok (.iconst (-1), 1) := dk_2 (dk_at dksX8_restAt_4 18 rfl rfl)
theorem dX8_restAt_111 : decode cX8_restAt 111 = .ok (.if_icmp .ne 8, 3) := dk_160 0 8 (dk_at dksX8_restAt_4 19 rfl rfl)
theorem dX8_restAt_114 : decode cX8_restAt 114 = .ok (.iload 5, 2) := dk_21 5 (dk_at dksX8_restAt_4 22 rfl rfl)
theorem dX8_restAt_116 : decode cX8_restAt 116 = .ok (.goto 5, 3) := dk_167 0 5 (dk_at dksX8_restAt_5 0 rfl rfl)
theorem dX8_restAt_119 : decode cX8_restAt 119 = .ok (.bipush (-2), 2) := dk_16 254 (dk_at dksX8_restAt_5 3 rfl rfl)
theorem dX8_restAt_121 : decode cX8_restAt 121 = .ok (.ireturn, 1) := dk_172 (dk_at dksX8_restAt_5 5 rfl rfl)
abbrev cX8_laysGame : ByteArray := prog_20_method_73_code
def yX8_laysGame : MethodName := ⟨RX8, "laysGame", "(III)V"⟩
def dkwX8_laysGame_6 : List UInt8 := [132, 5, 1, 167, 255, 123, 132, 4, 1, 167, 255, 107, 177]
abbrev dktX8_laysGame_6 : List UInt8 := dkwX8_laysGame_6 ++ []
def dkwX8_laysGame_5 : List UInt8 := [42, 3, 182, 1, 206, 80, 42, 180, 0, 41, 16, 12, 21, 4, 104, 21, 5, 96, 42, 4, 182, 1, 206, 80]
abbrev dktX8_laysGame_5 : List UInt8 := dkwX8_laysGame_5 ++ dktX8_laysGame_6
def dkwX8_laysGame_4 : List UInt8 := [29, 21, 5, 5, 108, 4, 96, 21, 6, 182, 1, 140, 42, 180, 0, 37, 16, 12, 21, 4, 104, 21, 5, 96]
abbrev dktX8_laysGame_4 : List UInt8 := dkwX8_laysGame_4 ++ dktX8_laysGame_5
def dkwX8_laysGame_3 : List UInt8 := [21, 5, 5, 112, 4, 160, 0, 7, 4, 167, 0, 4, 5, 54, 6, 42, 27, 28, 21, 4, 5, 108, 4, 96]
abbrev dktX8_laysGame_3 : List UInt8 := dkwX8_laysGame_3 ++ dktX8_laysGame_4
def dkwX8_laysGame_2 : List UInt8 := [21, 4, 5, 112, 4, 160, 0, 19, 21, 5, 5, 112, 4, 160, 0, 7, 6, 167, 0, 20, 3, 167, 0, 16]
abbrev dktX8_laysGame_2 : List UInt8 := dkwX8_laysGame_2 ++ dktX8_laysGame_3
def dkwX8_laysGame_1 : List UInt8 := [21, 4, 182, 1, 214, 153, 0, 114, 42, 29, 27, 4, 21, 5, 182, 1, 214, 154, 0, 6, 167, 0, 99]
abbrev dktX8_laysGame_1 : List UInt8 := dkwX8_laysGame_1 ++ dktX8_laysGame_2
def dkwX8_laysGame_0 : List UInt8 := [3, 54, 4, 21, 4, 16, 12, 162, 0, 148, 3, 54, 5, 21, 5, 16, 12, 162, 0, 132, 42, 28, 27, 3]
abbrev dktX8_laysGame_0 : List UInt8 := dkwX8_laysGame_0 ++ dktX8_laysGame_1
theorem dksX8_laysGame_0 : cX8_laysGame.data.toList.drop 0 = dktX8_laysGame_0 := by decide +kernel
theorem dksX8_laysGame_1 : cX8_laysGame.data.toList.drop 24 = dktX8_laysGame_1 := dk_seg dksX8_laysGame_0 24 rfl rfl
theorem dksX8_laysGame_2 : cX8_laysGame.data.toList.drop 47 = dktX8_laysGame_2 := dk_seg dksX8_laysGame_1 23 rfl rfl
theorem dksX8_laysGame_3 : cX8_laysGame.data.toList.drop 71 = dktX8_laysGame_3 := dk_seg dksX8_laysGame_2 24 rfl rfl
theorem dksX8_laysGame_4 : cX8_laysGame.data.toList.drop 95 = dktX8_laysGame_4 := dk_seg dksX8_laysGame_3 24 rfl rfl
theorem dksX8_laysGame_5 : cX8_laysGame.data.toList.drop 119 = dktX8_laysGame_5 := dk_seg dksX8_laysGame_4 24 rfl rfl
theorem dksX8_laysGame_6 : cX8_laysGame.data.toList.drop 143 = dktX8_laysGame_6 := dk_seg dksX8_laysGame_5 24 rfl rfl
theorem dX8_laysGame_0 : decode cX8_laysGame 0 = .ok (.iconst 0, 1) := dk_3 (dk_at dksX8_laysGame_0 0 rfl rfl)
theorem dX8_laysGame_1 : decode cX8_laysGame 1 = .ok (.istore 4, 2) := dk_54 4 (dk_at dksX8_laysGame_0 1 rfl rfl)
theorem dX8_laysGame_3 : decode cX8_laysGame 3 = .ok (.iload 4, 2) := dk_21 4 (dk_at dksX8_laysGame_0 3 rfl rfl)
theorem dX8_laysGame_5 : decode cX8_laysGame 5 = .ok (.bipush 12, 2) := dk_16 12 (dk_at dksX8_laysGame_0 5 rfl rfl)
theorem dX8_laysGame_7 : decode cX8_laysGame 7 = .ok (.if_icmp .ge 148, 3) := dk_162 0 148 (dk_at dksX8_laysGame_0 7 rfl rfl)
theorem dX8_laysGame_10 : decode cX8_laysGame 10 = .ok (.iconst 0, 1) := dk_3 (dk_at dksX8_laysGame_0 10 rfl rfl)
theorem dX8_laysGame_11 : decode cX8_laysGame 11 = .ok (.istore 5, 2) := dk_54 5 (dk_at dksX8_laysGame_0 11 rfl rfl)
theorem dX8_laysGame_13 : decode cX8_laysGame 13 = .ok (.iload 5, 2) := dk_21 5 (dk_at dksX8_laysGame_0 13 rfl rfl)
theorem dX8_laysGame_15 : decode cX8_laysGame 15 = .ok (.bipush 12, 2) := dk_16 12 (dk_at dksX8_laysGame_0 15 rfl rfl)
theorem dX8_laysGame_17 : decode cX8_laysGame 17 = .ok (.if_icmp .ge 132, 3) := dk_162 0 132 (dk_at dksX8_laysGame_0 17 rfl rfl)
theorem dX8_laysGame_20 : decode cX8_laysGame 20 = .ok (.aload_n 0, 1) := dk_42 (dk_at dksX8_laysGame_0 20 rfl rfl)
theorem dX8_laysGame_21 : decode cX8_laysGame 21 = .ok (.iload_n 2, 1) := dk_28 (dk_at dksX8_laysGame_0 21 rfl rfl)
theorem dX8_laysGame_22 : decode cX8_laysGame 22 = .ok (.iload_n 1, 1) := dk_27 (dk_at dksX8_laysGame_0 22 rfl rfl)
theorem dX8_laysGame_23 : decode cX8_laysGame 23 = .ok (.iconst 0, 1) := dk_3 (dk_at dksX8_laysGame_0 23 rfl rfl)
theorem dX8_laysGame_24 : decode cX8_laysGame 24 = .ok (.iload 4, 2) := dk_21 4 (dk_at dksX8_laysGame_1 0 rfl rfl)
theorem dX8_laysGame_26 : decode cX8_laysGame 26 = .ok (.invokevirtual 470, 3) := dk_182 1 214 (dk_at dksX8_laysGame_1 2 rfl rfl)
theorem dX8_laysGame_29 : decode cX8_laysGame 29 = .ok (.ifCond .eq 114, 3) := dk_153 0 114 (dk_at dksX8_laysGame_1 5 rfl rfl)
theorem dX8_laysGame_32 : decode cX8_laysGame 32 = .ok (.aload_n 0, 1) := dk_42 (dk_at dksX8_laysGame_1 8 rfl rfl)
theorem dX8_laysGame_33 : decode cX8_laysGame 33 = .ok (.iload_n 3, 1) := dk_29 (dk_at dksX8_laysGame_1 9 rfl rfl)
theorem dX8_laysGame_34 : decode cX8_laysGame 34 = .ok (.iload_n 1, 1) := dk_27 (dk_at dksX8_laysGame_1 10 rfl rfl)
theorem dX8_laysGame_35 : decode cX8_laysGame 35 = .ok (.iconst 1, 1) := dk_4 (dk_at dksX8_laysGame_1 11 rfl rfl)
theorem dX8_laysGame_36 : decode cX8_laysGame 36 = .ok (.iload 5, 2) := dk_21 5 (dk_at dksX8_laysGame_1 12 rfl rfl)
theorem dX8_laysGame_38 : decode cX8_laysGame 38 = .ok (.invokevirtual 470, 3) := dk_182 1 214 (dk_at dksX8_laysGame_1 14 rfl rfl)
theorem dX8_laysGame_41 : decode cX8_laysGame 41 = .ok (.ifCond .ne 6, 3) := dk_154 0 6 (dk_at dksX8_laysGame_1 17 rfl rfl)
theorem dX8_laysGame_44 : decode cX8_laysGame 44 = .ok (.goto 99, 3) := dk_167 0 99 (dk_at dksX8_laysGame_1 20 rfl rfl)
theorem dX8_laysGame_47 : decode cX8_laysGame 47 = .ok (.iload 4, 2) := dk_21 4 (dk_at dksX8_laysGame_2 0 rfl rfl)
theorem dX8_laysGame_49 : decode cX8_laysGame 49 = .ok (.iconst 2, 1) := dk_5 (dk_at dksX8_laysGame_2 2 rfl rfl)
theorem dX8_laysGame_50 : decode cX8_laysGame 50 = .ok (.irem, 1) := dk_112 (dk_at dksX8_laysGame_2 3 rfl rfl)
theorem dX8_laysGame_51 : decode cX8_laysGame 51 = .ok (.iconst 1, 1) := dk_4 (dk_at dksX8_laysGame_2 4 rfl rfl)
theorem dX8_laysGame_52 : decode cX8_laysGame 52 = .ok (.if_icmp .ne 19, 3) := dk_160 0 19 (dk_at dksX8_laysGame_2 5 rfl rfl)
theorem dX8_laysGame_55 : decode cX8_laysGame 55 = .ok (.iload 5, 2) := dk_21 5 (dk_at dksX8_laysGame_2 8 rfl rfl)
theorem dX8_laysGame_57 : decode cX8_laysGame 57 = .ok (.iconst 2, 1) := dk_5 (dk_at dksX8_laysGame_2 10 rfl rfl)
theorem dX8_laysGame_58 : decode cX8_laysGame 58 = .ok (.irem, 1) := dk_112 (dk_at dksX8_laysGame_2 11 rfl rfl)
theorem dX8_laysGame_59 : decode cX8_laysGame 59 = .ok (.iconst 1, 1) := dk_4 (dk_at dksX8_laysGame_2 12 rfl rfl)
theorem dX8_laysGame_60 : decode cX8_laysGame 60 = .ok (.if_icmp .ne 7, 3) := dk_160 0 7 (dk_at dksX8_laysGame_2 13 rfl rfl)
theorem dX8_laysGame_63 : decode cX8_laysGame 63 = .ok (.iconst 3, 1) := dk_6 (dk_at dksX8_laysGame_2 16 rfl rfl)
theorem dX8_laysGame_64 : decode cX8_laysGame 64 = .ok (.goto 20, 3) := dk_167 0 20 (dk_at dksX8_laysGame_2 17 rfl rfl)
theorem dX8_laysGame_67 : decode cX8_laysGame 67 = .ok (.iconst 0, 1) := dk_3 (dk_at dksX8_laysGame_2 20 rfl rfl)
theorem dX8_laysGame_68 : decode cX8_laysGame 68 = .ok (.goto 16, 3) := dk_167 0 16 (dk_at dksX8_laysGame_2 21 rfl rfl)
theorem dX8_laysGame_71 : decode cX8_laysGame 71 = .ok (.iload 5, 2) := dk_21 5 (dk_at dksX8_laysGame_3 0 rfl rfl)
theorem dX8_laysGame_73 : decode cX8_laysGame 73 = .ok (.iconst 2, 1) := dk_5 (dk_at dksX8_laysGame_3 2 rfl rfl)
theorem dX8_laysGame_74 : decode cX8_laysGame 74 = .ok (.irem, 1) := dk_112 (dk_at dksX8_laysGame_3 3 rfl rfl)
theorem dX8_laysGame_75 : decode cX8_laysGame 75 = .ok (.iconst 1, 1) := dk_4 (dk_at dksX8_laysGame_3 4 rfl rfl)
theorem dX8_laysGame_76 : decode cX8_laysGame 76 = .ok (.if_icmp .ne 7, 3) := dk_160 0 7 (dk_at dksX8_laysGame_3 5 rfl rfl)
theorem dX8_laysGame_79 : decode cX8_laysGame 79 = .ok (.iconst 1, 1) := dk_4 (dk_at dksX8_laysGame_3 8 rfl rfl)
theorem dX8_laysGame_80 : decode cX8_laysGame 80 = .ok (.goto 4, 3) := dk_167 0 4 (dk_at dksX8_laysGame_3 9 rfl rfl)
theorem dX8_laysGame_83 : decode cX8_laysGame 83 = .ok (.iconst 2, 1) := dk_5 (dk_at dksX8_laysGame_3 12 rfl rfl)
theorem dX8_laysGame_84 : decode cX8_laysGame 84 = .ok (.istore 6, 2) := dk_54 6 (dk_at dksX8_laysGame_3 13 rfl rfl)
theorem dX8_laysGame_86 : decode cX8_laysGame 86 = .ok (.aload_n 0, 1) := dk_42 (dk_at dksX8_laysGame_3 15 rfl rfl)
theorem dX8_laysGame_87 : decode cX8_laysGame 87 = .ok (.iload_n 1, 1) := dk_27 (dk_at dksX8_laysGame_3 16 rfl rfl)
theorem dX8_laysGame_88 : decode cX8_laysGame 88 = .ok (.iload_n 2, 1) := dk_28 (dk_at dksX8_laysGame_3 17 rfl rfl)
theorem dX8_laysGame_89 : decode cX8_laysGame 89 = .ok (.iload 4, 2) := dk_21 4 (dk_at dksX8_laysGame_3 18 rfl rfl)
theorem dX8_laysGame_91 : decode cX8_laysGame 91 = .ok (.iconst 2, 1) := dk_5 (dk_at dksX8_laysGame_3 20 rfl rfl)
theorem dX8_laysGame_92 : decode cX8_laysGame 92 = .ok (.idiv, 1) := dk_108 (dk_at dksX8_laysGame_3 21 rfl rfl)
theorem dX8_laysGame_93 : decode cX8_laysGame 93 = .ok (.iconst 1, 1) := dk_4 (dk_at dksX8_laysGame_3 22 rfl rfl)
theorem dX8_laysGame_94 : decode cX8_laysGame 94 = .ok (.iadd, 1) := dk_96 (dk_at dksX8_laysGame_3 23 rfl rfl)
theorem dX8_laysGame_95 : decode cX8_laysGame 95 = .ok (.iload_n 3, 1) := dk_29 (dk_at dksX8_laysGame_4 0 rfl rfl)
theorem dX8_laysGame_96 : decode cX8_laysGame 96 = .ok (.iload 5, 2) := dk_21 5 (dk_at dksX8_laysGame_4 1 rfl rfl)
theorem dX8_laysGame_98 : decode cX8_laysGame 98 = .ok (.iconst 2, 1) := dk_5 (dk_at dksX8_laysGame_4 3 rfl rfl)
theorem dX8_laysGame_99 : decode cX8_laysGame 99 = .ok (.idiv, 1) := dk_108 (dk_at dksX8_laysGame_4 4 rfl rfl)
theorem dX8_laysGame_100 : decode cX8_laysGame 100 = .ok (.iconst 1, 1) := dk_4 (dk_at dksX8_laysGame_4 5 rfl rfl)
theorem dX8_laysGame_101 : decode cX8_laysGame 101 = .ok (.iadd, 1) := dk_96 (dk_at dksX8_laysGame_4 6 rfl rfl)
theorem dX8_laysGame_102 : decode cX8_laysGame 102 = .ok (.iload 6, 2) := dk_21 6 (dk_at dksX8_laysGame_4 7 rfl rfl)
theorem dX8_laysGame_104 : decode cX8_laysGame 104 = .ok (.invokevirtual 396, 3) := dk_182 1 140 (dk_at dksX8_laysGame_4 9 rfl rfl)
theorem dX8_laysGame_107 : decode cX8_laysGame 107 = .ok (.aload_n 0, 1) := dk_42 (dk_at dksX8_laysGame_4 12 rfl rfl)
theorem dX8_laysGame_108 : decode cX8_laysGame 108 = .ok (.getfield 37, 3) := dk_180 0 37 (dk_at dksX8_laysGame_4 13 rfl rfl)
theorem dX8_laysGame_111 : decode cX8_laysGame 111 = .ok (.bipush 12, 2) := dk_16 12 (dk_at dksX8_laysGame_4 16 rfl rfl)
theorem dX8_laysGame_113 : decode cX8_laysGame 113 = .ok (.iload 4, 2) := dk_21 4 (dk_at dksX8_laysGame_4 18 rfl rfl)
theorem dX8_laysGame_115 : decode cX8_laysGame 115 = .ok (.imul, 1) := dk_104 (dk_at dksX8_laysGame_4 20 rfl rfl)
theorem dX8_laysGame_116 : decode cX8_laysGame 116 = .ok (.iload 5, 2) := dk_21 5 (dk_at dksX8_laysGame_4 21 rfl rfl)
theorem dX8_laysGame_118 : decode cX8_laysGame 118 = .ok (.iadd, 1) := dk_96 (dk_at dksX8_laysGame_4 23 rfl rfl)
theorem dX8_laysGame_119 : decode cX8_laysGame 119 = .ok (.aload_n 0, 1) := dk_42 (dk_at dksX8_laysGame_5 0 rfl rfl)
theorem dX8_laysGame_120 : decode cX8_laysGame 120 = .ok (.iconst 0, 1) := dk_3 (dk_at dksX8_laysGame_5 1 rfl rfl)
theorem dX8_laysGame_121 : decode cX8_laysGame 121 = .ok (.invokevirtual 462, 3) := dk_182 1 206 (dk_at dksX8_laysGame_5 2 rfl rfl)
theorem dX8_laysGame_124 : decode cX8_laysGame 124 = .ok (.lastore, 1) := dk_80 (dk_at dksX8_laysGame_5 5 rfl rfl)
theorem dX8_laysGame_125 : decode cX8_laysGame 125 = .ok (.aload_n 0, 1) := dk_42 (dk_at dksX8_laysGame_5 6 rfl rfl)
theorem dX8_laysGame_126 : decode cX8_laysGame 126 = .ok (.getfield 41, 3) := dk_180 0 41 (dk_at dksX8_laysGame_5 7 rfl rfl)
theorem dX8_laysGame_129 : decode cX8_laysGame 129 = .ok (.bipush 12, 2) := dk_16 12 (dk_at dksX8_laysGame_5 10 rfl rfl)
theorem dX8_laysGame_131 : decode cX8_laysGame 131 = .ok (.iload 4, 2) := dk_21 4 (dk_at dksX8_laysGame_5 12 rfl rfl)
theorem dX8_laysGame_133 : decode cX8_laysGame 133 = .ok (.imul, 1) := dk_104 (dk_at dksX8_laysGame_5 14 rfl rfl)
theorem dX8_laysGame_134 : decode cX8_laysGame 134 = .ok (.iload 5, 2) := dk_21 5 (dk_at dksX8_laysGame_5 15 rfl rfl)
theorem dX8_laysGame_136 : decode cX8_laysGame 136 = .ok (.iadd, 1) := dk_96 (dk_at dksX8_laysGame_5 17 rfl rfl)
theorem dX8_laysGame_137 : decode cX8_laysGame 137 = .ok (.aload_n 0, 1) := dk_42 (dk_at dksX8_laysGame_5 18 rfl rfl)
theorem dX8_laysGame_138 : decode cX8_laysGame 138 = .ok (.iconst 1, 1) := dk_4 (dk_at dksX8_laysGame_5 19 rfl rfl)
theorem dX8_laysGame_139 : decode cX8_laysGame 139 = .ok (.invokevirtual 462, 3) := dk_182 1 206 (dk_at dksX8_laysGame_5 20 rfl rfl)
theorem dX8_laysGame_142 : decode cX8_laysGame 142 = .ok (.lastore, 1) := dk_80 (dk_at dksX8_laysGame_5 23 rfl rfl)
theorem dX8_laysGame_143 : decode cX8_laysGame 143 = .ok (.iinc 5 1, 3) := dk_132 5 1 (dk_at dksX8_laysGame_6 0 rfl rfl)
theorem dX8_laysGame_146 : decode cX8_laysGame 146 = .ok (.goto (-133), 3) := dk_167 255 123 (dk_at dksX8_laysGame_6 3 rfl rfl)
theorem dX8_laysGame_149 : decode cX8_laysGame 149 = .ok (.iinc 4 1, 3) := dk_132 4 1 (dk_at dksX8_laysGame_6 6 rfl rfl)
theorem dX8_laysGame_152 : decode cX8_laysGame 152 = .ok (.goto (-149), 3) := dk_167 255 107 (dk_at dksX8_laysGame_6 9 rfl rfl)
theorem dX8_laysGame_155 : decode cX8_laysGame 155 = .ok (.return_, 1) := dk_177 (dk_at dksX8_laysGame_6 12 rfl rfl)
abbrev cX8_isRest : ByteArray := prog_20_method_74_code
def yX8_isRest : MethodName := ⟨RX8, "isRest", "(IIIII)Z"⟩
def dkwX8_isRest_4 : List UInt8 := [158, 0, 5, 3, 172, 132, 6, 1, 167, 255, 158, 4, 172]
abbrev dktX8_isRest_4 : List UInt8 := dkwX8_isRest_4 ++ []
def dkwX8_isRest_3 : List UInt8 := [16, 12, 21, 4, 104, 21, 6, 96, 47, 42, 180, 0, 41, 16, 12, 21, 4, 104, 21, 5, 96, 47, 148]
abbrev dktX8_isRest_3 : List UInt8 := dkwX8_isRest_3 ++ dktX8_isRest_4
def dkwX8_isRest_2 : List UInt8 := [47, 148, 158, 0, 5, 3, 172, 42, 29, 27, 4, 21, 6, 182, 1, 214, 153, 0, 35, 42, 180, 0, 41]
abbrev dktX8_isRest_2 : List UInt8 := dkwX8_isRest_2 ++ dktX8_isRest_3
def dkwX8_isRest_1 : List UInt8 := [180, 0, 37, 16, 12, 21, 6, 104, 21, 5, 96, 47, 42, 180, 0, 37, 16, 12, 21, 4, 104, 21, 5, 96]
abbrev dktX8_isRest_1 : List UInt8 := dkwX8_isRest_1 ++ dktX8_isRest_2
def dkwX8_isRest_0 : List UInt8 := [3, 54, 6, 21, 6, 16, 12, 162, 0, 97, 42, 28, 27, 3, 21, 6, 182, 1, 214, 153, 0, 35, 42]
abbrev dktX8_isRest_0 : List UInt8 := dkwX8_isRest_0 ++ dktX8_isRest_1
theorem dksX8_isRest_0 : cX8_isRest.data.toList.drop 0 = dktX8_isRest_0 := by decide +kernel
theorem dksX8_isRest_1 : cX8_isRest.data.toList.drop 23 = dktX8_isRest_1 := dk_seg dksX8_isRest_0 23 rfl rfl
theorem dksX8_isRest_2 : cX8_isRest.data.toList.drop 47 = dktX8_isRest_2 := dk_seg dksX8_isRest_1 24 rfl rfl
theorem dksX8_isRest_3 : cX8_isRest.data.toList.drop 70 = dktX8_isRest_3 := dk_seg dksX8_isRest_2 23 rfl rfl
theorem dksX8_isRest_4 : cX8_isRest.data.toList.drop 93 = dktX8_isRest_4 := dk_seg dksX8_isRest_3 23 rfl rfl
theorem dX8_isRest_0 : decode cX8_isRest 0 = .ok (.iconst 0, 1) := dk_3 (dk_at dksX8_isRest_0 0 rfl rfl)
theorem dX8_isRest_1 : decode cX8_isRest 1 = .ok (.istore 6, 2) := dk_54 6 (dk_at dksX8_isRest_0 1 rfl rfl)
theorem dX8_isRest_3 : decode cX8_isRest 3 = .ok (.iload 6, 2) := dk_21 6 (dk_at dksX8_isRest_0 3 rfl rfl)
theorem dX8_isRest_5 : decode cX8_isRest 5 = .ok (.bipush 12, 2) := dk_16 12 (dk_at dksX8_isRest_0 5 rfl rfl)
theorem dX8_isRest_7 : decode cX8_isRest 7 = .ok (.if_icmp .ge 97, 3) := dk_162 0 97 (dk_at dksX8_isRest_0 7 rfl rfl)
theorem dX8_isRest_10 : decode cX8_isRest 10 = .ok (.aload_n 0, 1) := dk_42 (dk_at dksX8_isRest_0 10 rfl rfl)
theorem dX8_isRest_11 : decode cX8_isRest 11 = .ok (.iload_n 2, 1) := dk_28 (dk_at dksX8_isRest_0 11 rfl rfl)
theorem dX8_isRest_12 : decode cX8_isRest 12 = .ok (.iload_n 1, 1) := dk_27 (dk_at dksX8_isRest_0 12 rfl rfl)
theorem dX8_isRest_13 : decode cX8_isRest 13 = .ok (.iconst 0, 1) := dk_3 (dk_at dksX8_isRest_0 13 rfl rfl)
theorem dX8_isRest_14 : decode cX8_isRest 14 = .ok (.iload 6, 2) := dk_21 6 (dk_at dksX8_isRest_0 14 rfl rfl)
theorem dX8_isRest_16 : decode cX8_isRest 16 = .ok (.invokevirtual 470, 3) := dk_182 1 214 (dk_at dksX8_isRest_0 16 rfl rfl)
theorem dX8_isRest_19 : decode cX8_isRest 19 = .ok (.ifCond .eq 35, 3) := dk_153 0 35 (dk_at dksX8_isRest_0 19 rfl rfl)
theorem dX8_isRest_22 : decode cX8_isRest 22 = .ok (.aload_n 0, 1) := dk_42 (dk_at dksX8_isRest_0 22 rfl rfl)
theorem dX8_isRest_23 : decode cX8_isRest 23 = .ok (.getfield 37, 3) := dk_180 0 37 (dk_at dksX8_isRest_1 0 rfl rfl)
theorem dX8_isRest_26 : decode cX8_isRest 26 = .ok (.bipush 12, 2) := dk_16 12 (dk_at dksX8_isRest_1 3 rfl rfl)
theorem dX8_isRest_28 : decode cX8_isRest 28 = .ok (.iload 6, 2) := dk_21 6 (dk_at dksX8_isRest_1 5 rfl rfl)
theorem dX8_isRest_30 : decode cX8_isRest 30 = .ok (.imul, 1) := dk_104 (dk_at dksX8_isRest_1 7 rfl rfl)
theorem dX8_isRest_31 : decode cX8_isRest 31 = .ok (.iload 5, 2) := dk_21 5 (dk_at dksX8_isRest_1 8 rfl rfl)
theorem dX8_isRest_33 : decode cX8_isRest 33 = .ok (.iadd, 1) := dk_96 (dk_at dksX8_isRest_1 10 rfl rfl)
theorem dX8_isRest_34 : decode cX8_isRest 34 = .ok (.laload, 1) := dk_47 (dk_at dksX8_isRest_1 11 rfl rfl)
theorem dX8_isRest_35 : decode cX8_isRest 35 = .ok (.aload_n 0, 1) := dk_42 (dk_at dksX8_isRest_1 12 rfl rfl)
theorem dX8_isRest_36 : decode cX8_isRest 36 = .ok (.getfield 37, 3) := dk_180 0 37 (dk_at dksX8_isRest_1 13 rfl rfl)
theorem dX8_isRest_39 : decode cX8_isRest 39 = .ok (.bipush 12, 2) := dk_16 12 (dk_at dksX8_isRest_1 16 rfl rfl)
theorem dX8_isRest_41 : decode cX8_isRest 41 = .ok (.iload 4, 2) := dk_21 4 (dk_at dksX8_isRest_1 18 rfl rfl)
theorem dX8_isRest_43 : decode cX8_isRest 43 = .ok (.imul, 1) := dk_104 (dk_at dksX8_isRest_1 20 rfl rfl)
theorem dX8_isRest_44 : decode cX8_isRest 44 = .ok (.iload 5, 2) := dk_21 5 (dk_at dksX8_isRest_1 21 rfl rfl)
theorem dX8_isRest_46 : decode cX8_isRest 46 = .ok (.iadd, 1) := dk_96 (dk_at dksX8_isRest_1 23 rfl rfl)
theorem dX8_isRest_47 : decode cX8_isRest 47 = .ok (.laload, 1) := dk_47 (dk_at dksX8_isRest_2 0 rfl rfl)
theorem dX8_isRest_48 : decode cX8_isRest 48 = .ok (.lcmp, 1) := dk_148 (dk_at dksX8_isRest_2 1 rfl rfl)
theorem dX8_isRest_49 : decode cX8_isRest 49 = .ok (.ifCond .le 5, 3) := dk_158 0 5 (dk_at dksX8_isRest_2 2 rfl rfl)
theorem dX8_isRest_52 : decode cX8_isRest 52 = .ok (.iconst 0, 1) := dk_3 (dk_at dksX8_isRest_2 5 rfl rfl)
theorem dX8_isRest_53 : decode cX8_isRest 53 = .ok (.ireturn, 1) := dk_172 (dk_at dksX8_isRest_2 6 rfl rfl)
theorem dX8_isRest_54 : decode cX8_isRest 54 = .ok (.aload_n 0, 1) := dk_42 (dk_at dksX8_isRest_2 7 rfl rfl)
theorem dX8_isRest_55 : decode cX8_isRest 55 = .ok (.iload_n 3, 1) := dk_29 (dk_at dksX8_isRest_2 8 rfl rfl)
theorem dX8_isRest_56 : decode cX8_isRest 56 = .ok (.iload_n 1, 1) := dk_27 (dk_at dksX8_isRest_2 9 rfl rfl)
theorem dX8_isRest_57 : decode cX8_isRest 57 = .ok (.iconst 1, 1) := dk_4 (dk_at dksX8_isRest_2 10 rfl rfl)
theorem dX8_isRest_58 : decode cX8_isRest 58 = .ok (.iload 6, 2) := dk_21 6 (dk_at dksX8_isRest_2 11 rfl rfl)
theorem dX8_isRest_60 : decode cX8_isRest 60 = .ok (.invokevirtual 470, 3) := dk_182 1 214 (dk_at dksX8_isRest_2 13 rfl rfl)
theorem dX8_isRest_63 : decode cX8_isRest 63 = .ok (.ifCond .eq 35, 3) := dk_153 0 35 (dk_at dksX8_isRest_2 16 rfl rfl)
theorem dX8_isRest_66 : decode cX8_isRest 66 = .ok (.aload_n 0, 1) := dk_42 (dk_at dksX8_isRest_2 19 rfl rfl)
theorem dX8_isRest_67 : decode cX8_isRest 67 = .ok (.getfield 41, 3) := dk_180 0 41 (dk_at dksX8_isRest_2 20 rfl rfl)
theorem dX8_isRest_70 : decode cX8_isRest 70 = .ok (.bipush 12, 2) := dk_16 12 (dk_at dksX8_isRest_3 0 rfl rfl)
theorem dX8_isRest_72 : decode cX8_isRest 72 = .ok (.iload 4, 2) := dk_21 4 (dk_at dksX8_isRest_3 2 rfl rfl)
theorem dX8_isRest_74 : decode cX8_isRest 74 = .ok (.imul, 1) := dk_104 (dk_at dksX8_isRest_3 4 rfl rfl)
theorem dX8_isRest_75 : decode cX8_isRest 75 = .ok (.iload 6, 2) := dk_21 6 (dk_at dksX8_isRest_3 5 rfl rfl)
theorem dX8_isRest_77 : decode cX8_isRest 77 = .ok (.iadd, 1) := dk_96 (dk_at dksX8_isRest_3 7 rfl rfl)
theorem dX8_isRest_78 : decode cX8_isRest 78 = .ok (.laload, 1) := dk_47 (dk_at dksX8_isRest_3 8 rfl rfl)
theorem dX8_isRest_79 : decode cX8_isRest 79 = .ok (.aload_n 0, 1) := dk_42 (dk_at dksX8_isRest_3 9 rfl rfl)
theorem dX8_isRest_80 : decode cX8_isRest 80 = .ok (.getfield 41, 3) := dk_180 0 41 (dk_at dksX8_isRest_3 10 rfl rfl)
theorem dX8_isRest_83 : decode cX8_isRest 83 = .ok (.bipush 12, 2) := dk_16 12 (dk_at dksX8_isRest_3 13 rfl rfl)
theorem dX8_isRest_85 : decode cX8_isRest 85 = .ok (.iload 4, 2) := dk_21 4 (dk_at dksX8_isRest_3 15 rfl rfl)
theorem dX8_isRest_87 : decode cX8_isRest 87 = .ok (.imul, 1) := dk_104 (dk_at dksX8_isRest_3 17 rfl rfl)
theorem dX8_isRest_88 : decode cX8_isRest 88 = .ok (.iload 5, 2) := dk_21 5 (dk_at dksX8_isRest_3 18 rfl rfl)
theorem dX8_isRest_90 : decode cX8_isRest 90 = .ok (.iadd, 1) := dk_96 (dk_at dksX8_isRest_3 20 rfl rfl)
theorem dX8_isRest_91 : decode cX8_isRest 91 = .ok (.laload, 1) := dk_47 (dk_at dksX8_isRest_3 21 rfl rfl)
theorem dX8_isRest_92 : decode cX8_isRest 92 = .ok (.lcmp, 1) := dk_148 (dk_at dksX8_isRest_3 22 rfl rfl)
theorem dX8_isRest_93 : decode cX8_isRest 93 = .ok (.ifCond .le 5, 3) := dk_158 0 5 (dk_at dksX8_isRest_4 0 rfl rfl)
theorem dX8_isRest_96 : decode cX8_isRest 96 = .ok (.iconst 0, 1) := dk_3 (dk_at dksX8_isRest_4 3 rfl rfl)
theorem dX8_isRest_97 : decode cX8_isRest 97 = .ok (.ireturn, 1) := dk_172 (dk_at dksX8_isRest_4 4 rfl rfl)
theorem dX8_isRest_98 : decode cX8_isRest 98 = .ok (.iinc 6 1, 3) := dk_132 6 1 (dk_at dksX8_isRest_4 5 rfl rfl)
theorem dX8_isRest_101 : decode cX8_isRest 101 = .ok (.goto (-98), 3) := dk_167 255 158 (dk_at dksX8_isRest_4 8 rfl rfl)
theorem dX8_isRest_104 : decode cX8_isRest 104 = .ok (.iconst 1, 1) := dk_4 (dk_at dksX8_isRest_4 11 rfl rfl)
theorem dX8_isRest_105 : decode cX8_isRest 105 = .ok (.ireturn, 1) := dk_172 (dk_at dksX8_isRest_4 12 rfl rfl)
abbrev cX8_rest : ByteArray := prog_20_method_79_code
def yX8_rest : MethodName := ⟨RX8, "rest", "(III)I"⟩
def dkwX8_rest_1 : List UInt8 := [27, 28, 29, 3, 182, 1, 229, 182, 0, 63, 167, 0, 8, 42, 4, 182, 0, 59, 172]
abbrev dktX8_rest_1 : List UInt8 := dkwX8_rest_1 ++ []
def dkwX8_rest_0 : List UInt8 := [42, 3, 181, 0, 53, 42, 27, 182, 1, 188, 153, 0, 27, 42, 28, 29, 182, 1, 199, 153, 0, 18, 42, 42]
abbrev dktX8_rest_0 : List UInt8 := dkwX8_rest_0 ++ dktX8_rest_1
theorem dksX8_rest_0 : cX8_rest.data.toList.drop 0 = dktX8_rest_0 := by decide +kernel
theorem dksX8_rest_1 : cX8_rest.data.toList.drop 24 = dktX8_rest_1 := dk_seg dksX8_rest_0 24 rfl rfl
theorem dX8_rest_0 : decode cX8_rest 0 = .ok (.aload_n 0, 1) := dk_42 (dk_at dksX8_rest_0 0 rfl rfl)
theorem dX8_rest_1 : decode cX8_rest 1 = .ok (.iconst 0, 1) := dk_3 (dk_at dksX8_rest_0 1 rfl rfl)
theorem dX8_rest_2 : decode cX8_rest 2 = .ok (.putfield 53, 3) := dk_181 0 53 (dk_at dksX8_rest_0 2 rfl rfl)
theorem dX8_rest_5 : decode cX8_rest 5 = .ok (.aload_n 0, 1) := dk_42 (dk_at dksX8_rest_0 5 rfl rfl)
theorem dX8_rest_6 : decode cX8_rest 6 = .ok (.iload_n 1, 1) := dk_27 (dk_at dksX8_rest_0 6 rfl rfl)
theorem dX8_rest_7 : decode cX8_rest 7 = .ok (.invokevirtual 444, 3) := dk_182 1 188 (dk_at dksX8_rest_0 7 rfl rfl)
theorem dX8_rest_10 : decode cX8_rest 10 = .ok (.ifCond .eq 27, 3) := dk_153 0 27 (dk_at dksX8_rest_0 10 rfl rfl)
theorem dX8_rest_13 : decode cX8_rest 13 = .ok (.aload_n 0, 1) := dk_42 (dk_at dksX8_rest_0 13 rfl rfl)
theorem dX8_rest_14 : decode cX8_rest 14 = .ok (.iload_n 2, 1) := dk_28 (dk_at dksX8_rest_0 14 rfl rfl)
theorem dX8_rest_15 : decode cX8_rest 15 = .ok (.iload_n 3, 1) := dk_29 (dk_at dksX8_rest_0 15 rfl rfl)
theorem dX8_rest_16 : decode cX8_rest 16 = .ok (.invokevirtual 455, 3) := dk_182 1 199 (dk_at dksX8_rest_0 16 rfl rfl)
theorem dX8_rest_19 : decode cX8_rest 19 = .ok (.ifCond .eq 18, 3) := dk_153 0 18 (dk_at dksX8_rest_0 19 rfl rfl)
theorem dX8_rest_22 : decode cX8_rest 22 = .ok (.aload_n 0, 1) := dk_42 (dk_at dksX8_rest_0 22 rfl rfl)
theorem dX8_rest_23 : decode cX8_rest 23 = .ok (.aload_n 0, 1) := dk_42 (dk_at dksX8_rest_0 23 rfl rfl)
theorem dX8_rest_24 : decode cX8_rest 24 = .ok (.iload_n 1, 1) := dk_27 (dk_at dksX8_rest_1 0 rfl rfl)
theorem dX8_rest_25 : decode cX8_rest 25 = .ok (.iload_n 2, 1) := dk_28 (dk_at dksX8_rest_1 1 rfl rfl)
theorem dX8_rest_26 : decode cX8_rest 26 = .ok (.iload_n 3, 1) := dk_29 (dk_at dksX8_rest_1 2 rfl rfl)
theorem dX8_rest_27 : decode cX8_rest 27 = .ok (.iconst 0, 1) := dk_3 (dk_at dksX8_rest_1 3 rfl rfl)
theorem dX8_rest_28 : decode cX8_rest 28 = .ok (.invokevirtual 485, 3) := dk_182 1 229 (dk_at dksX8_rest_1 4 rfl rfl)
theorem dX8_rest_31 : decode cX8_rest 31 = .ok (.invokevirtual 63, 3) := dk_182 0 63 (dk_at dksX8_rest_1 7 rfl rfl)
theorem dX8_rest_34 : decode cX8_rest 34 = .ok (.goto 8, 3) := dk_167 0 8 (dk_at dksX8_rest_1 10 rfl rfl)
theorem dX8_rest_37 : decode cX8_rest 37 = .ok (.aload_n 0, 1) := dk_42 (dk_at dksX8_rest_1 13 rfl rfl)
theorem dX8_rest_38 : decode cX8_rest 38 = .ok (.iconst 1, 1) := dk_4 (dk_at dksX8_rest_1 14 rfl rfl)
theorem dX8_rest_39 : decode cX8_rest 39 = .ok (.invokevirtual 59, 3) := dk_182 0 59 (dk_at dksX8_rest_1 15 rfl rfl)
theorem dX8_rest_42 : decode cX8_rest 42 = .ok (.ireturn, 1) := dk_172 (dk_at dksX8_rest_1 18 rfl rfl)
abbrev cX8_sure : ByteArray := prog_20_method_80_code
def yX8_sure : MethodName := ⟨RX8, "sure", "(IIIZ)J"⟩
def dkwX8_sure_8 : List UInt8 := [21, 4, 182, 1, 210, 173]
abbrev dktX8_sure_8 : List UInt8 := dkwX8_sure_8 ++ []
def dkwX8_sure_7 : List UInt8 := [20, 1, 180, 42, 180, 1, 117, 27, 3, 182, 1, 150, 42, 180, 1, 117, 27, 4, 182, 1, 150, 96, 133, 105]
abbrev dktX8_sure_7 : List UInt8 := dkwX8_sure_7 ++ dktX8_sure_8
def dkwX8_sure_6 : List UInt8 := [148, 158, 0, 8, 22, 8, 167, 0, 5, 22, 5, 55, 5, 132, 7, 1, 167, 255, 140, 42, 22, 5]
abbrev dktX8_sure_6 : List UInt8 := dkwX8_sure_6 ++ dktX8_sure_7
def dkwX8_sure_5 : List UInt8 := [180, 0, 37, 16, 12, 21, 7, 104, 21, 10, 96, 47, 55, 8, 132, 10, 1, 167, 255, 193, 22, 8, 22, 5]
abbrev dktX8_sure_5 : List UInt8 := dkwX8_sure_5 ++ dktX8_sure_6
def dkwX8_sure_4 : List UInt8 := [148, 155, 0, 22, 42, 180, 0, 37, 16, 12, 21, 7, 104, 21, 10, 96, 47, 22, 8, 148, 156, 0, 18, 42]
abbrev dktX8_sure_4 : List UInt8 := dkwX8_sure_4 ++ dktX8_sure_5
def dkwX8_sure_3 : List UInt8 := [54, 10, 21, 10, 16, 12, 162, 0, 62, 42, 29, 27, 4, 21, 10, 182, 1, 214, 153, 0, 44, 22, 8, 9]
abbrev dktX8_sure_3 : List UInt8 := dkwX8_sure_3 ++ dktX8_sure_4
def dkwX8_sure_2 : List UInt8 := [162, 0, 115, 42, 28, 27, 3, 21, 7, 182, 1, 214, 154, 0, 6, 167, 0, 94, 20, 1, 169, 55, 8, 3]
abbrev dktX8_sure_2 : List UInt8 := dkwX8_sure_2 ++ dktX8_sure_3
def dkwX8_sure_1 : List UInt8 := [182, 0, 59, 133, 173, 42, 27, 28, 29, 182, 1, 221, 20, 1, 169, 55, 5, 3, 54, 7, 21, 7, 16, 12]
abbrev dktX8_sure_1 : List UInt8 := dkwX8_sure_1 ++ dktX8_sure_2
def dkwX8_sure_0 : List UInt8 := [42, 3, 181, 0, 53, 42, 27, 182, 1, 188, 153, 0, 12, 42, 28, 29, 182, 1, 199, 154, 0, 10, 42, 4]
abbrev dktX8_sure_0 : List UInt8 := dkwX8_sure_0 ++ dktX8_sure_1
theorem dksX8_sure_0 : cX8_sure.data.toList.drop 0 = dktX8_sure_0 := by decide +kernel
theorem dksX8_sure_1 : cX8_sure.data.toList.drop 24 = dktX8_sure_1 := dk_seg dksX8_sure_0 24 rfl rfl
theorem dksX8_sure_2 : cX8_sure.data.toList.drop 48 = dktX8_sure_2 := dk_seg dksX8_sure_1 24 rfl rfl
theorem dksX8_sure_3 : cX8_sure.data.toList.drop 72 = dktX8_sure_3 := dk_seg dksX8_sure_2 24 rfl rfl
theorem dksX8_sure_4 : cX8_sure.data.toList.drop 96 = dktX8_sure_4 := dk_seg dksX8_sure_3 24 rfl rfl
theorem dksX8_sure_5 : cX8_sure.data.toList.drop 120 = dktX8_sure_5 := dk_seg dksX8_sure_4 24 rfl rfl
theorem dksX8_sure_6 : cX8_sure.data.toList.drop 144 = dktX8_sure_6 := dk_seg dksX8_sure_5 24 rfl rfl
theorem dksX8_sure_7 : cX8_sure.data.toList.drop 166 = dktX8_sure_7 := dk_seg dksX8_sure_6 22 rfl rfl
theorem dksX8_sure_8 : cX8_sure.data.toList.drop 190 = dktX8_sure_8 := dk_seg dksX8_sure_7 24 rfl rfl
theorem dX8_sure_0 : decode cX8_sure 0 = .ok (.aload_n 0, 1) := dk_42 (dk_at dksX8_sure_0 0 rfl rfl)
theorem dX8_sure_1 : decode cX8_sure 1 = .ok (.iconst 0, 1) := dk_3 (dk_at dksX8_sure_0 1 rfl rfl)
theorem dX8_sure_2 : decode cX8_sure 2 = .ok (.putfield 53, 3) := dk_181 0 53 (dk_at dksX8_sure_0 2 rfl rfl)
theorem dX8_sure_5 : decode cX8_sure 5 = .ok (.aload_n 0, 1) := dk_42 (dk_at dksX8_sure_0 5 rfl rfl)
theorem dX8_sure_6 : decode cX8_sure 6 = .ok (.iload_n 1, 1) := dk_27 (dk_at dksX8_sure_0 6 rfl rfl)
theorem dX8_sure_7 : decode cX8_sure 7 = .ok (.invokevirtual 444, 3) := dk_182 1 188 (dk_at dksX8_sure_0 7 rfl rfl)
theorem dX8_sure_10 : decode cX8_sure 10 = .ok (.ifCond .eq 12, 3) := dk_153 0 12 (dk_at dksX8_sure_0 10 rfl rfl)
theorem dX8_sure_13 : decode cX8_sure 13 = .ok (.aload_n 0, 1) := dk_42 (dk_at dksX8_sure_0 13 rfl rfl)
theorem dX8_sure_14 : decode cX8_sure 14 = .ok (.iload_n 2, 1) := dk_28 (dk_at dksX8_sure_0 14 rfl rfl)
theorem dX8_sure_15 : decode cX8_sure 15 = .ok (.iload_n 3, 1) := dk_29 (dk_at dksX8_sure_0 15 rfl rfl)
theorem dX8_sure_16 : decode cX8_sure 16 = .ok (.invokevirtual 455, 3) := dk_182 1 199 (dk_at dksX8_sure_0 16 rfl rfl)
theorem dX8_sure_19 : decode cX8_sure 19 = .ok (.ifCond .ne 10, 3) := dk_154 0 10 (dk_at dksX8_sure_0 19 rfl rfl)
theorem dX8_sure_22 : decode cX8_sure 22 = .ok (.aload_n 0, 1) := dk_42 (dk_at dksX8_sure_0 22 rfl rfl)
theorem dX8_sure_23 : decode cX8_sure 23 = .ok (.iconst 1, 1) := dk_4 (dk_at dksX8_sure_0 23 rfl rfl)
theorem dX8_sure_24 : decode cX8_sure 24 = .ok (.invokevirtual 59, 3) := dk_182 0 59 (dk_at dksX8_sure_1 0 rfl rfl)
theorem dX8_sure_27 : decode cX8_sure 27 = .ok (.i2l, 1) := dk_133 (dk_at dksX8_sure_1 3 rfl rfl)
theorem dX8_sure_28 : decode cX8_sure 28 = .ok (.lreturn, 1) := dk_173 (dk_at dksX8_sure_1 4 rfl rfl)
theorem dX8_sure_29 : decode cX8_sure 29 = .ok (.aload_n 0, 1) := dk_42 (dk_at dksX8_sure_1 5 rfl rfl)
theorem dX8_sure_30 : decode cX8_sure 30 = .ok (.iload_n 1, 1) := dk_27 (dk_at dksX8_sure_1 6 rfl rfl)
theorem dX8_sure_31 : decode cX8_sure 31 = .ok (.iload_n 2, 1) := dk_28 (dk_at dksX8_sure_1 7 rfl rfl)
theorem dX8_sure_32 : decode cX8_sure 32 = .ok (.iload_n 3, 1) := dk_29 (dk_at dksX8_sure_1 8 rfl rfl)
theorem dX8_sure_33 : decode cX8_sure 33 = .ok (.invokevirtual 477, 3) := dk_182 1 221 (dk_at dksX8_sure_1 9 rfl rfl)
theorem dX8_sure_36 : decode cX8_sure 36 = .ok (.ldc2_w 425, 3) := dk_20 1 169 (dk_at dksX8_sure_1 12 rfl rfl)
theorem dX8_sure_39 : decode cX8_sure 39 = .ok (.lstore 5, 2) := dk_55 5 (dk_at dksX8_sure_1 15 rfl rfl)
theorem dX8_sure_41 : decode cX8_sure 41 = .ok (.iconst 0, 1) := dk_3 (dk_at dksX8_sure_1 17 rfl rfl)
theorem dX8_sure_42 : decode cX8_sure 42 = .ok (.istore 7, 2) := dk_54 7 (dk_at dksX8_sure_1 18 rfl rfl)
theorem dX8_sure_44 : decode cX8_sure 44 = .ok (.iload 7, 2) := dk_21 7 (dk_at dksX8_sure_1 20 rfl rfl)
theorem dX8_sure_46 : decode cX8_sure 46 = .ok (.bipush 12, 2) := dk_16 12 (dk_at dksX8_sure_1 22 rfl rfl)
theorem dX8_sure_48 : decode cX8_sure 48 = .ok (.if_icmp .ge 115, 3) := dk_162 0 115 (dk_at dksX8_sure_2 0 rfl rfl)
theorem dX8_sure_51 : decode cX8_sure 51 = .ok (.aload_n 0, 1) := dk_42 (dk_at dksX8_sure_2 3 rfl rfl)
theorem dX8_sure_52 : decode cX8_sure 52 = .ok (.iload_n 2, 1) := dk_28 (dk_at dksX8_sure_2 4 rfl rfl)
theorem dX8_sure_53 : decode cX8_sure 53 = .ok (.iload_n 1, 1) := dk_27 (dk_at dksX8_sure_2 5 rfl rfl)
theorem dX8_sure_54 : decode cX8_sure 54 = .ok (.iconst 0, 1) := dk_3 (dk_at dksX8_sure_2 6 rfl rfl)
theorem dX8_sure_55 : decode cX8_sure 55 = .ok (.iload 7, 2) := dk_21 7 (dk_at dksX8_sure_2 7 rfl rfl)
theorem dX8_sure_57 : decode cX8_sure 57 = .ok (.invokevirtual 470, 3) := dk_182 1 214 (dk_at dksX8_sure_2 9 rfl rfl)
theorem dX8_sure_60 : decode cX8_sure 60 = .ok (.ifCond .ne 6, 3) := dk_154 0 6 (dk_at dksX8_sure_2 12 rfl rfl)
theorem dX8_sure_63 : decode cX8_sure 63 = .ok (.goto 94, 3) := dk_167 0 94 (dk_at dksX8_sure_2 15 rfl rfl)
theorem dX8_sure_66 : decode cX8_sure 66 = .ok (.ldc2_w 425, 3) := dk_20 1 169 (dk_at dksX8_sure_2 18 rfl rfl)
theorem dX8_sure_69 : decode cX8_sure 69 = .ok (.lstore 8, 2) := dk_55 8 (dk_at dksX8_sure_2 21 rfl rfl)
theorem dX8_sure_71 : decode cX8_sure 71 = .ok (.iconst 0, 1) := dk_3 (dk_at dksX8_sure_2 23 rfl rfl)
theorem dX8_sure_72 : decode cX8_sure 72 = .ok (.istore 10, 2) := dk_54 10 (dk_at dksX8_sure_3 0 rfl rfl)
theorem dX8_sure_74 : decode cX8_sure 74 = .ok (.iload 10, 2) := dk_21 10 (dk_at dksX8_sure_3 2 rfl rfl)
theorem dX8_sure_76 : decode cX8_sure 76 = .ok (.bipush 12, 2) := dk_16 12 (dk_at dksX8_sure_3 4 rfl rfl)
theorem dX8_sure_78 : decode cX8_sure 78 = .ok (.if_icmp .ge 62, 3) := dk_162 0 62 (dk_at dksX8_sure_3 6 rfl rfl)
theorem dX8_sure_81 : decode cX8_sure 81 = .ok (.aload_n 0, 1) := dk_42 (dk_at dksX8_sure_3 9 rfl rfl)
theorem dX8_sure_82 : decode cX8_sure 82 = .ok (.iload_n 3, 1) := dk_29 (dk_at dksX8_sure_3 10 rfl rfl)
theorem dX8_sure_83 : decode cX8_sure 83 = .ok (.iload_n 1, 1) := dk_27 (dk_at dksX8_sure_3 11 rfl rfl)
theorem dX8_sure_84 : decode cX8_sure 84 = .ok (.iconst 1, 1) := dk_4 (dk_at dksX8_sure_3 12 rfl rfl)
theorem dX8_sure_85 : decode cX8_sure 85 = .ok (.iload 10, 2) := dk_21 10 (dk_at dksX8_sure_3 13 rfl rfl)
theorem dX8_sure_87 : decode cX8_sure 87 = .ok (.invokevirtual 470, 3) := dk_182 1 214 (dk_at dksX8_sure_3 15 rfl rfl)
theorem dX8_sure_90 : decode cX8_sure 90 = .ok (.ifCond .eq 44, 3) := dk_153 0 44 (dk_at dksX8_sure_3 18 rfl rfl)
theorem dX8_sure_93 : decode cX8_sure 93 = .ok (.lload 8, 2) := dk_22 8 (dk_at dksX8_sure_3 21 rfl rfl)
theorem dX8_sure_95 : decode cX8_sure 95 = .ok (.lconst 0, 1) := dk_9 (dk_at dksX8_sure_3 23 rfl rfl)
theorem dX8_sure_96 : decode cX8_sure 96 = .ok (.lcmp, 1) := dk_148 (dk_at dksX8_sure_4 0 rfl rfl)
theorem dX8_sure_97 : decode cX8_sure 97 = .ok (.ifCond .lt 22, 3) := dk_155 0 22 (dk_at dksX8_sure_4 1 rfl rfl)
theorem dX8_sure_100 : decode cX8_sure 100 = .ok (.aload_n 0, 1) := dk_42 (dk_at dksX8_sure_4 4 rfl rfl)
theorem dX8_sure_101 : decode cX8_sure 101 = .ok (.getfield 37, 3) := dk_180 0 37 (dk_at dksX8_sure_4 5 rfl rfl)
theorem dX8_sure_104 : decode cX8_sure 104 = .ok (.bipush 12, 2) := dk_16 12 (dk_at dksX8_sure_4 8 rfl rfl)
theorem dX8_sure_106 : decode cX8_sure 106 = .ok (.iload 7, 2) := dk_21 7 (dk_at dksX8_sure_4 10 rfl rfl)
theorem dX8_sure_108 : decode cX8_sure 108 = .ok (.imul, 1) := dk_104 (dk_at dksX8_sure_4 12 rfl rfl)
theorem dX8_sure_109 : decode cX8_sure 109 = .ok (.iload 10, 2) := dk_21 10 (dk_at dksX8_sure_4 13 rfl rfl)
theorem dX8_sure_111 : decode cX8_sure 111 = .ok (.iadd, 1) := dk_96 (dk_at dksX8_sure_4 15 rfl rfl)
theorem dX8_sure_112 : decode cX8_sure 112 = .ok (.laload, 1) := dk_47 (dk_at dksX8_sure_4 16 rfl rfl)
theorem dX8_sure_113 : decode cX8_sure 113 = .ok (.lload 8, 2) := dk_22 8 (dk_at dksX8_sure_4 17 rfl rfl)
theorem dX8_sure_115 : decode cX8_sure 115 = .ok (.lcmp, 1) := dk_148 (dk_at dksX8_sure_4 19 rfl rfl)
theorem dX8_sure_116 : decode cX8_sure 116 = .ok (.ifCond .ge 18, 3) := dk_156 0 18 (dk_at dksX8_sure_4 20 rfl rfl)
theorem dX8_sure_119 : decode cX8_sure 119 = .ok (.aload_n 0, 1) := dk_42 (dk_at dksX8_sure_4 23 rfl rfl)
theorem dX8_sure_120 : decode cX8_sure 120 = .ok (.getfield 37, 3) := dk_180 0 37 (dk_at dksX8_sure_5 0 rfl rfl)
theorem dX8_sure_123 : decode cX8_sure 123 = .ok (.bipush 12, 2) := dk_16 12 (dk_at dksX8_sure_5 3 rfl rfl)
theorem dX8_sure_125 : decode cX8_sure 125 = .ok (.iload 7, 2) := dk_21 7 (dk_at dksX8_sure_5 5 rfl rfl)
theorem dX8_sure_127 : decode cX8_sure 127 = .ok (.imul, 1) := dk_104 (dk_at dksX8_sure_5 7 rfl rfl)
theorem dX8_sure_128 : decode cX8_sure 128 = .ok (.iload 10, 2) := dk_21 10 (dk_at dksX8_sure_5 8 rfl rfl)
theorem dX8_sure_130 : decode cX8_sure 130 = .ok (.iadd, 1) := dk_96 (dk_at dksX8_sure_5 10 rfl rfl)
theorem dX8_sure_131 : decode cX8_sure 131 = .ok (.laload, 1) := dk_47 (dk_at dksX8_sure_5 11 rfl rfl)
theorem dX8_sure_132 : decode cX8_sure 132 = .ok (.lstore 8, 2) := dk_55 8 (dk_at dksX8_sure_5 12 rfl rfl)
theorem dX8_sure_134 : decode cX8_sure 134 = .ok (.iinc 10 1, 3) := dk_132 10 1 (dk_at dksX8_sure_5 14 rfl rfl)
theorem dX8_sure_137 : decode cX8_sure 137 = .ok (.goto (-63), 3) := dk_167 255 193 (dk_at dksX8_sure_5 17 rfl rfl)
theorem dX8_sure_140 : decode cX8_sure 140 = .ok (.lload 8, 2) := dk_22 8 (dk_at dksX8_sure_5 20 rfl rfl)
theorem dX8_sure_142 : decode cX8_sure 142 = .ok (.lload 5, 2) := dk_22 5 (dk_at dksX8_sure_5 22 rfl rfl)
theorem dX8_sure_144 : decode cX8_sure 144 = .ok (.lcmp, 1) := dk_148 (dk_at dksX8_sure_6 0 rfl rfl)
theorem dX8_sure_145 : decode cX8_sure 145 = .ok (.ifCond .le 8, 3) := dk_158 0 8 (dk_at dksX8_sure_6 1 rfl rfl)
theorem dX8_sure_148 : decode cX8_sure 148 = .ok (.lload 8, 2) := dk_22 8 (dk_at dksX8_sure_6 4 rfl rfl)
theorem dX8_sure_150 : decode cX8_sure 150 = .ok (.goto 5, 3) := dk_167 0 5 (dk_at dksX8_sure_6 6 rfl rfl)
theorem dX8_sure_153 : decode cX8_sure 153 = .ok (.lload 5, 2) := dk_22 5 (dk_at dksX8_sure_6 9 rfl rfl)
theorem dX8_sure_155 : decode cX8_sure 155 = .ok (.lstore 5, 2) := dk_55 5 (dk_at dksX8_sure_6 11 rfl rfl)
theorem dX8_sure_157 : decode cX8_sure 157 = .ok (.iinc 7 1, 3) := dk_132 7 1 (dk_at dksX8_sure_6 13 rfl rfl)
theorem dX8_sure_160 : decode cX8_sure 160 = .ok (.goto (-116), 3) := dk_167 255 140 (dk_at dksX8_sure_6 16 rfl rfl)
theorem dX8_sure_163 : decode cX8_sure 163 = .ok (.aload_n 0, 1) := dk_42 (dk_at dksX8_sure_6 19 rfl rfl)
theorem dX8_sure_164 : decode cX8_sure 164 = .ok (.lload 5, 2) := dk_22 5 (dk_at dksX8_sure_6 20 rfl rfl)
theorem dX8_sure_166 : decode cX8_sure 166 = .ok (.ldc2_w 436, 3) := dk_20 1 180 (dk_at dksX8_sure_7 0 rfl rfl)
theorem dX8_sure_169 : decode cX8_sure 169 = .ok (.aload_n 0, 1) := dk_42 (dk_at dksX8_sure_7 3 rfl rfl)
theorem dX8_sure_170 : decode cX8_sure 170 = .ok (.getfield 373, 3) := dk_180 1 117 (dk_at dksX8_sure_7 4 rfl rfl)
theorem dX8_sure_173 : decode cX8_sure 173 = .ok (.iload_n 1, 1) := dk_27 (dk_at dksX8_sure_7 7 rfl rfl)
theorem dX8_sure_174 : decode cX8_sure 174 = .ok (.iconst 0, 1) := dk_3 (dk_at dksX8_sure_7 8 rfl rfl)
theorem dX8_sure_175 : decode cX8_sure 175 = .ok (.invokevirtual 406, 3) := dk_182 1 150 (dk_at dksX8_sure_7 9 rfl rfl)
theorem dX8_sure_178 : decode cX8_sure 178 = .ok (.aload_n 0, 1) := dk_42 (dk_at dksX8_sure_7 12 rfl rfl)
theorem dX8_sure_179 : decode cX8_sure 179 = .ok (.getfield 373, 3) := dk_180 1 117 (dk_at dksX8_sure_7 13 rfl rfl)
theorem dX8_sure_182 : decode cX8_sure 182 = .ok (.iload_n 1, 1) := dk_27 (dk_at dksX8_sure_7 16 rfl rfl)
theorem dX8_sure_183 : decode cX8_sure 183 = .ok (.iconst 1, 1) := dk_4 (dk_at dksX8_sure_7 17 rfl rfl)
theorem dX8_sure_184 : decode cX8_sure 184 = .ok (.invokevirtual 406, 3) := dk_182 1 150 (dk_at dksX8_sure_7 18 rfl rfl)
theorem dX8_sure_187 : decode cX8_sure 187 = .ok (.iadd, 1) := dk_96 (dk_at dksX8_sure_7 21 rfl rfl)
theorem dX8_sure_188 : decode cX8_sure 188 = .ok (.i2l, 1) := dk_133 (dk_at dksX8_sure_7 22 rfl rfl)
theorem dX8_sure_189 : decode cX8_sure 189 = .ok (.lmul, 1) := dk_105 (dk_at dksX8_sure_7 23 rfl rfl)
theorem dX8_sure_190 : decode cX8_sure 190 = .ok (.iload 4, 2) := dk_21 4 (dk_at dksX8_sure_8 0 rfl rfl)
theorem dX8_sure_192 : decode cX8_sure 192 = .ok (.invokevirtual 466, 3) := dk_182 1 210 (dk_at dksX8_sure_8 2 rfl rfl)
theorem dX8_sure_195 : decode cX8_sure 195 = .ok (.lreturn, 1) := dk_173 (dk_at dksX8_sure_8 5 rfl rfl)
